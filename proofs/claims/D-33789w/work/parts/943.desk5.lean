/-! the desk's acts with shelves -/
theorem EC_meet {D S : OD} (G : GZ D) (GS : GZ S) : EC (omeet D S) := by
  refine ⟨fun k hk => ?_, fun j hj => ?_, fun i hi t ht => ?_⟩
  · unfold omeet
    rw [G.1 k hk, GS.1 k hk]
    rfl
  · have h1 : ole (omeet D S (12 + j)) (D (12 + j)) := omin_le_l _ _
    obtain ⟨t, e, h0⟩ := G.2.1 j hj
    rw [e] at h1
    obtain ⟨s, e2, hs⟩ := ole_some h1
    exact ⟨s, e2, by omega⟩
  · rcases omin_some ht with e | e
    · have := G.2.2.1 i hi t e
      omega
    · have := GS.2.2.1 i hi t e
      omega
theorem omax_some {a b : Option Int} {t : Int} (h : omax a b = some t) : a = some t ∨ b = some t := by
  cases a with
  | none => cases h
  | some x =>
    cases b with
    | none => cases h
    | some y =>
      have h : some (if x < y then y else x) = some t := h
      have h := Option.some.inj h
      by_cases q : x < y
      · rw [if_pos q] at h
        exact Or.inr (congrArg some h)
      · rw [if_neg q] at h
        exact Or.inl (congrArg some h)
theorem EC_wrap {T S : OD} (h : Tt T) (hs : Tt S) : EC (owrap T S) := by
  refine ⟨fun k hk => ?_, fun j hj => ?_, fun i hi t ht => ?_⟩
  · unfold owrap
    rw [h.2.1 k hk, hs.2.1 k hk]
    rfl
  · obtain ⟨a, ea, ha⟩ := h.2.2.1 j hj
    obtain ⟨b, eb, hb⟩ := hs.2.2.1 j hj
    unfold owrap
    rw [ea, eb]
    show ∃ t, some (if a < b then b else a) = some t ∧ t ≤ 0
    refine ⟨_, rfl, ?_⟩
    split <;> omega
  · rcases omax_some ht with e | e
    · have := h.2.2.2.2 i hi t e
      omega
    · have := hs.2.2.2.2 i hi t e
      omega
theorem rep1_max {N x y : Int32} (hN : 9999 ≤ N.toInt) {a b : Option Int} (h1 : rep1 N x a) (h2 : rep1 N y b) : rep1 N (if x < y then y else x) (omax a b) := by
  cases a with
  | none =>
    have h1 : x = N := h1
    cases b with
    | none =>
      have h2 : y = N := h2
      rw [h1, h2]
      show (if N < N then N else N) = N
      split <;> rfl
    | some t =>
      rw [if_neg (fun q => by have := Int32.lt_iff_toInt_lt.mp q; have := h2.1; have := h2.2; rw [h1] at *; omega)]
      exact h1
  | some s =>
    cases b with
    | none =>
      have h2 : y = N := h2
      rw [if_pos (Int32.lt_iff_toInt_lt.mpr (by have := h1.1; have := h1.2; rw [h2]; omega))]
      exact h2
    | some t =>
      show rep1 N _ (some (if s < t then t else s))
      by_cases q : s < t
      · rw [if_pos q, if_pos (Int32.lt_iff_toInt_lt.mpr (by rw [h1.1, h2.1]; exact q))]
        exact h2
      · rw [if_neg q, if_neg (fun z => q (by have := Int32.lt_iff_toInt_lt.mp z; rw [h1.1, h2.1] at this; exact this))]
        exact h1
/-- row by row with another zone -/
def gmix (f : Int32 → Int32 → Int32) (d e : ZS) : Nat → ZS
  | 0 => d
  | j + 1 => upd (gmix f d e j) j (f (gmix f d e j j) (e j))
theorem gmix_at (f : Int32 → Int32 → Int32) (d e : ZS) : ∀ k i, gmix f d e k i = if i < k then f (d i) (e i) else d i
  | 0, i => by rw [if_neg (Nat.not_lt_zero i)]; rfl
  | k + 1, i => by
    show upd (gmix f d e k) k (f (gmix f d e k k) (e k)) i = _
    unfold upd
    by_cases q : i = k
    · subst q
      rw [if_pos rfl, if_pos (Nat.lt_succ_self i), gmix_at f d e i i, if_neg (Nat.lt_irrefl i)]
    · rw [if_neg q, gmix_at f d e k i]
      by_cases h : i < k
      · rw [if_pos h, if_pos (by omega)]
      · rw [if_neg h, if_neg (by omega)]
section AS
variable {h : HH} {t st al sh z0 b0 : Nat} {w : Int32} {d0 : ZS} {D : OD}
theorem onShelf_a (a1 : Int32) (o : OKH h) (C : DC h t st al sh z0 w) {g : Nat → Option Nat} (Hs : hF h sh = some (.inl (3, 4, .inr (.inr g)))) (m : Rm 3 24 h) : (¬ isC 3 a1 ∧ ∃ q h', F_X2_onShelf t a1 h = some (.inl q, h') ∧ Ref (α := Int32) (.inl q) h' 1 ∧ Gr (Pt h t) 3 24 h h') ∨ ∃ k, k ≤ 3 ∧ a1 = I32 k ∧ ((g k = none ∧ ∃ q h', F_X2_onShelf t a1 h = some (.inl q, h') ∧ Ref (α := Int32) (.inl q) h' 2 ∧ Gr (Pt h t) 3 24 h h') ∨ ∃ z, g k = some z ∧ F_X2_onShelf t a1 h = some (.inr (some z), h)) := by
  unfold F_X2_onShelf
  rw [isShelf_in]
  rcases need_cases (k := 1) (isSlot_fl a1) o (m.mono (by decide) (by decide)) with ⟨n, e⟩ | ⟨⟨k, hk, e1⟩, e⟩
  · rw [e, thr_l]
    exact Or.inl ⟨n, _, _, rfl, ⟨_, rfl, hF_push_eq _ _ _⟩, (gr_ref o 1).mono (by decide) (by decide)⟩
  · subst e1
    have hix := ix_of k 4 (by omega) (by decide)
    rw [e, thr_r, v_getR C.1 rfl, bind_some9, v_aldR Hs hix, bind_some9]
    refine Or.inr ⟨k, hk, rfl, ?_⟩
    cases hg : g k with
    | none =>
      rw [if_pos rfl, need_f rfl o (m.mono (by decide) (by decide)), thr_l]
      exact Or.inl ⟨rfl, _, _, rfl, ⟨_, rfl, hF_push_eq _ _ _⟩, (gr_ref o 2).mono (by decide) (by decide)⟩
    | some z =>
      rw [if_neg (fun q => by cases q), need_t (by decide), thr_r, v_getR C.1 rfl, bind_some9, v_aldR Hs hix, bind_some9, hg]
      exact Or.inr ⟨z, rfl, rfl⟩
theorem pt_mk {c s : Nat} {h' h1 : HH} (g : Gr (fun a => a < hSz h) c s h h1) {c2 s2 : Nat} (g2 : Gr (Pt h1 t) c2 s2 h1 h') : Gr (Pt h t) (c + c2) (s + s2) h h' := (g.sub (fun a q => q.1)).tr (g2.sub (fun a q => ⟨Nat.lt_of_lt_of_le q.1 g.2.2.2.1, q.2⟩))
theorem a_meets (a1 : Int32) (o : OKH h) (C : DC h t st al sh z0 w) (Z0 : ZA h z0 b0 d0) (r0 : rep 9999 d0 D) (G : GZ D) {g : Nat → Option Nat} (Hs : hF h sh = some (.inl (3, 4, .inr (.inr g)))) (S : Nat → OD) (hS : ∀ k, k < 4 → ∀ z, g k = some z → ZR h z (S k) ∧ GZ (S k)) (m : Rm 20 200 h) : ∃ res h', F_X2_meets t a1 h = some (res, h') ∧ Gr (Pt h t) 20 200 h h' ∧ (¬ isC 3 a1 → Ref res h' 1) ∧ (∀ k, k ≤ 3 → a1 = I32 k → (g k = none → Ref res h' 2) ∧ (∀ z, g k = some z → DOut h' t st al sh w res (sTake D (omeet D (S k))))) := by
  unfold F_X2_meets
  rw [v_isO C.1, bind_some9]
  rcases onShelf_a a1 o C Hs (m.mono (by decide) (by decide)) with ⟨n, q, h', e, rf, gr⟩ | ⟨k, hk, e1, ⟨hg, q, h', e, rf, gr⟩ | ⟨z, hg, e⟩⟩
  · rw [e, thr_l]
    exact ⟨_, _, rfl, gr.mono (by decide) (by decide), fun _ => rf, fun k hk e1 => absurd ⟨k, hk, e1⟩ n⟩
  · subst e1
    rw [e, thr_l]
    refine ⟨_, _, rfl, gr.mono (by decide) (by decide), fun n => absurd ⟨k, hk, rfl⟩ n, fun k' hk' e' => ?_⟩
    have := i32inj (by omega) (by omega) e'
    subst this
    exact ⟨fun _ => rf, fun z hz => by rw [hg] at hz; cases hz⟩
  · subst e1
    rw [e, thr_r]
    obtain ⟨⟨b, d, Z, r⟩, GS⟩ := hS k (by omega) z hg
    have c1 : hF (hpush h (.inr (3, [.null])) 1) t = some (.inr (2, [.ref st, .ref al, .ref sh, .ref z0, .int w])) := by rw [hF_push_ne _ _ _ (o.ne C.1)]; exact C.1
    have L : lp (fun y => F_X2_meets_B21 t (I32 k) (some z) (some (hSz h)) y.1 y.2) 100000 ((0 : Int32), mkZ h d0) = some (mkZ h (gmix gmin d0 d 16)) := by
      refine lp_for0 (fun j => (I32 j, mkZ h (gmix gmin d0 d j))) 16 (fun j hj => ?_) ?_ 100000 (by decide)
      · have Z1 := mkZ_ZA o (gmix gmin d0 d j)
        have Z2 := Z.gr (mkZ_gr (P := fun a => a < hSz h) o (gmix gmin d0 d j) (fun a q => q)) (o.lt Z.1) (o.lt Z.2.1)
        have hix := ix_of j 16 hj (by decide)
        show F_X2_meets_B21 t (I32 k) (some z) (some (hSz h)) (I32 j) (mkZ h (gmix gmin d0 d j)) = _
        unfold F_X2_meets_B21
        rw [if_neg (n16 hj), v_getR Z1.1 rfl, bind_some9, bind_some9, v_aldI Z1.2.1 hix, bind_some9, v_getR Z2.1 rfl, bind_some9, v_aldI Z2.2.1 hix, bind_some9, v_astI Z1.2.1 hix Z1.2.2.2, bind_some9, i32s j (by omega)]
        show some (Sum.inl (I32 (j + 1), pz (hSz h + 1) _ (mkZ h (gmix gmin d0 d j)))) = _
        rw [mkZ_pz]
        rfl
      · show F_X2_meets_B21 t (I32 k) (some z) (some (hSz h)) (I32 16) _ = _
        unfold F_X2_meets_B21
        rw [if_pos (by decide)]
    have rm : rep 9999 (gmix gmin d0 d 16) (omeet D (S k)) := fun i hi => by
      rw [gmix_at, if_pos hi]
      exact rep1_cmin n9 (r0 i hi) (r i hi)
    have g2 := mkZ_gr (P := fun a => a < hSz h) o (gmix gmin d0 d 16) (fun a q => q)
    rw [v_newO (m.mono (by decide) (by decide)), bind_some9, v_getR c1 rfl, bind_some9, show nnl (some (hSz h)) = some (hSz h) from rfl, bind_some9, z_init2 o Z0 (m.mono (by decide) (by decide)), bind_some9, L, bind_some9, v_isO (C.gr g2 (o.lt C.1)).1, bind_some9]
    obtain ⟨res, h', e3, g3, ho⟩ := tk_mk o C Z0 r0 rm (EC_meet G GS) (m.mono (by decide) (by decide))
    refine ⟨res, h', thr_same e3, g3.mono (by decide) (by decide), fun n => absurd ⟨k, hk, rfl⟩ n, fun k' hk' e' => ?_⟩
    have := i32inj (by omega) (by omega) e'
    subst this
    exact ⟨fun hn => (by rw [hg] at hn; cases hn), fun _ _ => ho⟩
theorem a_wraps (a1 : Int32) (o : OKH h) (C : DC h t st al sh z0 w) (Z0 : ZA h z0 b0 d0) (r0 : rep 9999 d0 D) (G : GZ D) {g : Nat → Option Nat} (Hs : hF h sh = some (.inl (3, 4, .inr (.inr g)))) (S : Nat → OD) (hS : ∀ k, k < 4 → ∀ z, g k = some z → ZR h z (S k) ∧ GZ (S k)) (m : Rm 20 200 h) : ∃ res h', F_X2_wraps t a1 h = some (res, h') ∧ Gr (Pt h t) 20 200 h h' ∧ (¬ isC 3 a1 → Ref res h' 1) ∧ (∀ k, k ≤ 3 → a1 = I32 k → (g k = none → Ref res h' 2) ∧ (∀ z, g k = some z → DOut h' t st al sh w res (if bq (nn (otl D 4) ∧ nn (otl (S k) 4)) then sTake D (owrap (otl D 4) (otl (S k) 4)) else none))) := by
  unfold F_X2_wraps
  rw [v_isO C.1, bind_some9]
  rcases onShelf_a a1 o C Hs (m.mono (by decide) (by decide)) with ⟨n, q, h', e, rf, gr⟩ | ⟨k, hk, e1, ⟨hg, q, h', e, rf, gr⟩ | ⟨z, hg, e⟩⟩
  · rw [e, thr_l]
    exact ⟨_, _, rfl, gr.mono (by decide) (by decide), fun _ => rf, fun k hk e1 => absurd ⟨k, hk, e1⟩ n⟩
  · subst e1
    rw [e, thr_l]
    refine ⟨_, _, rfl, gr.mono (by decide) (by decide), fun n => absurd ⟨k, hk, rfl⟩ n, fun k' hk' e' => ?_⟩
    have := i32inj (by omega) (by omega) e'
    subst this
    exact ⟨fun _ => rf, fun z hz => by rw [hg] at hz; cases hz⟩
  · subst e1
    rw [e, thr_r]
    obtain ⟨⟨b, d, Z, r⟩, GS⟩ := hS k (by omega) z hg
    have g1 := mkZ_gr (P := fun a => a < hSz h) o (gtl 9999 d 4) (fun a q => q)
    have Z1 := mkZ_ZA o (gtl 9999 d 4)
    have rS := GS.rep n9 r
    have fin : ∀ {res : (Nat × String) ⊕ Int32} {h' : HH} {x : Option (Int32 × OD)}, DOut h' t st al sh w res x → x = (if bq (nn (otl D 4) ∧ nn (otl (S k) 4)) then sTake D (owrap (otl D 4) (otl (S k) 4)) else none) → ∀ k', k' ≤ 3 → I32 k = I32 k' → (g k' = none → Ref res h' 2) ∧ (∀ z, g k' = some z → DOut h' t st al sh w res (if bq (nn (otl D 4) ∧ nn (otl (S k') 4)) then sTake D (owrap (otl D 4) (otl (S k') 4)) else none)) := fun {res h' x} ho ex k' hk' e' => by
      have := i32inj (by omega) (by omega) e'
      subst this
      exact ⟨fun hn => (by rw [hg] at hn; cases hn), fun _ _ => by rw [← ex]; exact ho⟩
    rw [v_isO Z.1, bind_some9, z_tight o Z (m.mono (by decide) (by decide)), b2_s]
    generalize hh : mkZ h (gtl 9999 d 4) = h1 at *
    have o1 := g1.ok
    have C1 := C.gr g1 (o.lt C.1)
    have Z01 := Z0.gr g1 (o.lt Z0.1) (o.lt Z0.2.1)
    have m1 := m.gr g1 (by decide) (by decide)
    rw [v_isO C1.1, bind_some9]
    rcases readied_a o1 C1 Z01 r0 G (m1.mono (by decide) (by decide)) with ⟨hn, e⟩ | ⟨hn, q, h', e, rf, g3⟩
    · rw [e, thr_r]
      obtain ⟨T, rT, bT⟩ := tt_row G hn r0
      have g2 := mkZ_gr (P := fun a => a < hSz h1) o1 (gtl 9999 d0 4) (fun a q => q)
      have Z12 := Z1.gr g2 (o1.lt Z1.1) (o1.lt Z1.2.1)
      obtain ⟨v, ev, hf⟩ := z_hasNone Z12 rS
      rw [v_isO Z12.1, bind_some9, ev, bind_some9]
      have f2 : fl (if v = 0 then (1 : Int32) else (0 : Int32)) (nn (otl (S k) 4)) := fl_congr fl_pos ((fl_0 hf).trans Classical.not_not)
      have m2 := m1.gr g2 (by decide) (by decide)
      rcases need_cases (k := 2) f2 g2.ok (m2.mono (by decide) (by decide)) with ⟨n, e⟩ | ⟨p, e⟩
      · rw [e, thr_l]
        refine ⟨_, _, rfl, (pt_mk g1 (pt_mk g2 (gr_ref g2.ok 2))).mono (by decide) (by decide), fun n => absurd ⟨k, hk, rfl⟩ n, ?_⟩
        exact fin (x := none) ⟨_, rfl, hF_push_eq _ _ _⟩ (by rw [bq_f.mpr (fun q => n q.2)]; rfl)
      · rw [e, thr_r]
        have TS := GS.Tt p
        have L : lp (fun y => F_X2_wraps_B33 t (I32 k) (some (hSz h)) (some (hSz h1)) y.1 y.2) 100000 ((0 : Int32), mkZ h1 (gtl 9999 d0 4)) = some (mkZ h1 (gmix F_J11_max (gtl 9999 d0 4) (gtl 9999 d 4) 16)) := by
          refine lp_for0 (fun j => (I32 j, mkZ h1 (gmix F_J11_max (gtl 9999 d0 4) (gtl 9999 d 4) j))) 16 (fun j hj => ?_) ?_ 100000 (by decide)
          · have Z3 := mkZ_ZA o1 (gmix F_J11_max (gtl 9999 d0 4) (gtl 9999 d 4) j)
            have Z4 := Z1.gr (mkZ_gr (P := fun a => a < hSz h1) o1 (gmix F_J11_max (gtl 9999 d0 4) (gtl 9999 d 4) j) (fun a q => q)) (o1.lt Z1.1) (o1.lt Z1.2.1)
            have hix := ix_of j 16 hj (by decide)
            show F_X2_wraps_B33 t (I32 k) (some (hSz h)) (some (hSz h1)) (I32 j) (mkZ h1 (gmix F_J11_max (gtl 9999 d0 4) (gtl 9999 d 4) j)) = _
            unfold F_X2_wraps_B33
            rw [if_neg (n16 hj), v_getR Z3.1 rfl, bind_some9, bind_some9, v_aldI Z3.2.1 hix, bind_some9, v_getR Z4.1 rfl, bind_some9, v_aldI Z4.2.1 hix, bind_some9, v_astI Z3.2.1 hix Z3.2.2.2, bind_some9, i32s j (by omega)]
            show some (Sum.inl (I32 (j + 1), pz (hSz h1 + 1) _ (mkZ h1 (gmix F_J11_max (gtl 9999 d0 4) (gtl 9999 d 4) j)))) = _
            rw [mkZ_pz]
            rfl
          · show F_X2_wraps_B33 t (I32 k) (some (hSz h)) (some (hSz h1)) (I32 16) _ = _
            unfold F_X2_wraps_B33
            rw [if_pos (by decide)]
        have rm : rep 9999 (gmix F_J11_max (gtl 9999 d0 4) (gtl 9999 d 4) 16) (owrap (otl D 4) (otl (S k) 4)) := fun i hi => by
          rw [gmix_at, if_pos hi]
          exact rep1_max n9 (rT i hi) (rS i hi)
        have g4 := mkZ_gr (P := fun a => a < hSz h1) o1 (gmix F_J11_max (gtl 9999 d0 4) (gtl 9999 d 4) 16) (fun a q => q)
        rw [L, bind_some9, v_isO (C1.gr g4 (o1.lt C1.1)).1, bind_some9]
        obtain ⟨res, h', e3, g5, ho⟩ := tk_mk o1 C1 Z01 r0 rm (EC_wrap T TS) (m1.mono (by decide) (by decide))
        refine ⟨res, h', thr_same e3, (pt_mk g1 g5).mono (by decide) (by decide), fun n => absurd ⟨k, hk, rfl⟩ n, ?_⟩
        exact fin ho (by rw [if_pos (bq_t.mpr ⟨hn, p⟩)])
    · rw [e, thr_l]
      refine ⟨_, _, rfl, (pt_mk g1 g3).mono (by decide) (by decide), fun n => absurd ⟨k, hk, rfl⟩ n, ?_⟩
      exact fin (x := none) rf (by rw [bq_f.mpr (fun q => hn q.1)]; rfl)
end AS
