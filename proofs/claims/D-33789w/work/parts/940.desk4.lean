/-! the desk's acts: copies, shifts, forgetsAll, with shelves: meets, wraps, puts -/
theorem GZ.of_take {D E : OD} (h : takeOK E) (hd : dg0 E) (hz : ∀ j, j < 3 → ∃ t, E (12 + j) = some t ∧ t ≤ 0) (hb : ∀ i, i < 16 → ∀ t, E i = some t → -30 ≤ t) : GZ E := ⟨hd, hz, fun i hi t ht => ⟨hb i hi t ht, h.2 i hi t ht⟩, h.1⟩
section AD
variable {h : HH} {t st al sh z0 b0 : Nat} {w : Int32} {d0 : ZS} {D : OD}
def cpyArg (a1 a2 : Int32) : Int32 := if F_X4_isClock a1 = 0 then (0 : Int32) else if F_X4_isClock a2 = 0 then (0 : Int32) else if a1 = a2 then (0 : Int32) else (1 : Int32)
theorem cpyArg_c (a1 a2 : Int32) : (if (F_X1_isClock a1) = 0 then (0 : Int32) else (if (F_X1_isClock a2) = 0 then (0 : Int32) else (if a1 = a2 then (0 : Int32) else (1 : Int32)))) = cpyArg a1 a2 := by
  unfold cpyArg
  rw [isClock_in, isClock_in]
def cpyP (a1 a2 : Int32) (c f : Nat) : Prop := c < 3 ∧ f < 3 ∧ c ≠ f ∧ a1 = I32 c ∧ a2 = I32 f
theorem cpyArg_fl (a1 a2 : Int32) : fl (cpyArg a1 a2) (∃ c f, cpyP a1 a2 c f) := fl_congr (fl_if0 (isClock_fl a1) (fun _ => fl_if0 (isClock_fl a2) (fun _ => fl_neg (c := a1 = a2)))) ⟨fun ⟨⟨c, hc, e1⟩, ⟨f, hf, e2⟩, n⟩ => ⟨c, f, by omega, by omega, fun e => n (by rw [e1, e2, e]), e1, e2⟩, fun ⟨c, f, hc, hf, n, e1, e2⟩ => ⟨⟨c, by omega, e1⟩, ⟨f, by omega, e2⟩, fun e => n (i32inj (by omega) (by omega) (by rw [← e1, ← e2]; exact e))⟩⟩
theorem a_copies (a1 a2 : Int32) (o : OKH h) (C : DC h t st al sh z0 w) (Z0 : ZA h z0 b0 d0) (r0 : rep 9999 d0 D) (G : GZ D) (m : Rm 20 200 h) : ∃ res h', F_X2_copies t a1 a2 h = some (res, h') ∧ Gr (Pt h t) 20 200 h h' ∧ ((¬ ∃ c f, cpyP a1 a2 c f) → Ref res h' 1) ∧ (∀ c f, cpyP a1 a2 c f → DOut h' t st al sh (w + 1) res (sWork D (ocopy (otl D 4) c f) (fun _ => -(oval (otl D 4 (12 + f)))))) := by
  unfold F_X2_copies
  rw [cpyArg_c]
  rcases need_cases (k := 1) (cpyArg_fl a1 a2) o (m.mono (by decide) (by decide)) with ⟨n, e⟩ | ⟨p, e⟩
  · rw [e, thr_l]
    exact ⟨_, _, rfl, (gr_ref o 1).mono (by decide) (by decide), fun _ => ⟨_, rfl, hF_push_eq _ _ _⟩, fun c f q => absurd ⟨c, f, q⟩ n⟩
  · rw [e, thr_r, v_isO C.1, bind_some9]
    obtain ⟨c, f, hc, hf, n, e1, e2⟩ := id p
    subst e1
    subst e2
    have key : ∀ c' f', cpyP (I32 c) (I32 f) c' f' → c' = c ∧ f' = f := fun c' f' ⟨_, _, _, e1', e2'⟩ => ⟨(i32inj (by omega) (by omega) e1').symm, (i32inj (by omega) (by omega) e2').symm⟩
    rcases readied_a o C Z0 r0 G (m.mono (by decide) (by decide)) with ⟨hn, e⟩ | ⟨hn, q, h', e, rf, g⟩
    · rw [e, thr_r]
      obtain ⟨T, rT, bT⟩ := tt_row G hn r0
      have Z1 := mkZ_ZA o (gtl 9999 d0 4)
      obtain ⟨d', e2, r2⟩ := z_copies hc hf n Z1 rT T.2.1
      have g2 := mkZ_gr (P := fun a => a < hSz h) o d' (fun a q => q)
      have cl := clo_copy (c := c) (f := f) T.2.1 (by omega) (by omega) T.1
      have ec := EC_copy T hc hf
      have o4 := otl_clo cl 4 (Nat.le_refl _)
      rw [v_isO Z1.1, bind_some9, e2, bind_some9, mkZ_pz, v_isO (C.gr g2 (o.lt C.1)).1, bind_some9]
      obtain ⟨res, h', e3, g3, ho⟩ := tw_mk o C Z0 r0 r2 ec (nn_clo cl ec.1) (m.mono (by decide) (by decide))
      rw [e3]
      by_cases hk : takeOK (otl (ocopy (otl D 4) c f) 4)
      · rw [sTake_t hk] at ho
        obtain ⟨rfl, z, b, dz, C', Z', r'⟩ := ho
        rw [thr_r, v_getR C'.1 rfl, bind_some9, v_isO Z'.1, bind_some9, c3, z_at (i := 3) (by decide) (by omega) Z', bind_some9]
        refine ⟨_, h', rfl, g3.mono (by decide) (by decide), fun q => absurd p q, fun c' f' p' => ?_⟩
        obtain ⟨rfl, rfl⟩ := key c' f' p'
        rw [sWork_t hn, sTake_t hk]
        refine ⟨?_, z, b, dz, C', Z', r'⟩
        have hv := r' (4 * 3 + c') (by omega)
        obtain ⟨s, es, _⟩ := T.2.2.1 f' hf
        have e5 : otl (ocopy (otl D 4) c' f') 4 (4 * 3 + c') = otl D 4 (12 + f') := by
          rw [o4, copy_at T.2.1 (by omega) (by omega) (by decide) (by omega), if_neg (by omega), if_pos rfl]
        rw [e5] at hv
        rw [rep1_val hv es]
      · rw [sTake_f hk] at ho
        obtain ⟨q, rfl⟩ := ho.inl
        rw [thr_l]
        refine ⟨_, h', rfl, g3.mono (by decide) (by decide), fun q => absurd p q, fun c' f' p' => ?_⟩
        obtain ⟨rfl, rfl⟩ := key c' f' p'
        rw [sWork_t hn, sTake_f hk]
        exact ho
    · rw [e, thr_l]
      refine ⟨_, _, rfl, g.mono (by decide) (by decide), fun q => absurd p q, fun c' f' p' => ?_⟩
      rw [sWork_f hn]
      exact rf
def shArg (a1 a2 : Int32) : Int32 := if F_X4_isClock a1 = 0 then (0 : Int32) else F_X4_in a2 1 9
theorem shArg_c (a1 a2 : Int32) : (if (F_X1_isClock a1) = 0 then (0 : Int32) else (if (F_X1_isBetween (a2.toInt64) (1 : Int64) (9 : Int64)) = 0 then (0 : Int32) else (1 : Int32))) = shArg a1 a2 := by
  unfold shArg
  rw [isClock_in, show F_X1_isBetween (a2.toInt64) (1 : Int64) (9 : Int64) = F_X4_in a2 1 9 from between_in a2 1 9, fl_id (in_fl _ _ _)]
theorem shArg_fl (a1 a2 : Int32) : fl (shArg a1 a2) (isC 2 a1 ∧ 1 ≤ a2.toInt ∧ a2.toInt ≤ 9) := fl_if0 (isClock_fl a1) (fun _ => in_fl a2 1 9)
theorem a_shifts (a1 a2 : Int32) (o : OKH h) (C : DC h t st al sh z0 w) (Z0 : ZA h z0 b0 d0) (r0 : rep 9999 d0 D) (G : GZ D) (m : Rm 20 200 h) : ∃ res h', F_X2_shifts t a1 a2 h = some (res, h') ∧ Gr (Pt h t) 20 200 h h' ∧ (¬ (isC 2 a1 ∧ 1 ≤ a2.toInt ∧ a2.toInt ≤ 9) → Ref res h' 1) ∧ (∀ c, c ≤ 2 → a1 = I32 c → 1 ≤ a2.toInt ∧ a2.toInt ≤ 9 → DOut h' t st al sh (w + 1) res (sWork D (oshift (otl D 4) c a2.toInt) (fun _ => -(oval (oshift (otl D 4) c a2.toInt (12 + c)))))) := by
  unfold F_X2_shifts
  rw [shArg_c]
  rcases need_cases (k := 1) (shArg_fl a1 a2) o (m.mono (by decide) (by decide)) with ⟨n, e⟩ | ⟨p, e⟩
  · rw [e, thr_l]
    exact ⟨_, _, rfl, (gr_ref o 1).mono (by decide) (by decide), fun _ => ⟨_, rfl, hF_push_eq _ _ _⟩, fun c a b q => absurd ⟨⟨c, a, b⟩, q⟩ n⟩
  · rw [e, thr_r, v_isO C.1, bind_some9]
    obtain ⟨⟨c, hc, e1⟩, hb⟩ := id p
    subst e1
    rcases readied_a o C Z0 r0 G (m.mono (by decide) (by decide)) with ⟨hn, e⟩ | ⟨hn, q, h', e, rf, g⟩
    · rw [e, thr_r]
      obtain ⟨T, rT, bT⟩ := tt_row G hn r0
      have Z1 := mkZ_ZA o (gtl 9999 d0 4)
      obtain ⟨d', e2, r2⟩ := z_shifts (c := c) (by omega) (v := a2) rfl hb Z1 rT bT
      have g2 := mkZ_gr (P := fun a => a < hSz h) o d' (fun a q => q)
      have cl := clo_shift (c := c) (b := a2.toInt) (by omega) T.1
      have ec := EC_shift (c := c) T (by omega) hb
      have o4 := otl_clo cl 4 (Nat.le_refl _)
      rw [v_isO Z1.1, bind_some9, e2, bind_some9, mkZ_pz, v_isO (C.gr g2 (o.lt C.1)).1, bind_some9]
      obtain ⟨res, h', e3, g3, ho⟩ := tw_mk o C Z0 r0 r2 ec (nn_clo cl ec.1) (m.mono (by decide) (by decide))
      rw [e3]
      by_cases hk : takeOK (otl (oshift (otl D 4) c a2.toInt) 4)
      · rw [sTake_t hk] at ho
        obtain ⟨rfl, z, b, dz, C', Z', r'⟩ := ho
        rw [thr_r, v_getR C'.1 rfl, bind_some9, v_isO Z'.1, bind_some9, c3, z_at (i := 3) (by decide) (by omega) Z', bind_some9]
        refine ⟨_, h', rfl, g3.mono (by decide) (by decide), fun q => absurd p q, fun c' hc' e1' _ => ?_⟩
        have q1 := i32inj (by omega) (by omega) e1'
        subst q1
        rw [sWork_t hn, sTake_t hk]
        refine ⟨?_, z, b, dz, C', Z', r'⟩
        have hv := r' (4 * 3 + c) (by omega)
        obtain ⟨s, es, _⟩ := ec.2.1 c (by omega)
        rw [o4, show 4 * 3 + c = 12 + c by omega] at hv
        rw [show 4 * 3 + c = 12 + c by omega, rep1_val hv es]
      · rw [sTake_f hk] at ho
        obtain ⟨q, rfl⟩ := ho.inl
        rw [thr_l]
        refine ⟨_, h', rfl, g3.mono (by decide) (by decide), fun q => absurd p q, fun c' hc' e1' _ => ?_⟩
        have q1 := i32inj (by omega) (by omega) e1'
        subst q1
        rw [sWork_t hn, sTake_f hk]
        exact ho
    · rw [e, thr_l]
      refine ⟨_, _, rfl, g.mono (by decide) (by decide), fun q => absurd p q, fun c' hc' e1' _ => ?_⟩
      rw [sWork_f hn]
      exact rf
end AD
/-- the new zone of which nothing was told -/
theorem plainRow {x : Int32} (i j : Nat) (hi : i < 4) (hj : j < 4) : rep1 9999 (if I32 i = I32 j then (0 : Int32) else F_X3_plain (I32 i)) (oplain (4 * i + j)) := by
  unfold oplain
  rw [(m4 hj).1, (m4 hj).2, plain_v i hi]
  by_cases e : i = j
  · subst e
    rw [if_pos rfl, if_pos (Or.inl rfl)]
    exact ⟨rfl, by decide⟩
  · rw [if_neg (fun q => e (i32inj (by omega) (by omega) q))]
    by_cases e3 : i = 3
    · rw [if_pos e3, if_pos (Or.inr e3)]
      exact ⟨rfl, by decide⟩
    · rw [if_neg e3, if_neg (fun q => q.elim e e3)]
      rfl
def pxr (i : Nat) (d : ZS) : Nat → ZS
  | 0 => d
  | j + 1 => upd (pxr i d j) (4 * i + j) (if I32 i = I32 j then (0 : Int32) else F_X3_plain (I32 i))
def pxb (d : ZS) : Nat → ZS
  | 0 => d
  | i + 1 => pxr i (pxb d i) 4
theorem px_rep (d : ZS) : rep 9999 (pxb d 4) oplain := by
  have R : ∀ (i : Nat), i < 4 → ∀ (x : ZS), (∀ m, m < 4 * i → rep1 9999 (x m) (oplain m)) → ∀ j, j ≤ 4 → ∀ m, m < 4 * i + j → rep1 9999 (pxr i x j m) (oplain m) := fun i hi x hx j => by
    induction j with
    | zero => exact fun _ m hm => hx m (by omega)
    | succ j ih =>
      intro hj m hm
      show rep1 9999 (upd _ _ _ m) _
      unfold upd
      by_cases e : m = 4 * i + j
      · rw [if_pos e, e]
        exact plainRow (x := 0) i j hi (by omega)
      · rw [if_neg e]
        exact ih (by omega) m (by omega)
  have B : ∀ i, i ≤ 4 → ∀ m, m < 4 * i → rep1 9999 (pxb d i m) (oplain m) := fun i => by
    induction i with
    | zero => exact fun _ m hm => absurd hm (by omega)
    | succ i ih => exact fun hi m hm => R i (by omega) _ (ih (by omega)) 4 (Nat.le_refl _) m (by omega)
  exact fun m hm => B 4 (Nat.le_refl _) m (by omega)
theorem mkZ_a (h : HH) (d : ZS) : hF (mkZ h d) (hSz h) = some (.inr (3, [.ref (hSz h + 1)])) := by
  show hF (hpush _ _ _) (hSz h) = _
  rw [hF_push_ne _ _ _ (show hSz h ≠ hSz h + 1 by omega)]
  exact hF_push_eq _ _ _
theorem mkZ_b (h : HH) (d : ZS) : hF (mkZ h d) (hSz h + 1) = some (.inl (0, 16, .inl d)) := hF_push_eq _ _ _
theorem z_init {h : HH} (o2 : hB h ≤ hSz h) (r : Rm 2 17 h) : ∃ d, F_X3_init (hSz h) (hpush h (.inr (3, [.null])) 1) = some (mkZ h d) ∧ rep 9999 d oplain := by
  have r1 : Rm 1 16 (hpush h (.inr (3, [.null])) 1) := by
    obtain ⟨a, b⟩ := r
    exact ⟨by show hSz h + 1 + 1 ≤ hLim h; omega, by show hSl h + 1 + 16 ≤ hSlim h; omega⟩
  have h3 : hF (hpush (hpush h (.inr (3, [.null])) 1) (.inl (0, 16, zeroA 0)) 16) (hSz h) = some (.inr (3, [.null])) := by
    rw [hF_push_ne _ _ _ (show hSz h ≠ hSz h + 1 by omega)]
    exact hF_push_eq _ _ _
  have e0 : putV (hpush (hpush h (.inr (3, [.null])) 1) (.inl (0, 16, zeroA 0)) 16) 3 0 (some (hSz h)) (va_rf (some (hSz (hpush h (.inr (3, [.null])) 1)))) = some (mkZ h (fun _ => 0)) := by
    show putV _ 3 0 (some (hSz h)) (.ref (hSz h + 1)) = _
    rw [v_putV h3 (by decide) o2]
    apply congrArg some
    unfold mkZ hset hpush
    simp only [hSz]
    congr 3
    funext a
    simp only [va_up, List.set]
    by_cases e1 : a = h.2.1
    · rw [if_pos e1, if_neg (by omega), if_pos e1]
    · rw [if_neg e1]
      by_cases e2 : a = h.2.1 + 1
      · rw [if_pos e2, if_pos e2]
        rfl
      · rw [if_neg e2, if_neg e1, if_neg e2, if_neg e1]
  have row : ∀ (i : Nat), i < 4 → ∀ x : ZS, lp (fun z => F_X3_init_B21 (hSz h) (I32 i) z.1 z.2) 100000 ((0 : Int32), mkZ h x) = some (mkZ h (pxr i x 4)) := fun i hi x => by
    refine lp_for0 (fun j => (I32 j, mkZ h (pxr i x j))) 4 (fun j hj => ?_) ?_ 100000 (by decide)
    · show F_X3_init_B21 (hSz h) (I32 i) (I32 j) (mkZ h (pxr i x j)) = _
      unfold F_X3_init_B21
      have hix : ix (((4 : Int32) * I32 i) + I32 j) (4 * i + j) 16 := ⟨fun q => zi1 i hi j hj (Or.inl q), zi2 i hi j hj, by omega⟩
      rw [if_neg (zi3 j hj), v_getR (mkZ_a h _) rfl, bind_some9, v_astI (mkZ_b h _) hix (show hB h ≤ hSz h + 1 from Nat.le_succ_of_le o2), bind_some9, zi4 j hj]
      show some (Sum.inl (I32 (j + 1), pz (hSz h + 1) _ (mkZ h (pxr i x j)))) = _
      rw [mkZ_pz]
      rfl
    · show F_X3_init_B21 (hSz h) (I32 i) (I32 4) (mkZ h (pxr i x 4)) = _
      unfold F_X3_init_B21
      rw [if_pos (by decide)]
  have all : lp (fun z => F_X3_init_B14 (hSz h) z.1 z.2) 100000 ((0 : Int32), mkZ h (fun _ => 0)) = some (mkZ h (pxb (fun _ => 0) 4)) := by
    refine lp_for0 (fun i => (I32 i, mkZ h (pxb (fun _ => 0) i))) 4 (fun i hi => ?_) ?_ 100000 (by decide)
    · show F_X3_init_B14 (hSz h) (I32 i) (mkZ h (pxb (fun _ => 0) i)) = _
      unfold F_X3_init_B14
      rw [if_neg (zi3 i hi), row i hi, bind_some9, zi4 i hi]
      rfl
    · show F_X3_init_B14 (hSz h) (I32 4) (mkZ h (pxb (fun _ => 0) 4)) = _
      unfold F_X3_init_B14
      rw [if_pos (by decide)]
  refine ⟨_, ?_, px_rep (fun _ => 0)⟩
  unfold F_X3_init
  rw [show nnl (some (hSz h)) = some (hSz h) from rfl, bind_some9, v_newA (t := 0) (n := 16) (by decide) (by decide) (by decide) r1, bind_some9, e0, bind_some9, all, bind_some9]
section AE
variable {h : HH} {t st al sh z0 b0 : Nat} {w : Int32} {d0 : ZS} {D : OD}
theorem a_forgetsAll (o : OKH h) (C : DC h t st al sh z0 w) (Z0 : ZA h z0 b0 d0) (r0 : rep 9999 d0 D) (m : Rm 20 200 h) : ∃ res h', F_X2_forgetsAll t h = some (res, h') ∧ Gr (Pt h t) 20 200 h h' ∧ DOut h' t st al sh w res (sTake D oplain) := by
  obtain ⟨d, e, r⟩ := z_init o.2 (m.mono (by decide) (by decide))
  have g2 := mkZ_gr (P := fun a => a < hSz h) o d (fun a q => q)
  unfold F_X2_forgetsAll
  rw [v_newO (m.mono (by decide) (by decide)), bind_some9, show nnl (some (hSz h)) = some (hSz h) from rfl, bind_some9, e, bind_some9, v_isO (C.gr g2 (o.lt C.1)).1, bind_some9]
  obtain ⟨res, h', e3, g3, ho⟩ := tk_mk o C Z0 r0 r EC_plain (m.mono (by decide) (by decide))
  exact ⟨res, h', thr_same e3, g3.mono (by decide) (by decide), ho⟩
end AE
