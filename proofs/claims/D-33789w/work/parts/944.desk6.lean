/-! the desk's acts on shelves, stays and lines -/
section DX
variable {n : Nat} {h : HH} {t : Nat} {s : Nat → Int32}
theorem a_puts (a1 : Int32) (o : OKH h) (R : DR n h t s) (m : Rm 20 200 h) (hn : n ≤ hSz h) : ∃ res h', F_X2_puts t a1 h = some (res, h') ∧ Gr (fun a => a < n) 20 200 h h' ∧ (¬ isC 3 a1 → Ref res h' 1) ∧ ∀ k, k ≤ 3 → a1 = I32 k → res = .inr (s (80 + k)) ∧ ∀ s' : Nat → Int32, s' (80 + k) = 1 → (∀ i, i < 16 → s' (16 + 16 * k + i) = s i) → (∀ i, i < 194 → i ≠ 80 + k → ¬ (16 + 16 * k ≤ i ∧ i < 16 + 16 * k + 16) → s' i = s i) → DR n h' t s' := by
  obtain ⟨st, al, sh, z0, C, ht, ⟨b0, d0, Z0, r0⟩, S, ⟨g, H, hbs, hns, hs⟩, L⟩ := R
  unfold F_X2_puts
  rw [isShelf_in]
  rcases need_cases (k := 1) (isSlot_fl a1) o (m.mono (by decide) (by decide)) with ⟨nf, e⟩ | ⟨⟨k, hk, e1⟩, e⟩
  · rw [e, thr_l]
    exact ⟨_, _, rfl, ((gr_ref (t := hSz h) o 1).sub (fun a q => ⟨by omega, by omega⟩)).mono (by decide) (by decide), fun _ => ⟨_, rfl, hF_push_eq _ _ _⟩, fun k hk e1 => absurd ⟨k, hk, e1⟩ nf⟩
  · subst e1
    have hix := ix_of k 4 (by omega) (by decide)
    have c1 : hF (hpush h (.inr (3, [.null])) 1) t = some (.inr (2, [.ref st, .ref al, .ref sh, .ref z0, .int (s 193)])) := by rw [hF_push_ne _ _ _ (o.ne C.1)]; exact C.1
    have g1 := mkZ_gr (P := fun a => a < hSz h) o d0 (fun a q => q)
    have Z1 := mkZ_ZA o d0
    have H1 : hF (mkZ h d0) sh = some (.inl (3, 4, .inr (.inr g))) := by rw [g1.2.1 sh (o.lt H)]; exact H
    have ea : astR (mkZ h d0) 3 (some sh) (I32 k) (some (hSz h)) = some (hset (mkZ h d0) sh (.inl (3, 4, .inr (.inr (va_up g k (some (hSz h))))))) := v_astR H1 hix hbs (v_okst Z1.1 Z1.2.2.1.1 rfl) (Or.inr rfl)
    rw [e, thr_r, v_getR C.1 rfl, bind_some9, v_aldR H hix, bind_some9, bind_some9, v_newO (m.mono (by decide) (by decide)), bind_some9, v_getR c1 rfl, bind_some9, show nnl (some (hSz h)) = some (hSz h) from rfl, bind_some9, z_init2 o Z0 (m.mono (by decide) (by decide)), bind_some9, ea, bind_some9]
    have nt : t ≠ sh := fun z => by
      have h1 := C.1
      rw [z, H] at h1
      cases h1
    have g2 : Gr (fun a => a < hSz h ∧ a ≠ sh) 0 0 (mkZ h d0) (hset (mkZ h d0) sh (.inl (3, 4, .inr (.inr (va_up g k (some (hSz h))))))) := Gr.set g1.ok H1 (fun z => z.2 rfl)
    have g3 : Gr (fun a => a < hSz h ∧ a ≠ sh) 2 17 h (hset (mkZ h d0) sh (.inl (3, 4, .inr (.inr (va_up g k (some (hSz h))))))) := (g1.sub (fun a q => q.1)).tr g2
    have kx : KeepX (fun k => k = (4, 4)) h (hset (mkZ h d0) sh (.inl (3, 4, .inr (.inr (va_up g k (some (hSz h))))))) := KeepX.one o g3 H (hF_set_eq _ _ _) rfl rfl
    refine ⟨_, _, rfl, (g3.sub (fun a q => ⟨by omega, by omega⟩)).mono (by decide) (by decide), fun q => absurd ⟨k, hk, rfl⟩ q, fun k' hk' e' => ?_⟩
    have := i32inj (by omega) (by omega) e'
    subst this
    refine ⟨?_, fun s' e1 e2 e3 => ?_⟩
    · rcases hs k (by omega) with ⟨q1, q2⟩ | ⟨z, q1, q2, _⟩
      · rw [q1, q2, if_pos rfl]
      · rw [q1, q2, if_neg (fun z => by cases z)]
    · have ag : ∀ i, i < 194 → i < 16 ∨ 84 ≤ i → s' i = s i := fun i h1 h2 => e3 i h1 (by omega) (by omega)
      have Z1' : ZA (hset (mkZ h d0) sh (.inl (3, 4, .inr (.inr (va_up g k (some (hSz h))))))) (hSz h) (hSz h + 1) d0 := by
        have l1 := o.lt H
        exact ⟨by rw [hF_set_ne _ _ (by omega)]; exact Z1.1, by rw [hF_set_ne _ _ (by omega)]; exact Z1.2.1, Z1.2.2⟩
      refine ⟨st, al, sh, z0, ?_, ht, (ZR.keep kx (by decide) (by decide) ⟨b0, d0, Z0, r0⟩).congr (Zs_congr (fun i hi => ag _ (by omega) (by omega))), S.keep kx (by decide) (fun i h1 h2 => ag i (by omega) (by omega)), ⟨_, hF_set_eq _ _ _, hbs, hns, fun j hj => ?_⟩, L.keep kx (by decide) (fun n _ z => by cases z) (by decide) (by decide) (fun i h1 h2 => ag i (by omega) (by omega))⟩
      · rw [ag 193 (by omega) (by omega)]
        exact C.gr g3 ⟨o.lt C.1, nt⟩
      · unfold va_up
        by_cases ej : j = k
        · subst ej
          rw [if_pos rfl]
          exact Or.inr ⟨hSz h, rfl, e1, hSz h + 1, d0, Z1', rep_congr r0 (Zs_congr (fun i hi => by rw [e2 i hi, Nat.zero_add]))⟩
        · rw [if_neg ej, e3 (80 + j) (by omega) (by omega) (by omega)]
          rcases hs j hj with q | ⟨z, q1, q2, q3⟩
          · exact Or.inl q
          · exact Or.inr ⟨z, q1, q2, (q3.keep kx (by decide) (by decide)).congr (Zs_congr (fun i hi => e3 _ (by omega) (by omega) (by omega)))⟩
def alwArg (a1 a2 a3 : Int32) : Int32 := if F_X4_isHarbour a1 = 0 then (0 : Int32) else if F_X4_isClock a2 = 0 then (0 : Int32) else F_X4_in a3 0 10
theorem alwArg_c (a1 a2 a3 : Int32) : (if (F_X1_isHarbour a1) = 0 then (0 : Int32) else (if (F_X1_isClock a2) = 0 then (0 : Int32) else (if (F_X1_isBetween (a3.toInt64) (0 : Int64) (10 : Int64)) = 0 then (0 : Int32) else (1 : Int32)))) = alwArg a1 a2 a3 := by
  unfold alwArg
  rw [isHarbour_in, isClock_in, show F_X1_isBetween (a3.toInt64) (0 : Int64) (10 : Int64) = F_X4_in a3 0 10 from between_in a3 0 10, fl_id (in_fl _ _ _)]
theorem alwArg_fl (a1 a2 a3 : Int32) : fl (alwArg a1 a2 a3) (isC 5 a1 ∧ isC 2 a2 ∧ 0 ≤ a3.toInt ∧ a3.toInt ≤ 10) := fl_if0 (isHarbour_fl a1) (fun _ => fl_if0 (isClock_fl a2) (fun _ => in_fl a3 0 10))
theorem ix3 : ∀ i, i < 6 → ∀ c, c < 3 → ix (((3 : Int32) * I32 i) + I32 c) (3 * i + c) 18 := by
  intro i hi c hc
  have h1 : ∀ i, i < 6 → ∀ c, c < 3 → ¬ (((3 : Int32) * I32 i) + I32 c) < 0 ∧ (((3 : Int32) * I32 i) + I32 c).toNatClampNeg = 3 * i + c := by decide
  exact ⟨(h1 i hi c hc).1, (h1 i hi c hc).2, by omega⟩
theorem a_allows (a1 a2 a3 : Int32) (o : OKH h) (R : DR n h t s) (m : Rm 20 200 h) (hn : n ≤ hSz h) : ∃ res h', F_X2_allows t a1 a2 a3 h = some (res, h') ∧ Gr (fun a => a < n) 20 200 h h' ∧ (¬ (isC 5 a1 ∧ isC 2 a2 ∧ 0 ≤ a3.toInt ∧ a3.toInt ≤ 10) → Ref res h' 1) ∧ ∀ i c, i ≤ 5 → c ≤ 2 → a1 = I32 i → a2 = I32 c → 0 ≤ a3.toInt ∧ a3.toInt ≤ 10 → res = .inr (s (84 + (3 * i + c))) ∧ ∀ s' : Nat → Int32, s' (84 + (3 * i + c)) = a3 → (∀ j, j < 194 → j ≠ 84 + (3 * i + c) → s' j = s j) → DR n h' t s' := by
  obtain ⟨st, al, sh, z0, C, ht, Z0, ⟨f, S, hbs, hns, hs⟩, H, L⟩ := R
  unfold F_X2_allows
  rw [alwArg_c]
  rcases need_cases (k := 1) (alwArg_fl a1 a2 a3) o (m.mono (by decide) (by decide)) with ⟨nf, e⟩ | ⟨⟨⟨i, hi, e1⟩, ⟨c, hc, e2⟩, hb⟩, e⟩
  · rw [e, thr_l]
    exact ⟨_, _, rfl, ((gr_ref (t := hSz h) o 1).sub (fun a q => ⟨by omega, by omega⟩)).mono (by decide) (by decide), fun _ => ⟨_, rfl, hF_push_eq _ _ _⟩, fun i c hi hc e1 e2 hb => absurd ⟨⟨i, hi, e1⟩, ⟨c, hc, e2⟩, hb⟩ nf⟩
  · subst e1
    subst e2
    have hix := ix3 i (by omega) c (by omega)
    have es : F_X2_stay t (I32 i) (I32 c) h = some (f (3 * i + c)) := by
      unfold F_X2_stay
      rw [v_getR C.1 rfl, bind_some9, v_aldI S hix]
      rfl
    rw [e, thr_r, v_isO C.1, bind_some9, es, bind_some9, v_getR C.1 rfl, bind_some9, v_astI S hix hbs, bind_some9]
    have nt : t ≠ st := fun z => by
      have h1 := C.1
      rw [z, S] at h1
      cases h1
    have g3 : Gr (fun a => a < hSz h ∧ a ≠ st) 0 0 h (hset h st (.inl (0, 18, .inl (upd f (3 * i + c) a3)))) := Gr.set o S (fun z => z.2 rfl)
    have kx : KeepX (fun k => k = (1, 18)) h (hset h st (.inl (0, 18, .inl (upd f (3 * i + c) a3)))) := KeepX.one o g3 S (hF_set_eq _ _ _) rfl rfl
    refine ⟨_, _, rfl, (g3.sub (fun a q => ⟨by omega, by omega⟩)).mono (by decide) (by decide), fun q => absurd ⟨⟨i, hi, rfl⟩, ⟨c, hc, rfl⟩, hb⟩ q, fun i' c' hi' hc' e1' e2' _ => ?_⟩
    have q1 := i32inj (by omega) (by omega) e1'
    have q2 := i32inj (by omega) (by omega) e2'
    subst q1
    subst q2
    refine ⟨by rw [hs _ (by omega)], fun s' e1 e3 => ?_⟩
    refine ⟨st, al, sh, z0, ?_, ht, (Z0.keep kx (by decide) (by decide)).congr (Zs_congr (fun i hi => e3 _ (by omega) (by omega))), ⟨_, hF_set_eq _ _ _, hbs, hns, fun j hj => ?_⟩, H.keep kx (by decide) (by decide) (by decide) (fun i h1 h2 => e3 i (by omega) (by omega)), L.keep kx (by decide) (fun n _ z => by cases z) (by decide) (by decide) (fun i h1 h2 => e3 i (by omega) (by omega))⟩
    · rw [e3 193 (by omega) (by omega)]
      exact C.gr g3 ⟨o.lt C.1, nt⟩
    · unfold upd
      by_cases ej : j = 3 * i + c
      · rw [if_pos ej, ej, e1]
      · rw [if_neg ej, e3 (84 + j) (by omega) (by omega)]
        exact hs j hj
/-- which line it is -/
def isL (N : Nat) (a : Int32) : Prop := ∃ l, l < N ∧ a = I32 l
theorem isL_fl {N : Nat} (hN : N ≤ 10) (a : Int32) : fl (F_X4_in a 0 (I32 N - (1 : Int32))) (isL N a) := by
  have e : (I32 N - (1 : Int32)).toInt = (N : Int) - 1 := by
    have h1 : ∀ N, N ≤ 10 → (I32 N - (1 : Int32)).toInt = (N : Int) - 1 := by decide
    exact h1 N hN
  have z0 : (0 : Int32).toInt = 0 := rfl
  refine fl_congr (in_fl a 0 _) ⟨fun h => ?_, fun ⟨l, hl, e1⟩ => ?_⟩
  · rw [e, z0] at h
    obtain ⟨i, h1, h2⟩ := nat_of (a := a) (n := N) h.1 (by omega) (by omega)
    subst h2
    rw [i32t (by omega)] at h
    exact ⟨i, by omega, rfl⟩
  · subst e1
    rw [e, i32t (by omega), z0]
    omega
theorem AL.size {al ar cap N : Nat} {q : Nat → Option Nat} (A : AL h al ar cap N q) : isO h 8 (some al) = some al ∧ F_J2_size al h = some (I32 N) := by
  obtain ⟨⟨mc, C'⟩, _⟩ := A
  refine ⟨v_isO C', ?_⟩
  unfold F_J2_size
  rw [v_getI C' rfl]
  rfl
theorem AL.get {al ar cap N i : Nat} {q : Nat → Option Nat} (A : AL h al ar cap N q) (hi : i < N) (hN : N ≤ 10000) : F_J2_get al (I32 i) h = some (q i) := by
  obtain ⟨⟨mc, C'⟩, hb, R, hNc, hcap, _⟩ := A
  have hcp := cap_le hcap
  unfold F_J2_get F_J8_checkIndex F_J9_checkIndex F_J2_elementData
  rw [v_getI C' rfl, bind_some9, if_neg (ix_of i 20000 (by omega) (by omega)).1, if_pos (by rw [Int32.lt_iff_toInt_lt, i32t (by omega), i32t (by omega)]; omega), bind_some9, bind_some9, v_isO C', bind_some9, v_getR C' rfl, bind_some9, v_aldR R (ix_of i cap (by omega) (by omega))]
  rfl
theorem isLine_a {al ar cap N st sh z0 : Nat} {q : Nat → Option Nat} {w : Int32} (C : DC h t st al sh z0 w) (A : AL h al ar cap N q) (a1 : Int32) : F_X2_isLine t a1 h = some (F_X4_in a1 0 (I32 N - (1 : Int32))) := by
  unfold F_X2_isLine
  rw [v_getR C.1 rfl, bind_some9, A.size.1, bind_some9, A.size.2, bind_some9]
  exact congrArg some (between_in a1 0 (I32 N - (1 : Int32)))
end DX
