/-! ferries by moments: a tick, a line, both sides -/
section MO2
variable {h : HH} {S : MS} {dk N stD alD sh z arD capD c l : Nat} {s f : Nat → Int32} {w : Int32} {qD : Nat → Option Nat} {la le mo : Nat → Nat}
theorem sv_of (hc : ∀ i, i < 18 → isC 10 (s (84 + i))) {p k : Nat} (hp : p ≤ 5) (hk : k < 3) : s (84 + (3 * p + k)) = I32 (sv s p k) ∧ sv s p k ≤ 10 := isC_nat (by decide) (hc (3 * p + k) (by omega))
theorem lv_of (hl : lineOK s l) {k : Nat} (hk : k < 3) : s (105 + 9 * l + k) = I32 (lv s l k) ∧ lv s l k ≤ 9 := isC_nat (by decide) (hl.2.2.1 k hk).1
theorem mvv_of (hl : lineOK s l) {k : Nat} (hk : k < 3) : s (108 + 9 * l + k) = I32 (mvv s l k) ∧ mvv s l k ≤ 10 := isC_nat (by decide) (hl.2.2.1 k hk).2
theorem f_allowed (D : DW h dk s N stD alD sh z w f arD capD qD la le mo) (hc : c < 7986) : F_X2_allowed dk (I32 c) h = some (if bq (alw s c) then I32 c else (-1 : Int32)) := by
  obtain ⟨Cd, Hs, hs, hcs, _⟩ := D
  have h5 := hb_le hc
  obtain ⟨v, ev, fv⟩ : ∃ v, lp (fun y => F_X2_allowed_B4 dk (I32 c) y.1 y.2 h) 100000 ((1 : Int32), (0 : Int32)) = some v ∧ fl v (alw s c) := by
    refine lp_inv0 (fun k y => y.2 = I32 k ∧ fl y.1 (∀ i, i < k → sv s (hb c) i = 10 ∨ ck c i ≤ sv s (hb c) i)) 3 (fun k hk y hy => ?_) (fun y hy => ?_) ⟨rfl, Or.inl ⟨rfl, fun i hi => absurd hi (Nat.not_lt_zero i)⟩⟩ (by decide)
    · obtain ⟨x, i⟩ := y
      obtain ⟨rfl, hf⟩ := hy
      obtain ⟨e1, e2⟩ := sv_of hcs h5 hk
      have cl := ck_le c k
      refine ⟨_, by
        show F_X2_allowed_B4 dk (I32 c) x (I32 k) h = _
        unfold F_X2_allowed_B4
        rw [if_neg (nge3 hk), v_isO Cd, bind_some9, hb_of (by omega), f_stay Cd Hs (by omega) hk, bind_some9, hs _ (by omega), e1, clk (by omega) hk, i32s k (by omega)], rfl, ?_⟩
      have f1 : fl (if I32 (sv s (hb c) k) = (10 : Int32) then (1 : Int32) else (if I32 (sv s (hb c) k) < I32 (ck c k) then (0 : Int32) else (1 : Int32))) (sv s (hb c) k = 10 ∨ ck c k ≤ sv s (hb c) k) := by
        by_cases q : sv s (hb c) k = 10
        · rw [if_pos ((i32e10 (by omega)).mpr q)]
          exact Or.inl ⟨rfl, Or.inl q⟩
        · rw [if_neg (fun w => q ((i32e10 (by omega)).mp w))]
          exact fl_congr fl_neg (by rw [i32lt (by omega) (by omega)]; omega)
      exact fl_congr (fl_and hf f1) ⟨fun q i hi => by
        by_cases e : i = k
        · subst e
          exact q.2
        · exact q.1 i (by omega), fun q => ⟨fun i hi => q i (by omega), q k (Nat.lt_succ_self k)⟩⟩
    · obtain ⟨x, i⟩ := y
      obtain ⟨rfl, hf⟩ := hy
      exact ⟨x, by
        show F_X2_allowed_B4 dk (I32 c) x (I32 3) h = _
        unfold F_X2_allowed_B4
        rw [if_pos (by decide)], hf⟩
  unfold F_X2_allowed
  rw [ev, bind_some9]
  by_cases q : alw s c
  · rw [if_neg (fun z => (fl_0 fv).mp z q), if_pos (bq_t.mpr q)]
  · rw [if_pos ((fl_0 fv).mpr q), bq_f.mpr q]
    rfl
theorem f_ticked (D : DW h dk s N stD alD sh z w f arD capD qD la le mo) (hc : c < 7986) : F_X2_ticked dk (I32 c) h = some (oi (nT s c)) := by
  have c0 := ck_le c 0
  have c1 := ck_le c 1
  have c2 := ck_le c 2
  unfold F_X2_ticked
  rw [v_isO D.1, bind_some9, hb_of (by omega), show F_X1_clockOf (I32 c) (0 : Int32) = I32 (ck c 0) from clk (by omega) (by decide), show F_X1_clockOf (I32 c) (1 : Int32) = I32 (ck c 1) from clk (by omega) (by decide), show F_X1_clockOf (I32 c) (2 : Int32) = I32 (ck c 2) from clk (by omega) (by decide), i32s _ (by omega), i32s _ (by omega), i32s _ (by omega), min_10 (by omega), min_10 (by omega), min_10 (by omega), codeOf_n]
  have e := f_allowed D (nxt_lt hc)
  unfold nxt at e
  rw [e, bind_some9]
  unfold nT
  by_cases q : alw s (nxt c)
  · rw [if_pos (bq_t.mpr q)]
    exact congrArg some (if_pos (bq_t.mpr q))
  · rw [bq_f.mpr q]
    exact congrArg some (if_neg (fun w => q (bq_t.mp w)))
theorem f_can {ln le1 mo1 : Nat} (R : LR h s l ln le1 mo1) (hk : lineOK s l) (hc : c < 7986) : ∃ v, F_X5_canBeTaken ln (I32 c) h = some v ∧ fl v (lnT s l c) := by
  obtain ⟨R1, ⟨fl1, RL, eL⟩, ⟨fm, RM, eM⟩, _⟩ := R
  obtain ⟨v, ev, fv⟩ : ∃ v, lp (fun y => F_X5_canBeTaken_B4 ln (I32 c) y.1 y.2 h) 100000 ((1 : Int32), (0 : Int32)) = some v ∧ fl v (lnT s l c) := by
    refine lp_inv0 (fun k y => y.2 = I32 k ∧ fl y.1 (∀ i, i < k → lv s l i ≤ ck c i ∧ (mvv s l i = 10 ∨ ck c i ≤ mvv s l i))) 3 (fun k h3 y hy => ?_) (fun y hy => ?_) ⟨rfl, Or.inl ⟨rfl, fun i hi => absurd hi (Nat.not_lt_zero i)⟩⟩ (by decide)
    · obtain ⟨x, i⟩ := y
      obtain ⟨rfl, hf⟩ := hy
      have hf : fl x (∀ i, i < k → lv s l i ≤ ck c i ∧ (mvv s l i = 10 ∨ ck c i ≤ mvv s l i)) := hf
      obtain ⟨a1, a2⟩ := lv_of hk h3
      obtain ⟨b1, b2⟩ := mvv_of hk h3
      have cl := ck_le c k
      have ih := ix_of k 3 h3 (by decide)
      have done : ∀ x2, fl x2 (lv s l k ≤ ck c k ∧ (mvv s l k = 10 ∨ ck c k ≤ mvv s l k)) → fl (x &&& x2) (∀ i, i < k + 1 → lv s l i ≤ ck c i ∧ (mvv s l i = 10 ∨ ck c i ≤ mvv s l i)) := fun x2 f1 => fl_congr (fl_and hf f1) ⟨fun q i hi => by
        by_cases e : i = k
        · subst e
          exact q.2
        · exact q.1 i (by omega), fun q => ⟨fun i hi => q i (by omega), q k (Nat.lt_succ_self k)⟩⟩
      show ∃ z', F_X5_canBeTaken_B4 ln (I32 c) x (I32 k) h = some (.inl z') ∧ _
      unfold F_X5_canBeTaken_B4
      rw [if_neg (nge3 h3), v_getR R1 rfl, bind_some9, v_aldI RL ih, bind_some9, eL k h3, a1, clk (by omega) h3]
      by_cases q1 : ck c k < lv s l k
      · rw [if_pos ((i32lt (by omega) (by omega)).mpr q1), i32s k (by omega)]
        exact ⟨_, rfl, rfl, done 0 (Or.inr ⟨rfl, fun w => by omega⟩)⟩
      · rw [if_neg (fun w => q1 ((i32lt (by omega) (by omega)).mp w)), v_getR R1 rfl, bind_some9, v_aldI RM ih, bind_some9, eM k h3, b1]
        by_cases q2 : mvv s l k = 10
        · rw [if_pos ((i32e10 (by omega)).mpr q2), i32s k (by omega)]
          exact ⟨_, rfl, rfl, done 1 (Or.inl ⟨rfl, by omega, Or.inl q2⟩)⟩
        · rw [if_neg (fun w => q2 ((i32e10 (by omega)).mp w)), bind_some9, v_aldI RM ih, bind_some9, eM k h3, b1, i32s k (by omega)]
          exact ⟨_, rfl, rfl, done _ (fl_congr fl_neg (by rw [i32lt (by omega) (by omega)]; omega))⟩
    · obtain ⟨x, i⟩ := y
      obtain ⟨rfl, hf⟩ := hy
      exact ⟨x, by
        show F_X5_canBeTaken_B4 ln (I32 c) x (I32 3) h = _
        unfold F_X5_canBeTaken_B4
        rw [if_pos (by decide)], hf⟩
  refine ⟨v, ?_, fv⟩
  unfold F_X5_canBeTaken
  rw [ev, bind_some9, fl_okZ fv, bind_some9]
theorem f_bit {ln le1 mo1 k : Nat} (R : LR h s l ln le1 mo1) : F_X5_isReset ln (I32 k) h = some (if lbit s l k then (1 : Int32) else (0 : Int32)) := by
  unfold F_X5_isReset
  rw [v_getI R.1 rfl, bind_some9]
  unfold lbit
  by_cases q : ((s (111 + 9 * l) >>> (I32 k &&& 31)) &&& (1 : Int32)) = (1 : Int32)
  · rw [if_pos q, if_pos (decide_eq_true q)]
  · rw [if_neg q, if_neg (fun w => q (of_decide_eq_true w))]
theorem thn_i {k : Nat} : (if (if lbit s l k then (1 : Int32) else (0 : Int32)) = 0 then I32 (ck c k) else (0 : Int32)) = I32 (thn s l c k) := by
  unfold thn
  cases lbit s l k <;> rfl
theorem f_moved (D : DW h dk s N stD alD sh z w f arD capD qD la le mo) (hc : c < 7986) (hl : l < N) : F_X2_moved dk (I32 c) (some (la l)) h = some (oi (nL s l c)) := by
  obtain ⟨_, R, hk⟩ := D.2.2.2.2.2.2 l hl
  obtain ⟨t5, et⟩ := too_ok hk
  unfold F_X2_moved nL
  rw [v_getI R.1 rfl, bind_some9, hb_of (by omega)]
  by_cases q1 : s (103 + 9 * l) = I32 (hb c)
  · obtain ⟨v, ev, fv⟩ := f_can R hk hc
    rw [if_pos q1, v_isO R.1, bind_some9, ev, bind_some9]
    by_cases q2 : lnT s l c
    · have e : F_X2_allowed dk (I32 (cd (too s l) (thn s l c 0) (thn s l c 1) (thn s l c 2))) h = some (if bq (alw s (aft s l c)) then I32 (aft s l c) else (-1 : Int32)) := f_allowed D (aft_lt (s := s) (l := l) (c := c) t5)
      rw [if_neg (fun z => (fl_0 fv).mp z q2), bind_some9, show F_X5_isReset (la l) (0 : Int32) h = some (if lbit s l 0 then (1 : Int32) else (0 : Int32)) from f_bit (k := 0) R, bind_some9, bind_some9, show F_X5_isReset (la l) (1 : Int32) h = some (if lbit s l 1 then (1 : Int32) else (0 : Int32)) from f_bit (k := 1) R, bind_some9, bind_some9, show F_X5_isReset (la l) (2 : Int32) h = some (if lbit s l 2 then (1 : Int32) else (0 : Int32)) from f_bit (k := 2) R, bind_some9, v_getI R.1 rfl, bind_some9, v_isO D.1, bind_some9, show F_X1_clockOf (I32 c) (0 : Int32) = I32 (ck c 0) from clk (by omega) (by decide), show F_X1_clockOf (I32 c) (1 : Int32) = I32 (ck c 1) from clk (by omega) (by decide), show F_X1_clockOf (I32 c) (2 : Int32) = I32 (ck c 2) from clk (by omega) (by decide), thn_i, thn_i, thn_i, et, codeOf_n, e, bind_some9]
      by_cases q3 : alw s (aft s l c)
      · rw [if_pos (show bq (alw s (aft s l c)) = true from bq_t.mpr q3), if_pos (show bq (s (103 + 9 * l) = I32 (hb c) ∧ lnT s l c ∧ alw s (aft s l c)) = true from bq_t.mpr ⟨q1, q2, q3⟩)]
        rfl
      · rw [if_neg (show ¬ bq (alw s (aft s l c)) = true from fun w => q3 (bq_t.mp w)), if_neg (show ¬ bq (s (103 + 9 * l) = I32 (hb c) ∧ lnT s l c ∧ alw s (aft s l c)) = true from fun w => q3 (bq_t.mp w).2.2)]
        rfl
    · rw [if_pos ((fl_0 fv).mpr q2), bq_f.mpr (fun w => q2 w.2.1)]
      rfl
  · rw [if_neg q1, bq_f.mpr (fun w => q1 w.1)]
    rfl
theorem mo_stay (S : MS) {p k : Nat} (hp : p ≤ 5) (hk : k < 3) : P_X4_stay (I32 p) (I32 k) S = some (S.1 0 (84 + (3 * p + k))) := by
  unfold P_X4_stay
  rw [rd_i (show ix _ (84 + (3 * p + k)) (mlen 0) from ix84 p (by omega) k hk)]
  rfl
theorem m_ticked (e0 : S.1 0 = s) (hcs : ∀ i, i < 18 → isC 10 (s (84 + i))) (hc : c < 7986) : P_X4_ticked (I32 c) S = some (oi (nT s c)) := by
  have h5 := hb_le hc
  have c0 := ck_le c 0
  have c1 := ck_le c 1
  have c2 := ck_le c 2
  obtain ⟨v, ev, fv⟩ := lp_and (Q := fun k => sv s (hb c) k = 10 ∨ ck c k + 1 ≤ sv s (hb c) k) (P := True) (x0 := 1) (B := fun y => P_X4_ticked_B11 (I32 c) (I32 (hb c)) y.1 y.2 S) 3 (by decide) (Or.inl ⟨rfl, True.intro⟩) (fun k hk x => by
    obtain ⟨e1, e2⟩ := sv_of hcs h5 hk
    have cl := ck_le c k
    have es : P_X4_stay (I32 (hb c)) (I32 k) S = some (I32 (sv s (hb c) k)) := by rw [mo_stay S h5 hk, e0, e1]
    show ∃ y, P_X4_ticked_B11 (I32 c) (I32 (hb c)) x (I32 k) S = _ ∧ _
    unfold P_X4_ticked_B11
    rw [if_neg (nge3 hk)]
    by_cases hx : x = 0
    · rw [if_pos hx, i32s k (by omega)]
      exact ⟨0, rfl, fun _ => rfl, fun q => absurd hx q⟩
    · rw [if_neg hx, es, bind_some9]
      by_cases q : sv s (hb c) k = 10
      · rw [if_pos ((i32e10 (by omega)).mpr q), i32s k (by omega)]
        exact ⟨_, rfl, fun q => absurd q hx, fun _ => Or.inl ⟨rfl, Or.inl q⟩⟩
      · rw [if_neg (fun w => q ((i32e10 (by omega)).mp w)), bind_some9, clkM (by omega) hk, i32s k (by omega), i32s _ (by omega)]
        exact ⟨_, rfl, fun q => absurd q hx, fun _ => fl_congr fl_neg (by rw [i32lt (by omega) (by omega)]; omega)⟩) (fun x => by
    show P_X4_ticked_B11 (I32 c) (I32 (hb c)) x (I32 3) S = _
    unfold P_X4_ticked_B11
    exact if_pos (by decide))
  have fv2 : fl v (alw s (nxt c)) := fl_congr fv ((show (True ∧ ∀ k, k < 3 → sv s (hb c) k = 10 ∨ ck c k + 1 ≤ sv s (hb c) k) ↔ ∀ k, k < 3 → sv s (hb c) k = 10 ∨ ck c k + 1 ≤ sv s (hb c) k from ⟨fun q => q.2, fun q => ⟨True.intro, q⟩⟩).trans (alw_nxt (fun k hk => (sv_of hcs h5 hk).2)).symm)
  unfold P_X4_ticked
  rw [hb_of (by omega), ev, bind_some9, show F_X4_clockAt (I32 c) (0 : Int32) = I32 (ck c 0) from clkM (by omega) (by decide), show F_X4_clockAt (I32 c) (1 : Int32) = I32 (ck c 1) from clkM (by omega) (by decide), show F_X4_clockAt (I32 c) (2 : Int32) = I32 (ck c 2) from clkM (by omega) (by decide), i32s _ (by omega), i32s _ (by omega), i32s _ (by omega), less_10 (by omega), less_10 (by omega), less_10 (by omega), momentAt_n]
  unfold nT
  by_cases q : alw s (nxt c)
  · rw [if_neg (fun z => (fl_0 fv2).mp z q), if_pos (bq_t.mpr q)]
    rfl
  · rw [if_pos ((fl_0 fv2).mpr q), bq_f.mpr q]
    rfl
theorem m_behind (e0 : S.1 0 = s) (hcs : ∀ i, i < 18 → isC 10 (s (84 + i))) (hk : lineOK s l) (hl : l < 10) (hc : c < 7986) {k : Nat} (h3 : k < 3) : ∃ v, P_X4_behind (I32 c) (I32 l) (I32 k) S = some v ∧ ((v = I32 (thn s l c k) ∧ (lv s l k ≤ ck c k ∧ (mvv s l k = 10 ∨ ck c k ≤ mvv s l k)) ∧ (sv s (too s l) k = 10 ∨ thn s l c k ≤ sv s (too s l) k)) ∨ (v = -1 ∧ ¬ ((lv s l k ≤ ck c k ∧ (mvv s l k = 10 ∨ ck c k ≤ mvv s l k)) ∧ (sv s (too s l) k = 10 ∨ thn s l c k ≤ sv s (too s l) k)))) := by
  obtain ⟨t5, et⟩ := too_ok hk
  obtain ⟨a1, a2⟩ := lv_of hk h3
  obtain ⟨b1, b2⟩ := mvv_of hk h3
  obtain ⟨s1, s2⟩ := sv_of hcs t5 h3
  have cl := ck_le c k
  have tl := thn_le s l c k
  have ln : ∀ j, j < 9 → P_X4_line (I32 l) (I32 j) S = some (s (103 + 9 * l + j)) := fun j hj => by rw [m_line S hl hj, e0]
  have l5 : P_X4_line (I32 l) ((5 : Int32) + I32 k) S = some (I32 (mvv s l k)) := by rw [show (5 : Int32) + I32 k = I32 (5 + k) from big_add 5 k, ln _ (by omega), show 103 + 9 * l + (5 + k) = 108 + 9 * l + k by omega, b1]
  have l2 : P_X4_line (I32 l) ((2 : Int32) + I32 k) S = some (I32 (lv s l k)) := by rw [show (2 : Int32) + I32 k = I32 (2 + k) from big_add 2 k, ln _ (by omega), show 103 + 9 * l + (2 + k) = 105 + 9 * l + k by omega, a1]
  have l8 : P_X4_line (I32 l) (8 : Int32) S = some (s (111 + 9 * l)) := by rw [show P_X4_line (I32 l) (8 : Int32) S = some (s (103 + 9 * l + 8)) from ln 8 (by decide), show 103 + 9 * l + 8 = 111 + 9 * l by omega]
  have l1 : P_X4_line (I32 l) (1 : Int32) S = some (I32 (too s l)) := by rw [show P_X4_line (I32 l) (1 : Int32) S = some (s (103 + 9 * l + 1)) from ln 1 (by decide), show 103 + 9 * l + 1 = 104 + 9 * l by omega, et]
  have es : P_X4_stay (I32 (too s l)) (I32 k) S = some (I32 (sv s (too s l) k)) := by rw [mo_stay S t5 h3, e0, s1]
  have et2 : (if ((s (111 + 9 * l) >>> (I32 k &&& 31)) &&& (1 : Int32)) = (1 : Int32) then (0 : Int32) else I32 (ck c k)) = I32 (thn s l c k) := by
    unfold thn lbit
    by_cases q : ((s (111 + 9 * l) >>> (I32 k &&& 31)) &&& (1 : Int32)) = (1 : Int32)
    · rw [if_pos q, if_pos (decide_eq_true q)]
      rfl
    · rw [if_neg q, if_neg (fun w => q (of_decide_eq_true w))]
  have T : (lv s l k ≤ ck c k ∧ (mvv s l k = 10 ∨ ck c k ≤ mvv s l k)) → ∃ v, P_X4_behind_T46 (I32 c) (I32 l) (I32 k) (I32 (ck c k)) S = some v ∧ ((v = I32 (thn s l c k) ∧ (lv s l k ≤ ck c k ∧ (mvv s l k = 10 ∨ ck c k ≤ mvv s l k)) ∧ (sv s (too s l) k = 10 ∨ thn s l c k ≤ sv s (too s l) k)) ∨ (v = -1 ∧ ¬ ((lv s l k ≤ ck c k ∧ (mvv s l k = 10 ∨ ck c k ≤ mvv s l k)) ∧ (sv s (too s l) k = 10 ∨ thn s l c k ≤ sv s (too s l) k)))) := fun hT => by
    unfold P_X4_behind_T46
    rw [l8, bind_some9, l1, bind_some9, es, bind_some9, et2]
    by_cases q : sv s (too s l) k = 10
    · rw [if_pos ((i32e10 (by omega)).mpr q)]
      exact ⟨_, rfl, Or.inl ⟨rfl, hT, Or.inl q⟩⟩
    · rw [if_neg (fun w => q ((i32e10 (by omega)).mp w))]
      by_cases q2 : thn s l c k ≤ sv s (too s l) k
      · rw [if_pos ((i32le (by omega) (by omega)).mpr q2)]
        exact ⟨_, rfl, Or.inl ⟨rfl, hT, Or.inr q2⟩⟩
      · rw [if_neg (fun w => q2 ((i32le (by omega) (by omega)).mp w))]
        exact ⟨_, rfl, Or.inr ⟨rfl, fun w => w.2.elim q q2⟩⟩
  unfold P_X4_behind
  rw [l5, bind_some9, l2, bind_some9, clkM (by omega) h3]
  by_cases q1 : ck c k < lv s l k
  · rw [if_pos ((i32lt (by omega) (by omega)).mpr q1)]
    exact ⟨_, rfl, Or.inr ⟨rfl, fun w => by have := w.1.1; omega⟩⟩
  · rw [if_neg (fun w => q1 ((i32lt (by omega) (by omega)).mp w))]
    by_cases q2 : mvv s l k = 10
    · rw [if_pos ((i32e10 (by omega)).mpr q2)]
      exact T ⟨by omega, Or.inl q2⟩
    · rw [if_neg (fun w => q2 ((i32e10 (by omega)).mp w))]
      by_cases q3 : ck c k ≤ mvv s l k
      · rw [if_pos ((i32le (by omega) (by omega)).mpr q3)]
        exact T ⟨by omega, Or.inr q3⟩
      · rw [if_neg (fun w => q3 ((i32le (by omega) (by omega)).mp w))]
        exact ⟨_, rfl, Or.inr ⟨rfl, fun w => w.1.2.elim q2 q3⟩⟩
theorem m_carried (e0 : S.1 0 = s) (hcs : ∀ i, i < 18 → isC 10 (s (84 + i))) (hk : lineOK s l) (hl : l < 10) (hc : c < 7986) : P_X4_carried (I32 c) (I32 l) S = some (oi (nL s l c)) := by
  obtain ⟨t5, et⟩ := too_ok hk
  have ln : ∀ j, j < 9 → P_X4_line (I32 l) (I32 j) S = some (s (103 + 9 * l + j)) := fun j hj => by rw [m_line S hl hj, e0]
  have l0 : P_X4_line (I32 l) (0 : Int32) S = some (s (103 + 9 * l)) := ln 0 (by decide)
  have l1 : P_X4_line (I32 l) (1 : Int32) S = some (I32 (too s l)) := by rw [show P_X4_line (I32 l) (1 : Int32) S = some (s (103 + 9 * l + 1)) from ln 1 (by decide), show 103 + 9 * l + 1 = 104 + 9 * l by omega, et]
  obtain ⟨x, ex, hx⟩ := m_behind e0 hcs hk hl hc (k := 0) (by decide)
  obtain ⟨y, ey, hy⟩ := m_behind e0 hcs hk hl hc (k := 1) (by decide)
  obtain ⟨u, eu, hu⟩ := m_behind e0 hcs hk hl hc (k := 2) (by decide)
  have ex : P_X4_behind (I32 c) (I32 l) (0 : Int32) S = some x := ex
  have ey : P_X4_behind (I32 c) (I32 l) (1 : Int32) S = some y := ey
  have eu : P_X4_behind (I32 c) (I32 l) (2 : Int32) S = some u := eu
  have nz : ∀ k, ¬ I32 (thn s l c k) < 0 := fun k => (ix_of _ 20 (by have := thn_le s l c k; omega) (by decide)).1
  have bad : ∀ k, k < 3 → ¬ ((lv s l k ≤ ck c k ∧ (mvv s l k = 10 ∨ ck c k ≤ mvv s l k)) ∧ (sv s (too s l) k = 10 ∨ thn s l c k ≤ sv s (too s l) k)) → nL s l c = none := fun k h3 q => by
    unfold nL
    rw [bq_f.mpr (fun w => q ⟨w.2.1 k h3, alw_aft.mp w.2.2 k h3⟩)]
    rfl
  unfold P_X4_carried
  rw [ex, bind_some9, ey, bind_some9, eu, bind_some9, l0, bind_some9, hb_of (by omega)]
  by_cases q1 : s (103 + 9 * l) = I32 (hb c)
  · rw [if_pos q1]
    rcases hx with ⟨rfl, x1, x2⟩ | ⟨rfl, x1⟩
    · rcases hy with ⟨rfl, y1, y2⟩ | ⟨rfl, y1⟩
      · rcases hu with ⟨rfl, u1, u2⟩ | ⟨rfl, u1⟩
        · have all : ∀ P : Nat → Prop, P 0 → P 1 → P 2 → ∀ k, k < 3 → P k := fun P a b d k h3 => by
            have : k = 0 ∨ k = 1 ∨ k = 2 := by omega
            rcases this with rfl | rfl | rfl
            · exact a
            · exact b
            · exact d
          rw [if_neg (nz 0), if_neg (nz 1), if_neg (nz 2), if_neg (by decide), l1, bind_some9, momentAt_n]
          unfold nL
          rw [if_pos (bq_t.mpr ⟨q1, all _ x1 y1 u1, alw_aft.mpr (all _ x2 y2 u2)⟩)]
          rfl
        · rw [if_neg (nz 0), if_neg (nz 1), if_pos (show (-1 : Int32) < 0 by decide), if_pos rfl, bad 2 (by decide) u1]
          rfl
      · rw [if_neg (nz 0), if_pos (show (-1 : Int32) < 0 by decide), if_pos rfl, bad 1 (by decide) y1]
        rfl
    · rw [if_pos (show (-1 : Int32) < 0 by decide), if_pos rfl, bad 0 (by decide) x1]
      rfl
  · rw [if_neg q1, if_pos rfl]
    unfold nL
    rw [bq_f.mpr (fun w => q1 w.1)]
    rfl
end MO2
