/-! ferries: widening, a line from a stop, the model's side -/
theorem wid_ix : ∀ k, k < 16 → ((I32 k / (4 : Int32)) = (I32 k - I32 k / (4 : Int32) * (4 : Int32)) ↔ k / 4 = k % 4) := by decide
theorem m_widens (S : MS) {d : ZS} {D : OD} (hr : rep 100000 d D) (hd : dg0 D) (ec : EC (owiden D)) : ∃ d', P_X4_widens (setA S 9 d) = some (setA S 9 d') ∧ rep 100000 d' (otl (owiden D) 4) := by
  obtain ⟨Y, eL, d', e2, rd'⟩ := lp_inv0 (B := fun y => P_X4_widens_B2 y.1 y.2) (Q := fun Y => ∃ d', Y = setA S 9 d' ∧ rep 100000 d' (owiden D)) (fuel := 100000) (x := ((0 : Int32), setA S 9 d)) (fun j y => y.1 = I32 j ∧ ∃ d', y.2 = setA S 9 d' ∧ ∀ i, i < 16 → rep1 100000 (d' i) (if i < j then owiden D i else D i)) 16 (fun j hj y hy => by
    obtain ⟨x, Y⟩ := y
    obtain ⟨e1, d1, e2, r1⟩ := hy
    have e1 : x = I32 j := e1
    have e3 : Y = setA S 9 d1 := e2
    clear e2
    subst e1
    subst e3
    have hix : ix (I32 j) j (mlen 9) := ix_of j 16 hj (by decide)
    have rj : rep1 100000 (d1 j) (D j) := by
      have := r1 j hj
      rwa [if_neg (Nat.lt_irrefl j)] at this
    have fin : ∀ x, rep1 100000 x (owid1 (D j)) → ∀ i, i < 16 → rep1 100000 (upd d1 j x i) (if i < j + 1 then owiden D i else D i) := fun x hx i hi => by
      unfold upd
      by_cases e : i = j
      · subst e
        rw [if_pos rfl, if_pos (Nat.lt_succ_self i)]
        exact hx
      · rw [if_neg e]
        have := r1 i hi
        by_cases q : i < j
        · rw [if_pos q] at this
          rw [if_pos (by omega)]
          exact this
        · rw [if_neg q] at this
          rw [if_neg (by omega)]
          exact this
    have T0 : (d1 j).toInt ≤ 9 → ∃ z', P_X4_widens_T33 (I32 j) (0 : Int32) (setA S 9 d1) = some (.inl (I32 (j + 1), setA S 9 z')) ∧ ∀ i, i < 16 → rep1 100000 (z' i) (if i < j + 1 then owiden D i else D i) := fun h9 => by
      unfold P_X4_widens_T33
      rw [if_pos rfl, rd_i hix, bind_some9, wr_i _ hix, bind_some9, setA_get, setA_set, i32s j (by omega), more_max]
      refine ⟨_, rfl, fin _ ?_⟩
      cases e : D j with
      | none =>
        rw [e] at rj
        have rj : d1 j = 100000 := rj
        rw [rj] at h9
        exact absurd h9 (by decide)
      | some t =>
        rw [e] at rj
        show rep1 100000 _ (if 9 < t then none else some (if t < -10 then -10 else t))
        have ht := rj.1
        rw [if_neg (show ¬ 9 < t by omega)]
        by_cases q : t < -10
        · rw [if_pos q, if_pos (Int32.lt_iff_toInt_lt.mpr (by rw [ht, show (-10 : Int32).toInt = -10 from rfl]; exact q))]
          exact ⟨by decide, by decide⟩
        · rw [if_neg q, if_neg (fun w => q (by have := Int32.lt_iff_toInt_lt.mp w; rw [ht, show (-10 : Int32).toInt = -10 from rfl] at this; exact this))]
          exact ⟨ht, by omega⟩
    have T1 : 9 < (d1 j).toInt → ∃ z', P_X4_widens_T33 (I32 j) (1 : Int32) (setA S 9 d1) = some (.inl (I32 (j + 1), setA S 9 z')) ∧ ∀ i, i < 16 → rep1 100000 (z' i) (if i < j + 1 then owiden D i else D i) := fun h9 => by
      unfold P_X4_widens_T33
      rw [if_neg (by decide), wr_i _ hix, bind_some9, setA_get, setA_set, i32s j (by omega)]
      refine ⟨_, rfl, fin _ ?_⟩
      cases e : D j with
      | none => rfl
      | some t =>
        rw [e] at rj
        show rep1 100000 _ (if 9 < t then none else some (if t < -10 then -10 else t))
        have ht := rj.1
        rw [if_pos (show 9 < t by omega)]
        rfl
    have sB : ∃ z', P_X4_widens_B2 (I32 j) (setA S 9 d1) = some (.inl (I32 (j + 1), setA S 9 z')) ∧ ∀ i, i < 16 → rep1 100000 (z' i) (if i < j + 1 then owiden D i else D i) := by
      unfold P_X4_widens_B2
      rw [if_neg (n16 hj)]
      by_cases q : j / 4 = j % 4
      · rw [if_pos ((wid_ix j hj).mpr q)]
        refine T0 ?_
        have ej : D j = some 0 := by
          have := hd (j / 4) (by omega)
          rwa [show 5 * (j / 4) = j by omega] at this
        rw [ej] at rj
        rw [rj.1]
        decide
      · rw [if_neg (fun w => q ((wid_ix j hj).mp w)), rd_i hix, bind_some9, setA_get]
        by_cases q2 : d1 j ≤ (9 : Int32)
        · rw [if_pos q2]
          exact T0 (Int32.le_iff_toInt_le.mp q2)
        · rw [if_neg q2]
          exact T1 (Int.not_le.mp (fun w => q2 (Int32.le_iff_toInt_le.mpr w)))
    obtain ⟨z', eB, rB⟩ := sB
    exact ⟨_, eB, rfl, z', rfl, rB⟩) (fun y hy => by
    obtain ⟨x, Y⟩ := y
    obtain ⟨e1, d1, e2, r1⟩ := hy
    have e1 : x = I32 16 := e1
    subst e1
    refine ⟨Y, ?_, d1, e2, fun i hi => ?_⟩
    · show P_X4_widens_B2 (I32 16) Y = _
      unfold P_X4_widens_B2
      exact if_pos (by decide)
    · have := r1 i hi
      rwa [if_pos hi] at this) ⟨rfl, d, rfl, fun i hi => by rw [if_neg (Nat.not_lt_zero i)]; exact hr i hi⟩ (by decide)
  obtain ⟨v, t, et, rt, fv⟩ := m_tightens (K := 9) rfl S rd' ec.RG
  refine ⟨t, ?_, rt⟩
  unfold P_X4_widens
  rw [eL, bind_some9, e2, et, pb2_s]
theorem ocnt_3 (T : OD) : ∃ m, m ≤ 3 ∧ ocnt T 3 = I32 m := by
  have h : ∀ k, k ≤ 3 → ∃ m, m ≤ k ∧ ocnt T k = I32 m := fun k => by
    induction k with
    | zero => exact fun _ => ⟨0, Nat.le_refl _, rfl⟩
    | succ k ih =>
      intro hk
      obtain ⟨m, hm, e⟩ := ih (by omega)
      show ∃ m, _ ∧ ocnt T k + c01 (T (4 * k + 3)) = I32 m
      rw [e]
      cases T (4 * k + 3) with
      | none => exact ⟨m, by omega, Int32.add_zero _⟩
      | some t => exact ⟨m + 1, by omega, i32s m (by omega)⟩
  exact h 3 (Nat.le_refl _)
theorem ocnt_ge (T : OD) : ¬ ocnt T 3 < 0 := by
  obtain ⟨m, hm, e⟩ := ocnt_3 T
  rw [e]
  exact (ix_of m 4 (by omega) (by decide)).1
section FY12
variable {S : MS} {N k l p : Nat} {d : ZS} {D T : OD}
theorem m_staysS (G : GoodS (S.1 0)) (hp : p < 6) (rd : rep 100000 d D) (ec : EC (okp 3 (st3 (S.1 0) p) D)) : ∃ v t, P_X4_staysIn (I32 p) (setA S 9 d) = some (v, setA S 9 t) ∧ rep 100000 t (oE3 (S.1 0) p D) ∧ fl v (nn (oE3 (S.1 0) p D)) := m_staysIn G hp rd ec
theorem m_goes (G : GoodS (S.1 0)) (hN : N ≤ 10) (hl : l < N) (hk : lineOK (S.1 0) l) (k120 : k ≤ 120) (rT : rep 100000 (sub (S.1 13) (16 * k)) T) (kb : EB (-160) 27 T) : ∃ v t, P_X4_goes (I32 k) (I32 l) S = some (v, setA S 9 t) ∧ ((v = 0 ∧ ogoes (S.1 0) l (too (S.1 0) l) T = none) ∨ (v = 1 ∧ ∃ E, ogoes (S.1 0) l (too (S.1 0) l) T = some E ∧ rep 100000 t E)) := by
  have h13 : mlen 13 = 1936 := rfl
  have e1 : P_X4_carries 13 ((16 : Int32) * I32 k) 9 (0 : Int32) S = some (mov S 13 (16 * k) 9 0 16) := m_carries (o' := 0) S (by rw [show (16 : Int32) = I32 16 from rfl, i32mul (by decide) (by omega) (by omega)]) rfl (by rw [h13]; omega) (by decide) (by decide) (by decide) (Or.inl (by decide))
  have e1' : mov S 13 (16 * k) 9 0 16 = setA S 9 (fun i => if 0 ≤ i ∧ i < 0 + 16 then S.1 13 (16 * k + (i - 0)) else S.1 9 i) := rfl
  have r1 : rep 100000 (fun i => if 0 ≤ i ∧ i < 0 + 16 then S.1 13 (16 * k + (i - 0)) else S.1 9 i) T := rep_sub rT (fun i hi => by
    show (if _ then _ else _) = _
    rw [if_pos (by omega), Nat.sub_zero])
  obtain ⟨ec, rest⟩ := goes_ok hk kb
  obtain ⟨t5, et⟩ := too_ok hk
  have line1 : ∀ t, P_X4_line (I32 l) (1 : Int32) (setA S 9 t) = some (I32 (too (S.1 0) l)) := fun t => by
    rw [show P_X4_line (I32 l) (1 : Int32) (setA S 9 t) = some ((setA S 9 t).1 0 (103 + 9 * l + 1)) from m_line _ (k := 1) (by omega) (by decide), setA_ne _ _ (by decide), show 103 + 9 * l + 1 = 104 + 9 * l by omega, et]
  obtain ⟨v1, t1, en, rt1, f1⟩ := m_needs hN hl hk r1 ec
  have rt1 : rep 100000 t1 (oE1 (S.1 0) l T) := rt1
  have f1 : fl v1 (nn (oE1 (S.1 0) l T)) := f1
  unfold P_X4_goes
  rw [e1, bind_some9, e1', en, pb2_s]
  by_cases n1 : nn (oE1 (S.1 0) l T)
  · obtain ⟨ec1, k2⟩ := rest n1
    obtain ⟨t2, e2, rt2⟩ := m_lresets (S := S) (show l < 10 by omega) rt1 ec1 (I32 k)
    have rt2 : rep 100000 t2 (oE2 (S.1 0) l T) := rt2
    obtain ⟨ec3, rest3⟩ := stp_ok (s := S.1 0) (p := too (S.1 0) l) (fun c h3 => G.2.2.2.1 (3 * too (S.1 0) l + c) (by omega)) k2
    obtain ⟨v3, t3, e3, rt3, f3⟩ := m_staysS G (p := too (S.1 0) l) (by omega) rt2 ec3
    rw [if_neg (fun w => (fl_0 f1).mp w n1), e2, bind_some9, line1, bind_some9, e3, pb2_s]
    by_cases n3 : nn (oE3 (S.1 0) (too (S.1 0) l) (oE2 (S.1 0) l T))
    · obtain ⟨ec4, n4, dg4, ec5, n5', _⟩ := rest3 n3
      obtain ⟨t4, e4, rt4⟩ := m_delays S rt3
      obtain ⟨v5, t5', e5, rt5, f5⟩ := m_staysS G (p := too (S.1 0) l) (by omega) rt4 ec4
      obtain ⟨t6, e6, rt6⟩ := m_widens S rt5 dg4 ec5
      rw [if_neg (fun w => (fl_0 f3).mp w n3), e4, pb2_s, line1, bind_some9, e5, pb2_s, e6, bind_some9, if_neg (fun w => (fl_0 f5).mp w n4), if_neg (ocnt_ge _)]
      exact ⟨_, _, rfl, Or.inr ⟨rfl, _, ogoes_s n1 n3, rt6⟩⟩
    · rw [if_pos ((fl_0 f3).mpr n3)]
      exact ⟨_, _, rfl, Or.inl ⟨rfl, ogoes_n3 n1 n3⟩⟩
  · rw [if_pos ((fl_0 f1).mpr n1)]
    exact ⟨_, _, rfl, Or.inl ⟨rfl, ogoes_n1 n1⟩⟩
end FY12
