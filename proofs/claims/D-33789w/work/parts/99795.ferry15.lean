/-! ferries: all lines of a stop, all stops, the model's side -/
section FY15
variable {S : MS} {s : Nat → Int32} {N n k : Nat} {g : Nat → SP}
theorem m_lineStep (e0 : S.1 0 = s) (G : GoodS s) (hN : N ≤ 10) (h102 : s 102 = I32 N) (hL : ∀ l, l < N → lineOK s l) (M : MSt S n g) (W : SW n g) (hn : n ≤ 120) (hk : k < n) {l : Nat} (hl : l < N) : ∃ S' n' g', P_X4_spreads_B81 (I32 k) (I32 l) S = some (.inl (I32 (l + 1), S')) ∧ oline s (g k) l (n, g) = (n', g') ∧ MSt S' n' g' ∧ FK S S' := by
  obtain ⟨M1, M2, M3⟩ := id M
  obtain ⟨q1, q2, q3⟩ := M3 k hk
  have hW := W k hk
  have hlk := hL l hl
  obtain ⟨t5, et⟩ := too_ok hlk
  have r102 : rd S 0 (102 : Int32) = some (I32 N) := by
    rw [rd_i (show ix (102 : Int32) 102 (mlen 0) from ix_of 102 194 (by decide) (by decide)), e0, h102]
  have pg : ∀ X : MS, X.2.1 16 = I32 n → pgI X 16 = some (I32 n) := fun X hX => by
    unfold pgI
    rw [hX]
  have ln : ∀ (X : MS) (j : Nat), X.1 0 = s → j < 9 → P_X4_line (I32 l) (I32 j) X = some (s (103 + 9 * l + j)) := fun X j hX hj => by rw [m_line X (by omega) hj, hX]
  have e27 : P_X4_line (I32 l) (0 : Int32) S = some (s (103 + 9 * l)) := ln S 0 e0 (by decide)
  have e29 : rd S 14 (I32 k) = some (I32 (g k).1) := by
    rw [rd_i (show ix (I32 k) k (mlen 14) from ix_of k 121 (by omega) (by decide)), q1]
  unfold P_X4_spreads_B81
  rw [r102, bind_some9, if_neg (fun c => by rw [i32le (by omega) (by omega)] at c; omega), pg S M1, bind_some9, if_neg (fun c => by have c := Int32.lt_iff_toInt_lt.mp c; rw [i32t (by omega), show (120 : Int32).toInt = 120 from rfl] at c; omega), e27, bind_some9, e29, bind_some9]
  by_cases ef : s (103 + 9 * l) = I32 (g k).1
  · obtain ⟨v, t, eg, hc⟩ := m_goes (S := S) (N := N) (k := k) (by rw [e0]; exact G) hN hl (by rw [e0]; exact hlk) (by omega) q3 hW.2.1
    rw [e0] at hc
    have kt : FK S (setA S 9 t) := (FK.rf S).a (Or.inl rfl) t
    have s9 : ∀ K, K ≠ 9 → (setA S 9 t).1 K = S.1 K := fun K hK => setA_ne _ _ hK
    have Mt : MSt (setA S 9 t) n g := ⟨M1, M2, fun i hi => by rw [s9 14 (by decide), s9 15 (by decide), s9 13 (by decide)]; exact M3 i hi⟩
    rw [if_pos ef, eg, pb2_s]
    rcases hc with ⟨rfl, oN⟩ | ⟨rfl, E, oS, rE⟩
    · rw [if_pos rfl]
      unfold P_X4_spreads_T147
      rw [if_pos rfl, i32s l (by omega)]
      exact ⟨_, n, g, rfl, oline_none ef oN, Mt, kt⟩
    · have e43 : P_X4_line (I32 l) (1 : Int32) (setA S 9 t) = some (I32 (too s l)) := by
        rw [show P_X4_line (I32 l) (1 : Int32) (setA S 9 t) = some (s (103 + 9 * l + 1)) from ln _ 1 ((s9 0 (by decide)).trans e0) (by decide), show 103 + 9 * l + 1 = 104 + 9 * l by omega, et]
      obtain ⟨v2, e45, f45⟩ := m_isNew Mt W (show rep 100000 ((setA S 9 t).1 9) E by rw [setA_get]; exact rE) t5
      rw [if_neg (by decide), e43, bind_some9, e45, bind_some9]
      unfold P_X4_spreads_T147
      by_cases kn : knw (too s l) E n g
      · rw [if_pos ((fl_0 f45).mpr (fun q => q kn)), if_pos rfl, i32s l (by omega)]
        exact ⟨_, n, g, rfl, oline_known (st := (n, g)) ef oS kn, Mt, kt⟩
      · have e34 : rd (setA S 9 t) 15 (I32 k) = some (I32 (g k).2.2) := by
          rw [rd_i (show ix (I32 k) k (mlen 15) from ix_of k 121 (by omega) (by decide)), s9 15 (by decide), q2]
        have hw := hW.2.2
        obtain ⟨S', ea, ka, Ma⟩ := m_adds (p := too s l) (w := (g k).2.2 + 1) Mt hn (show rep 100000 ((setA S 9 t).1 9) E by rw [setA_get]; exact rE)
        rw [if_neg (fun q => (fl_0 f45).mp q kn), if_neg (by decide), e43, bind_some9, e34, bind_some9, i32s _ (by omega), ea, bind_some9, i32s l (by omega)]
        exact ⟨S', _, _, rfl, oline_new (st := (n, g)) ef oS kn, Ma, kt.tr ka⟩
  · rw [if_neg ef]
    unfold P_X4_spreads_T147
    rw [if_pos rfl, i32s l (by omega)]
    exact ⟨S, n, g, rfl, oline_ne ef, M, FK.rf S⟩
/-- how far the model is: as the plain function, or both have too many -/
def Far (S0 S : MS) (R : Nat × (Nat → SP)) : Prop := ∃ n g, MSt S n g ∧ SW n g ∧ FK S0 S ∧ (R = (n, g) ∨ (120 < n ∧ 120 < R.1))
theorem m_lines (e0 : S.1 0 = s) (G : GoodS s) (hN : N ≤ 10) (h102 : s 102 = I32 N) (hL : ∀ l, l < N → lineOK s l) (M : MSt S n g) (W : SW n g) (hn : n ≤ 120) (hk : k < n) : ∃ S', lp (fun y => P_X4_spreads_B81 (I32 k) y.1 y.2) 100000 ((0 : Int32), S) = some S' ∧ Far S S' (oin s (g k) N (n, g)) := by
  refine lp_mea (B := fun y => P_X4_spreads_B81 (I32 k) y.1 y.2) (Q := fun Y => Far S Y (oin s (g k) N (n, g))) (fun y => ∃ l n' g', y.1 = I32 l ∧ l ≤ N ∧ oin s (g k) l (n, g) = (n', g') ∧ MSt y.2 n' g' ∧ SW n' g' ∧ FK S y.2 ∧ n ≤ n' ∧ g' k = g k) (fun y => 20 - y.1.toNatClampNeg) (fun y hy => ?_) 100000 ((0 : Int32), S) ⟨0, n, g, rfl, Nat.zero_le _, rfl, M, W, FK.rf S, Nat.le_refl _, rfl⟩ (by show 20 - _ < 100000; omega)
  obtain ⟨x, Y⟩ := y
  obtain ⟨l, n', g', e1, hl, r1, r2, r3, r4, r5, r6⟩ := hy
  have e1 : x = I32 l := e1
  subst e1
  have r2 : MSt Y n' g' := r2
  have r4 : FK S Y := r4
  have e0' : Y.1 0 = s := r4.e0.trans e0
  have r102 : rd Y 0 (102 : Int32) = some (I32 N) := by
    rw [rd_i (show ix (102 : Int32) 102 (mlen 0) from ix_of 102 194 (by decide) (by decide)), e0', h102]
  by_cases c1 : l < N
  · by_cases c2 : n' ≤ 120
    · obtain ⟨S', n2, g2, e2, o2, M2, k2⟩ := m_lineStep e0' G hN h102 hL r2 r3 c2 (k := k) (by omega) c1
      have sw := oline_SW (n := n') (g := g') (i := k) (n' := n2) (g' := g2) (hL l c1) G.2.2.2.1 r3 (by omega) o2
      obtain ⟨s1, s2, s3, s4, s5⟩ := sw
      rw [r6] at o2
      refine Or.inl ⟨(I32 (l + 1), S'), e2, ⟨l + 1, n2, g2, rfl, c1, ?_, M2, s3, r4.tr k2, by omega, by rw [s4 k (by omega), r6]⟩, ?_⟩
      · show oline s (g k) l (oin s (g k) l (n, g)) = _
        rw [r1]
        exact o2
      · show 20 - (I32 (l + 1)).toNatClampNeg < 20 - (I32 l).toNatClampNeg
        rw [(ix_of (l + 1) 200 (by omega) (by decide)).2.1, (ix_of l 200 (by omega) (by decide)).2.1]
        omega
    · refine Or.inr ⟨Y, ?_, n', g', r2, r3, r4, Or.inr ⟨by omega, ?_⟩⟩
      · show P_X4_spreads_B81 (I32 k) (I32 l) Y = _
        unfold P_X4_spreads_B81 pgI
        rw [r102, bind_some9, if_neg (fun c => by rw [i32le (by omega) (by omega)] at c; omega), r2.1, bind_some9, if_pos (Int32.lt_iff_toInt_lt.mpr (by have := r2.2.1; rw [i32t (by omega), show (120 : Int32).toInt = 120 from rfl]; omega))]
      · have := oin_ge (s := s) (e := g k) (st := (n, g)) l N hl
        rw [r1] at this
        have this : n' ≤ (oin s (g k) N (n, g)).1 := this
        omega
  · have : l = N := by omega
    subst this
    refine Or.inr ⟨Y, ?_, n', g', r2, r3, r4, Or.inl r1⟩
    show P_X4_spreads_B81 (I32 k) (I32 l) Y = _
    unfold P_X4_spreads_B81
    rw [r102, bind_some9, if_pos (Int32.le_refl _)]
theorem m_stops (e0 : S.1 0 = s) (G : GoodS s) (hN : N ≤ 10) (h102 : s 102 = I32 N) (hL : ∀ l, l < N → lineOK s l) (M : MSt S n g) (W : SW n g) : ∃ S', lp (fun y => P_X4_spreads_B61 y.1 y.2) 100000 ((0 : Int32), S) = some S' ∧ Far S S' (oend s N (n, g)) := by
  refine lp_mea (B := fun y => P_X4_spreads_B61 y.1 y.2) (Q := fun Y => Far S Y (oend s N (n, g))) (fun y => ∃ k, y.1 = I32 k ∧ k ≤ 120 ∧ Far S y.2 (oout s N k (n, g))) (fun y => 200 - y.1.toNatClampNeg) (fun y hy => ?_) 100000 ((0 : Int32), S) ⟨0, rfl, Nat.zero_le _, n, g, M, W, FK.rf S, Or.inl rfl⟩ (by show 200 - _ < 100000; omega)
  obtain ⟨x, Y⟩ := y
  obtain ⟨k, e1, hk, n', g', r2, r3, r4, r5⟩ := hy
  have e1 : x = I32 k := e1
  subst e1
  have r2 : MSt Y n' g' := r2
  have r4 : FK S Y := r4
  have e0' : Y.1 0 = s := r4.e0.trans e0
  have h121 := r2.2.1
  have pg : pgI Y 16 = some (I32 n') := by
    unfold pgI
    rw [r2.1]
  by_cases c2 : n' ≤ 120
  · have r1 : oout s N k (n, g) = (n', g') := r5.elim id (fun q => absurd q.1 (by omega))
    by_cases c1 : k < n'
    · obtain ⟨S', e2, n2, g2, M2, W2, k2, h2⟩ := m_lines (k := k) e0' G hN h102 hL r2 r3 c2 c1
      refine Or.inl ⟨(I32 (k + 1), S'), ?_, ⟨k + 1, rfl, by omega, n2, g2, M2, W2, r4.tr k2, ?_⟩, ?_⟩
      · show P_X4_spreads_B61 (I32 k) Y = _
        unfold P_X4_spreads_B61
        rw [pg, bind_some9, if_neg (fun c => by rw [i32le (by omega) (by omega)] at c; omega), bind_some9, if_neg (fun c => by have c := Int32.lt_iff_toInt_lt.mp c; rw [i32t (by omega), show (120 : Int32).toInt = 120 from rfl] at c; omega), e2, bind_some9, i32s k (by omega)]
      · rw [oout_step r1 ⟨c1, c2⟩]
        exact h2
      · show 200 - (I32 (k + 1)).toNatClampNeg < 200 - (I32 k).toNatClampNeg
        rw [(ix_of (k + 1) 200 (by omega) (by decide)).2.1, (ix_of k 200 (by omega) (by decide)).2.1]
        omega
    · refine Or.inr ⟨Y, ?_, n', g', r2, r3, r4, Or.inl (oout_end r1 (by omega) (by omega))⟩
      show P_X4_spreads_B61 (I32 k) Y = _
      unfold P_X4_spreads_B61
      rw [pg, bind_some9, if_pos ((i32le (by omega) (by omega)).mpr (by omega))]
  · refine Or.inr ⟨Y, ?_, n', g', r2, r3, r4, Or.inr ⟨by omega, ?_⟩⟩
    · show P_X4_spreads_B61 (I32 k) Y = _
      unfold P_X4_spreads_B61
      rw [pg, bind_some9]
      by_cases q1 : n' ≤ k
      · rw [if_pos ((i32le (by omega) (by omega)).mpr q1)]
      · rw [if_neg (fun c => q1 ((i32le (by omega) (by omega)).mp c)), bind_some9, if_pos (Int32.lt_iff_toInt_lt.mpr (by rw [i32t (by omega), show (120 : Int32).toInt = 120 from rfl]; omega))]
    · obtain ⟨n3, g3, e3⟩ : ∃ n3 g3, oout s N k (n, g) = (n3, g3) := ⟨_, _, rfl⟩
      have h3 : 120 < n3 := by
        rcases r5 with q | q
        · rw [q] at e3
          cases e3
          omega
        · have := q.2
          rw [e3] at this
          exact this
      rw [oout_end e3 (by omega) (by omega)]
      exact h3
end FY15
