/-! ferries by moments: the loops, both sides at once -/
section MO4
variable {h0 h : HH} {S0 S : MS} {ta qa n dk N stD alD sh z arD capD : Nat} {tk : Nat → Option Nat} {q : Nat → Nat} {s f : Nat → Int32} {w0 : Int32} {qD : Nat → Option Nat} {la le mo : Nat → Nat}
theorem r_lines (o0 : OKH h0) (D : DW h0 dk s N stD alD sh z w0 f arD capD qD la le mo) (e0 : S0.1 0 = s) (h102 : s 102 = I32 N) (C : RC h0 h ta qa tk q n) (M : RM S0 S tk q n) (I : RI tk q n) {c w : Nat} (hc : c < 7986) (tc : tk c = some w) (hw : w ≤ 7986) (a3 x1 x2 x3 : Int32) : ∃ r1 S', lp (fun y => F_X2_spreads_B6 dk (I32 c) (I32 w) a3 (some ta) (some qa) y.1 y.2.1 y.2.2) 100000 (I32 n, (0 : Int32), h) = some r1 ∧ lp (fun y => P_X4_rides_B64 x1 x2 x3 (I32 c) y.1 y.2) 100000 ((0 : Int32), S) = some S' ∧ ∃ tk' q' n', r1.1 = I32 n' ∧ RC h0 r1.2 ta qa tk' q' n' ∧ RM S0 S' tk' q' n' ∧ RI tk' q' n' ∧ Ext tk q n tk' q' n' w := by
  have hN := D.2.2.2.2.1
  refine lp_two (B1 := fun y => F_X2_spreads_B6 dk (I32 c) (I32 w) a3 (some ta) (some qa) y.1 y.2.1 y.2.2) (B2 := fun y => P_X4_rides_B64 x1 x2 x3 (I32 c) y.1 y.2) (Q := fun r1 S' => ∃ tk' q' n', r1.1 = I32 n' ∧ RC h0 r1.2 ta qa tk' q' n' ∧ RM S0 S' tk' q' n' ∧ RI tk' q' n' ∧ Ext tk q n tk' q' n' w) (fun x y => ∃ l tk' q' n', l ≤ N ∧ x.1 = I32 n' ∧ x.2.1 = I32 l ∧ y.1 = I32 l ∧ RC h0 x.2.2 ta qa tk' q' n' ∧ RM S0 y.2 tk' q' n' ∧ RI tk' q' n' ∧ Ext tk q n tk' q' n' w) (fun x => 20 - x.2.1.toNatClampNeg) (fun x y hxy => ?_) 100000 (I32 n, (0 : Int32), h) ((0 : Int32), S) ⟨0, tk, q, n, Nat.zero_le _, rfl, rfl, rfl, C, M, I, Ext.rf _ _ _ _⟩ (by show 20 - _ < 100000; omega)
  obtain ⟨x1', x2', H⟩ := x
  obtain ⟨y1, Y⟩ := y
  obtain ⟨l, tk', q', n', hl, r1, r2, r3, C', M', I', X'⟩ := hxy
  have r1 : x1' = I32 n' := r1
  have r2 : x2' = I32 l := r2
  have r3 : y1 = I32 l := r3
  have C' : RC h0 H ta qa tk' q' n' := C'
  have M' : RM S0 Y tk' q' n' := M'
  subst r1
  subst r2
  subst r3
  have n7 := I'.le
  obtain ⟨Cd, Hs, hs, hcs, _, AD, LD⟩ := id (D.gr o0 C'.1)
  have e0' : Y.1 0 = s := (M'.2.2.2.1 0 (by decide) (by decide)).trans e0
  have r102 : rd Y 0 (102 : Int32) = some (I32 N) := by
    rw [rd_i (show ix (102 : Int32) 102 (mlen 0) from ix_of 102 194 (by decide) (by decide)), e0', h102]
  by_cases hlN : l < N
  · obtain ⟨ql, Rl, hk⟩ := LD l hlN
    have em := f_moved (D.gr o0 C'.1) hc hlN
    have ec := m_carried e0' hcs hk (by omega) hc
    have r17 : rd Y 17 (I32 c) = some (I32 w) := by
      rw [rd_i (show ix (I32 c) c (mlen 17) from ix86 hc), M'.2.1 c hc, X'.2.1 c w tc]
      rfl
    obtain ⟨tk2, q2, n2, S2, es, M2, I2, X2, hcase⟩ := come_both o0 C' M' I' (m := nL s l c) (nL_lt (too_ok hk).1) hw
    have step : ∀ H2 : HH, RC h0 H2 ta qa tk2 q2 n2 → F_X2_spreads_B6 dk (I32 c) (I32 w) a3 (some ta) (some qa) (I32 n') (I32 l) H = some (.inl (I32 n2, I32 (l + 1), H2)) → (∃ x' y', F_X2_spreads_B6 dk (I32 c) (I32 w) a3 (some ta) (some qa) (I32 n') (I32 l) H = some (.inl x') ∧ P_X4_rides_B64 x1 x2 x3 (I32 c) (I32 l) Y = some (.inl y') ∧ (∃ l tk' q' n', l ≤ N ∧ x'.1 = I32 n' ∧ x'.2.1 = I32 l ∧ y'.1 = I32 l ∧ RC h0 x'.2.2 ta qa tk' q' n' ∧ RM S0 y'.2 tk' q' n' ∧ RI tk' q' n' ∧ Ext tk q n tk' q' n' w) ∧ 20 - x'.2.1.toNatClampNeg < 20 - (I32 l).toNatClampNeg) := fun H2 C2 e => by
      refine ⟨_, (I32 (l + 1), S2), e, ?_, ⟨l + 1, tk2, q2, n2, hlN, rfl, rfl, rfl, C2, M2, I2, X'.tr X2⟩, ?_⟩
      · unfold P_X4_rides_B64
        rw [r102, bind_some9, if_neg (fun c => by rw [i32le (by omega) (by omega)] at c; omega), ec, bind_some9, r17, bind_some9, es, bind_some9, i32s l (by omega)]
      · show 20 - (I32 (l + 1)).toNatClampNeg < 20 - (I32 l).toNatClampNeg
        rw [(ix_of (l + 1) 200 (by omega) (by decide)).2.1, (ix_of l 200 (by omega) (by decide)).2.1]
        omega
    refine Or.inl ?_
    rcases hcase with ⟨en, C2, h1 | ⟨h1, x, h2, h3⟩⟩ | ⟨en, h1, h2, h15, h16, h3, h4, C2⟩
    · subst en
      refine step H C2 ?_
      unfold F_X2_spreads_B6
      rw [v_getR Cd rfl, bind_some9, AD.size.1, bind_some9, AD.size.2, bind_some9, if_neg (fun c => by rw [i32le (by omega) (by omega)] at c; omega), bind_some9, AD.size.1, bind_some9, AD.get hlN (by omega), bind_some9, ql, v_castO Rl.1, bind_some9, v_isO Cd, bind_some9, em, bind_some9, if_pos h1, i32s l (by omega)]
    · subst en
      refine step H C2 ?_
      unfold F_X2_spreads_B6
      rw [v_getR Cd rfl, bind_some9, AD.size.1, bind_some9, AD.size.2, bind_some9, if_neg (fun c => by rw [i32le (by omega) (by omega)] at c; omega), bind_some9, AD.size.1, bind_some9, AD.get hlN (by omega), bind_some9, ql, v_castO Rl.1, bind_some9, v_isO Cd, bind_some9, em, bind_some9, if_neg h1, h2, bind_some9, if_neg h3, i32s l (by omega)]
    · subst en
      refine step h16 C2 ?_
      unfold F_X2_spreads_B6
      rw [v_getR Cd rfl, bind_some9, AD.size.1, bind_some9, AD.size.2, bind_some9, if_neg (fun c => by rw [i32le (by omega) (by omega)] at c; omega), bind_some9, AD.size.1, bind_some9, AD.get hlN (by omega), bind_some9, ql, v_castO Rl.1, bind_some9, v_isO Cd, bind_some9, em, bind_some9, if_neg h1, h2, bind_some9, if_pos rfl, h3, bind_some9, h4, bind_some9, i32s l (by omega), i32s n' (by omega)]
  · have : l = N := by omega
    subst this
    refine Or.inr ⟨(I32 n', H), Y, ?_, ?_, tk', q', n', rfl, C', M', I', X'⟩
    · show F_X2_spreads_B6 dk (I32 c) (I32 w) a3 (some ta) (some qa) (I32 n') (I32 l) H = _
      unfold F_X2_spreads_B6
      rw [v_getR Cd rfl, bind_some9, AD.size.1, bind_some9, AD.size.2, bind_some9, if_pos (Int32.le_refl _)]
    · show P_X4_rides_B64 x1 x2 x3 (I32 c) (I32 l) Y = _
      unfold P_X4_rides_B64
      rw [r102, bind_some9, if_pos (Int32.le_refl _)]
theorem r_places (o0 : OKH h0) (D : DW h0 dk s N stD alD sh z w0 f arD capD qD la le mo) (e0 : S0.1 0 = s) (h102 : s 102 = I32 N) (C : RC h0 h ta qa tk q n) (M : RM S0 S tk q n) (I : RI tk q n) {p0 w : Nat} (hp : p0 ≤ n) (tw : ∀ i, p0 ≤ i → i < n → tk (q i) = some w) (hw : w ≤ 7986) (a3 a4 x1 x2 : Int32) : ∃ r1 r2, lp (fun y => F_X2_ticksTo_B67 dk (some ta) (some qa) a3 a4 (I32 w) y.1 y.2.1 y.2.2) 100000 (I32 n, I32 p0, h) = some r1 ∧ lp (fun y => P_X4_rides_B46 x1 x2 y.1 y.2) 100000 (I32 p0, S) = some r2 ∧ ∃ tk' q' n', r1.1 = I32 n' ∧ r2.1 = I32 n' ∧ RC h0 r1.2 ta qa tk' q' n' ∧ RM S0 r2.2 tk' q' n' ∧ RI tk' q' n' ∧ Ext tk q n tk' q' n' w := by
  refine lp_two (B1 := fun y => F_X2_ticksTo_B67 dk (some ta) (some qa) a3 a4 (I32 w) y.1 y.2.1 y.2.2) (B2 := fun y => P_X4_rides_B46 x1 x2 y.1 y.2) (Q := fun r1 r2 => ∃ tk' q' n', r1.1 = I32 n' ∧ r2.1 = I32 n' ∧ RC h0 r1.2 ta qa tk' q' n' ∧ RM S0 r2.2 tk' q' n' ∧ RI tk' q' n' ∧ Ext tk q n tk' q' n' w) (fun x y => ∃ p tk' q' n', p0 ≤ p ∧ p ≤ n' ∧ x.1 = I32 n' ∧ x.2.1 = I32 p ∧ y.1 = I32 p ∧ RC h0 x.2.2 ta qa tk' q' n' ∧ RM S0 y.2 tk' q' n' ∧ RI tk' q' n' ∧ Ext tk q n tk' q' n' w) (fun x => 8000 - x.2.1.toNatClampNeg) (fun x y hxy => ?_) 100000 (I32 n, I32 p0, h) (I32 p0, S) ⟨p0, tk, q, n, Nat.le_refl _, hp, rfl, rfl, rfl, C, M, I, Ext.rf _ _ _ _⟩ (by show 8000 - _ < 100000; omega)
  obtain ⟨x1', x2', H⟩ := x
  obtain ⟨y1, Y⟩ := y
  obtain ⟨p, tk', q', n', hp1, hp2, r1, r2, r3, C', M', I', X'⟩ := hxy
  have r1 : x1' = I32 n' := r1
  have r2 : x2' = I32 p := r2
  have r3 : y1 = I32 p := r3
  have C' : RC h0 H ta qa tk' q' n' := C'
  have M' : RM S0 Y tk' q' n' := M'
  subst r1
  subst r2
  subst r3
  have n7 := I'.le
  obtain ⟨Cd, _⟩ := id (D.gr o0 C'.1)
  have pg : pgI Y 19 = some (I32 n') := by
    unfold pgI
    rw [M'.1]
  by_cases hpn : p < n'
  · obtain ⟨_, _, ⟨fq, Cq, Cq2⟩, _⟩ := id C'
    have hcq := (I'.2.1 p hpn).1
    have tq : tk' (q' p) = some w := by
      by_cases h1 : p < n
      · rw [X'.2.2.1 p h1]
        exact X'.2.1 _ _ (tw p hp1 h1)
      · exact X'.2.2.2 p (by omega) hpn
    obtain ⟨⟨v, H2⟩, S2, e1, e2, tk2, q2, n2, k1, C2, M2, I2, X2⟩ := r_lines o0 D e0 h102 C' M' I' hcq tq hw (I32 n') x1 x2 (I32 p)
    have k1 : v = I32 n2 := k1
    subst k1
    have X3 := X2.1
    refine Or.inl ⟨(I32 n2, I32 (p + 1), H2), (I32 (p + 1), S2), ?_, ?_, ⟨p + 1, tk2, q2, n2, by omega, by omega, rfl, rfl, rfl, C2, M2, I2, X'.tr X2⟩, ?_⟩
    · show F_X2_ticksTo_B67 dk (some ta) (some qa) a3 a4 (I32 w) (I32 n') (I32 p) H = _
      unfold F_X2_ticksTo_B67 F_X2_spreads
      rw [if_neg (fun c => by rw [i32le (by omega) (by omega)] at c; omega), v_aldI Cq (ix86 (by omega)), bind_some9, Cq2 p hpn, v_isO Cd, bind_some9, e1, bind_some9]
      show some (Sum.inl (I32 n2, I32 p + (1 : Int32), H2)) = _
      rw [i32s p (by omega)]
    · show P_X4_rides_B46 x1 x2 (I32 p) Y = _
      unfold P_X4_rides_B46
      rw [pg, bind_some9, if_neg (fun c => by rw [i32le (by omega) (by omega)] at c; omega), rd_i (show ix (I32 p) p (mlen 18) from ix86 (by omega)), bind_some9, M'.2.2.1 p hpn, e2, bind_some9, i32s p (by omega)]
    · show 8000 - (I32 (p + 1)).toNatClampNeg < 8000 - (I32 p).toNatClampNeg
      rw [(ix_of (p + 1) 8000 (by omega) (by decide)).2.1, (ix_of p 8000 (by omega) (by decide)).2.1]
      omega
  · have : p = n' := by omega
    subst this
    refine Or.inr ⟨(I32 p, H), (I32 p, Y), ?_, ?_, tk', q', p, rfl, rfl, C', M', I', X'⟩
    · show F_X2_ticksTo_B67 dk (some ta) (some qa) a3 a4 (I32 w) (I32 p) (I32 p) H = _
      unfold F_X2_ticksTo_B67
      rw [if_pos (Int32.le_refl _)]
    · show P_X4_rides_B46 x1 x2 (I32 p) Y = _
      unfold P_X4_rides_B46
      rw [pg, bind_some9, if_pos (Int32.le_refl _)]
theorem r_ticks (o0 : OKH h0) (D : DW h0 dk s N stD alD sh z w0 f arD capD qD la le mo) (e0 : S0.1 0 = s) (C : RC h0 h ta qa tk q n) (M : RM S0 S tk q n) (I : RI tk q n) {p0 w : Nat} (hp : p0 ≤ n) (tw : ∀ i, p0 ≤ i → i < n → tk (q i) = some w) (hw : w + 1 ≤ 7986) (a3 a4 x1 x2 x3 : Int32) : ∃ r1 S', lp (fun y => F_X2_ticksTo_B100 dk (some ta) (some qa) a3 a4 (I32 w) (I32 n) y.1 y.2.1 y.2.2) 100000 (I32 n, I32 p0, h) = some r1 ∧ lp (fun y => P_X4_rides_B113 x1 x2 x3 (I32 n) y.1 y.2) 100000 (I32 p0, S) = some S' ∧ ∃ tk' q' n', r1.1 = I32 n' ∧ RC h0 r1.2 ta qa tk' q' n' ∧ RM S0 S' tk' q' n' ∧ RI tk' q' n' ∧ Ext tk q n tk' q' n' (w + 1) := by
  have n70 := I.le
  refine lp_two (B1 := fun y => F_X2_ticksTo_B100 dk (some ta) (some qa) a3 a4 (I32 w) (I32 n) y.1 y.2.1 y.2.2) (B2 := fun y => P_X4_rides_B113 x1 x2 x3 (I32 n) y.1 y.2) (Q := fun r1 S' => ∃ tk' q' n', r1.1 = I32 n' ∧ RC h0 r1.2 ta qa tk' q' n' ∧ RM S0 S' tk' q' n' ∧ RI tk' q' n' ∧ Ext tk q n tk' q' n' (w + 1)) (fun x y => ∃ p tk' q' n', p0 ≤ p ∧ p ≤ n ∧ x.1 = I32 n' ∧ x.2.1 = I32 p ∧ y.1 = I32 p ∧ RC h0 x.2.2 ta qa tk' q' n' ∧ RM S0 y.2 tk' q' n' ∧ RI tk' q' n' ∧ Ext tk q n tk' q' n' (w + 1)) (fun x => 8000 - x.2.1.toNatClampNeg) (fun x y hxy => ?_) 100000 (I32 n, I32 p0, h) (I32 p0, S) ⟨p0, tk, q, n, Nat.le_refl _, hp, rfl, rfl, rfl, C, M, I, Ext.rf _ _ _ _⟩ (by show 8000 - _ < 100000; omega)
  obtain ⟨x1', x2', H⟩ := x
  obtain ⟨y1, Y⟩ := y
  obtain ⟨p, tk', q', n', hp1, hp2, r1, r2, r3, C', M', I', X'⟩ := hxy
  have r1 : x1' = I32 n' := r1
  have r2 : x2' = I32 p := r2
  have r3 : y1 = I32 p := r3
  have C' : RC h0 H ta qa tk' q' n' := C'
  have M' : RM S0 Y tk' q' n' := M'
  subst r1
  subst r2
  subst r3
  have n7 := I'.le
  have xn := X'.1
  obtain ⟨Cd, _, _, hcs, _⟩ := id (D.gr o0 C'.1)
  have e0' : Y.1 0 = s := (M'.2.2.2.1 0 (by decide) (by decide)).trans e0
  by_cases hpn : p < n
  · obtain ⟨_, _, ⟨fq, Cq, Cq2⟩, _⟩ := id C'
    have hcq := (I'.2.1 p (by omega)).1
    have tq : tk' (q' p) = some w := by
      rw [X'.2.2.1 p hpn]
      exact X'.2.1 _ _ (tw p hp1 hpn)
    have et := f_ticked (D.gr o0 C'.1) hcq
    have em := m_ticked e0' hcs hcq
    have r18 : rd Y 18 (I32 p) = some (I32 (q' p)) := by
      rw [rd_i (show ix (I32 p) p (mlen 18) from ix86 (by omega)), M'.2.2.1 p (by omega)]
    have r17 : rd Y 17 (I32 (q' p)) = some (I32 w) := by
      rw [rd_i (show ix (I32 (q' p)) (q' p) (mlen 17) from ix86 hcq), M'.2.1 _ hcq, tq]
      rfl
    obtain ⟨tk2, q2, n2, S2, es, M2, I2, X2, hcase⟩ := come_both o0 C' M' I' (m := nT s (q' p)) (nT_lt hcq) hw
    have step : ∀ H2 : HH, RC h0 H2 ta qa tk2 q2 n2 → F_X2_ticksTo_B100 dk (some ta) (some qa) a3 a4 (I32 w) (I32 n) (I32 n') (I32 p) H = some (.inl (I32 n2, I32 (p + 1), H2)) → (∃ x' y', F_X2_ticksTo_B100 dk (some ta) (some qa) a3 a4 (I32 w) (I32 n) (I32 n') (I32 p) H = some (.inl x') ∧ P_X4_rides_B113 x1 x2 x3 (I32 n) (I32 p) Y = some (.inl y') ∧ (∃ p tk' q' n', p0 ≤ p ∧ p ≤ n ∧ x'.1 = I32 n' ∧ x'.2.1 = I32 p ∧ y'.1 = I32 p ∧ RC h0 x'.2.2 ta qa tk' q' n' ∧ RM S0 y'.2 tk' q' n' ∧ RI tk' q' n' ∧ Ext tk q n tk' q' n' (w + 1)) ∧ 8000 - x'.2.1.toNatClampNeg < 8000 - (I32 p).toNatClampNeg) := fun H2 C2 e => by
      refine ⟨_, (I32 (p + 1), S2), e, ?_, ⟨p + 1, tk2, q2, n2, by omega, hpn, rfl, rfl, rfl, C2, M2, I2, X'.tr X2⟩, ?_⟩
      · unfold P_X4_rides_B113
        rw [if_neg (fun c => by rw [i32le (by omega) (by omega)] at c; omega), r18, bind_some9, em, bind_some9, bind_some9, r17, bind_some9, i32s w (by omega), es, bind_some9, i32s p (by omega)]
      · show 8000 - (I32 (p + 1)).toNatClampNeg < 8000 - (I32 p).toNatClampNeg
        rw [(ix_of (p + 1) 8000 (by omega) (by decide)).2.1, (ix_of p 8000 (by omega) (by decide)).2.1]
        omega
    refine Or.inl ?_
    rcases hcase with ⟨en, C2, h1 | ⟨h1, x, h2, h3⟩⟩ | ⟨en, h1, h2, h15, h16, h3, h4, C2⟩
    · subst en
      refine step H C2 ?_
      unfold F_X2_ticksTo_B100
      rw [if_neg (fun c => by rw [i32le (by omega) (by omega)] at c; omega), v_aldI Cq (ix86 (by omega)), bind_some9, Cq2 p (by omega), v_isO Cd, bind_some9, et, bind_some9, if_pos h1, i32s p (by omega)]
    · subst en
      refine step H C2 ?_
      unfold F_X2_ticksTo_B100
      rw [if_neg (fun c => by rw [i32le (by omega) (by omega)] at c; omega), v_aldI Cq (ix86 (by omega)), bind_some9, Cq2 p (by omega), v_isO Cd, bind_some9, et, bind_some9, if_neg h1, h2, bind_some9, if_neg h3, i32s p (by omega)]
    · subst en
      refine step h16 C2 ?_
      unfold F_X2_ticksTo_B100
      rw [if_neg (fun c => by rw [i32le (by omega) (by omega)] at c; omega), v_aldI Cq (ix86 (by omega)), bind_some9, Cq2 p (by omega), v_isO Cd, bind_some9, et, bind_some9, if_neg h1, h2, bind_some9, if_pos rfl, i32s w (by omega), h3, bind_some9, h4, bind_some9, i32s n' (by omega), i32s p (by omega)]
  · have : p = n := by omega
    subst this
    refine Or.inr ⟨(I32 n', H), Y, ?_, ?_, tk', q', n', rfl, C', M', I', X'⟩
    · show F_X2_ticksTo_B100 dk (some ta) (some qa) a3 a4 (I32 w) (I32 p) (I32 n') (I32 p) H = _
      unfold F_X2_ticksTo_B100
      rw [if_pos (Int32.le_refl _)]
    · show P_X4_rides_B113 x1 x2 x3 (I32 p) (I32 p) Y = _
      unfold P_X4_rides_B113
      rw [if_pos (Int32.le_refl _)]
theorem r_all (o0 : OKH h0) (D : DW h0 dk s N stD alD sh z w0 f arD capD qD la le mo) (e0 : S0.1 0 = s) (h102 : s 102 = I32 N) (C : RC h0 h ta qa tk q n) (M : RM S0 S tk q n) (I : RI tk q n) (tw : ∀ i, i < n → tk (q i) = some 0) : ∃ h' S', lp (fun y => F_X2_ticksTo_B57 dk (some ta) (some qa) y.1 y.2.1 y.2.2.1 y.2.2.2) 100000 (I32 n, (0 : Int32), (0 : Int32), h) = some h' ∧ lp (fun y => P_X4_rides_B38 y.1 y.2.1 y.2.2) 100000 ((0 : Int32), (0 : Int32), S) = some S' ∧ ∃ tk' q' n', RC h0 h' ta qa tk' q' n' ∧ RM S0 S' tk' q' n' ∧ RI tk' q' n' := by
  refine lp_two (B1 := fun y => F_X2_ticksTo_B57 dk (some ta) (some qa) y.1 y.2.1 y.2.2.1 y.2.2.2) (B2 := fun y => P_X4_rides_B38 y.1 y.2.1 y.2.2) (Q := fun h' S' => ∃ tk' q' n', RC h0 h' ta qa tk' q' n' ∧ RM S0 S' tk' q' n' ∧ RI tk' q' n') (fun x y => ∃ p w tk' q' n', p ≤ n' ∧ w ≤ p ∧ x.1 = I32 n' ∧ x.2.1 = I32 p ∧ x.2.2.1 = I32 w ∧ y.1 = I32 p ∧ y.2.1 = I32 p ∧ RC h0 x.2.2.2 ta qa tk' q' n' ∧ RM S0 y.2.2 tk' q' n' ∧ RI tk' q' n' ∧ ∀ i, p ≤ i → i < n' → tk' (q' i) = some w) (fun x => 8000 - x.2.1.toNatClampNeg) (fun x y hxy => ?_) 100000 (I32 n, (0 : Int32), (0 : Int32), h) ((0 : Int32), (0 : Int32), S) ⟨0, 0, tk, q, n, Nat.zero_le _, Nat.le_refl _, rfl, rfl, rfl, rfl, rfl, C, M, I, fun i _ hi => tw i hi⟩ (by show 8000 - _ < 100000; omega)
  obtain ⟨x1', x2', x3', H⟩ := x
  obtain ⟨y1, y2, Y⟩ := y
  obtain ⟨p, w, tk', q', n', hp, hwp, r1, r2, r3, r4, r5, C', M', I', tw'⟩ := hxy
  have r1 : x1' = I32 n' := r1
  have r2 : x2' = I32 p := r2
  have r3 : x3' = I32 w := r3
  have r4 : y1 = I32 p := r4
  have r5 : y2 = I32 p := r5
  have C' : RC h0 H ta qa tk' q' n' := C'
  have M' : RM S0 Y tk' q' n' := M'
  subst r1
  subst r2
  subst r3
  subst r4
  subst r5
  have n7 := I'.le
  have pg : ∀ (X : MS) tk2 q2 n2, RM S0 X tk2 q2 n2 → pgI X 19 = some (I32 n2) := fun X tk2 q2 n2 hX => by
    unfold pgI
    rw [hX.1]
  by_cases hpn : p < n'
  · obtain ⟨⟨v, H2⟩, ⟨v2, S2⟩, e1, e2, tk2, q2, n2, k1, k2, C2, M2, I2, X2⟩ := r_places o0 D e0 h102 C' M' I' hp tw' (by omega) (I32 n') (I32 p) (I32 p) (I32 p)
    have k1 : v = I32 n2 := k1
    have k2 : v2 = I32 n2 := k2
    subst k1
    subst k2
    have x21 := X2.1
    have n72 := I2.le
    have tw2 : ∀ i, p ≤ i → i < n2 → tk2 (q2 i) = some w := fun i h1 h2 => by
      by_cases h3 : i < n'
      · rw [X2.2.2.1 i h3]
        exact X2.2.1 _ _ (tw' i h1 h3)
      · exact X2.2.2.2 i (by omega) h2
    obtain ⟨⟨v3, H3⟩, S3, e3, e4, tk3, q3, n3, k3, C3, M3, I3, X3⟩ := r_ticks o0 D e0 C2 M2 I2 (show p ≤ n2 by omega) tw2 (by omega) (I32 n') (I32 p) (I32 p) (I32 p) (I32 n2)
    have k3 : v3 = I32 n3 := k3
    subst k3
    have x31 := X3.1
    refine Or.inl ⟨(I32 n3, I32 n2, I32 (w + 1), H3), (I32 n2, I32 n2, S3), ?_, ?_, ⟨n2, w + 1, tk3, q3, n3, x31, by omega, rfl, rfl, rfl, rfl, rfl, C3, M3, I3, X3.2.2.2⟩, ?_⟩
    · show F_X2_ticksTo_B57 dk (some ta) (some qa) (I32 n') (I32 p) (I32 w) H = _
      unfold F_X2_ticksTo_B57
      rw [if_neg (fun c => by rw [i32le (by omega) (by omega)] at c; omega), e1, bind_some9]
      show Option.bind (lp (fun y => F_X2_ticksTo_B100 dk (some ta) (some qa) (I32 n') (I32 p) (I32 w) (I32 n2) y.1 y.2.1 y.2.2) 100000 (I32 n2, I32 p, H2)) _ = _
      rw [e3, bind_some9]
      show some (Sum.inl (I32 n3, I32 n2, I32 w + (1 : Int32), H3)) = _
      rw [i32s w (by omega)]
    · show P_X4_rides_B38 (I32 p) (I32 p) Y = _
      unfold P_X4_rides_B38
      rw [pg _ _ _ _ M', bind_some9, if_neg (fun c => by rw [i32le (by omega) (by omega)] at c; omega), e2, bind_some9]
      show Option.bind (pgI S2 19) _ = _
      rw [pg _ _ _ _ M2, bind_some9]
      show Option.bind (lp (fun y => P_X4_rides_B113 (I32 p) (I32 p) (I32 n2) (I32 n2) y.1 y.2) 100000 (I32 p, S2)) _ = _
      rw [e4, bind_some9]
    · show 8000 - (I32 n2).toNatClampNeg < 8000 - (I32 p).toNatClampNeg
      rw [(ix_of n2 8000 (by omega) (by decide)).2.1, (ix_of p 8000 (by omega) (by decide)).2.1]
      omega
  · refine Or.inr ⟨H, Y, ?_, ?_, tk', q', n', C', M', I'⟩
    · show F_X2_ticksTo_B57 dk (some ta) (some qa) (I32 n') (I32 p) (I32 w) H = _
      unfold F_X2_ticksTo_B57
      rw [if_pos ((i32le (by omega) (by omega)).mpr (by omega))]
    · show P_X4_rides_B38 (I32 p) (I32 p) Y = _
      unfold P_X4_rides_B38
      rw [pg _ _ _ _ M', bind_some9, if_pos ((i32le (by omega) (by omega)).mpr (by omega))]
end MO4
