/-! ferries by moments: the queries -/
theorem RM.sm {S0 S : MS} {tk : Nat → Option Nat} {q : Nat → Nat} {n : Nat} (M : RM S0 S tk q n) : SM S0 S := ⟨fun i _ => by rw [M.2.2.2.1 0 (by decide) (by decide)], M.2.2.2.1 2 (by decide) (by decide), M.2.2.2.1 4 (by decide) (by decide), M.2.2.2.1 6 (by decide) (by decide), M.2.2.2.2 3 (by decide), M.2.2.2.2 5 (by decide), M.2.2.2.2 7 (by decide)⟩
theorem RI.oi {tk : Nat → Option Nat} {q : Nat → Nat} {n : Nat} (I : RI tk q n) (c : Nat) : oi (tk c) = -1 ↔ tk c = none := by
  cases e : tk c with
  | none => exact ⟨fun _ => rfl, fun _ => rfl⟩
  | some t =>
    have := (I.2.2 c t e).2.1
    refine ⟨fun w => ?_, fun w => by cases w⟩
    have w := congrArg Int32.toInt (show I32 t = (-1 : Int32) from w)
    rw [i32t (by omega), show (-1 : Int32).toInt = -1 from rfl] at w
    omega
noncomputable def lset (s : Nat → Int32) (N c : Nat) : Int32 := orc (fun l => if nL s l c = none then (0 : Int32) else (1 : Int32) <<< (I32 l &&& 31)) N
def hbit (c : Nat) : Int32 := (1 : Int32) <<< ((I32 c / (1331 : Int32)) &&& 31)
section MO6
variable {h : HH} {S : MS} {dk N stD alD sh z arD capD c : Nat} {s f : Nat → Int32} {w0 : Int32} {qD : Nat → Option Nat} {la le mo : Nat → Nat}
theorem f_takable (D : DW h dk s N stD alD sh z w0 f arD capD qD la le mo) (hc : c < 7986) : F_X2_takable dk (I32 c) h = some (lset s N c) := by
  obtain ⟨Cd, _, _, _, hN, AD, LD⟩ := id D
  have L : lp (fun y => F_X2_takable_B4 dk (I32 c) y.1 y.2 h) 100000 ((0 : Int32), (0 : Int32)) = some (lset s N c) := lp_for0 (B := fun y => F_X2_takable_B4 dk (I32 c) y.1 y.2 h) (fun j => (orc (fun l => if nL s l c = none then (0 : Int32) else (1 : Int32) <<< (I32 l &&& 31)) j, I32 j)) N (fun j hj => by
    obtain ⟨ql, Rl, hk⟩ := LD j hj
    show F_X2_takable_B4 dk (I32 c) (orc _ j) (I32 j) h = _
    unfold F_X2_takable_B4
    rw [v_getR Cd rfl, bind_some9, AD.size.1, bind_some9, AD.size.2, bind_some9, if_neg (fun c => by rw [i32le (by omega) (by omega)] at c; omega), bind_some9, AD.size.1, bind_some9, AD.get hj (by omega), bind_some9, ql, v_castO Rl.1, bind_some9, v_isO Cd, bind_some9, f_moved D hc hj, bind_some9, i32s j (by omega)]
    have e : (if oi (nL s j c) = (-1 : Int32) then (0 : Int32) else (1 : Int32) <<< (I32 j &&& 31)) = (if nL s j c = none then (0 : Int32) else (1 : Int32) <<< (I32 j &&& 31)) := by
      have := oi_none (nL_lt (c := c) (too_ok hk).1)
      by_cases q : nL s j c = none
      · rw [if_pos q, if_pos (this.mpr q)]
      · rw [if_neg q, if_neg (fun w => q (this.mp w))]
    rw [e]
    rfl) (by
    show F_X2_takable_B4 dk (I32 c) _ (I32 N) h = _
    unfold F_X2_takable_B4
    rw [v_getR Cd rfl, bind_some9, AD.size.1, bind_some9, AD.size.2, bind_some9, if_pos (Int32.le_refl _)]
    rfl) 100000 (by omega)
  unfold F_X2_takable
  rw [L, bind_some9]
theorem m_linesAt (e0 : S.1 0 = s) (h102 : s 102 = I32 N) (hN : N ≤ 10) (hcs : ∀ i, i < 18 → isC 10 (s (84 + i))) (hL : ∀ l, l < N → lineOK s l) (hc : c < 7986) : P_X4_linesAt (I32 c) S = some (lset s N c) := by
  have r102 : rd S 0 (102 : Int32) = some (I32 N) := by
    rw [rd_i (show ix (102 : Int32) 102 (mlen 0) from ix_of 102 194 (by decide) (by decide)), e0, h102]
  have L : lp (fun y => P_X4_linesAt_B4 (I32 c) y.1 y.2 S) 100000 ((0 : Int32), (0 : Int32)) = some (lset s N c) := lp_for0 (B := fun y => P_X4_linesAt_B4 (I32 c) y.1 y.2 S) (fun j => (orc (fun l => if nL s l c = none then (0 : Int32) else (1 : Int32) <<< (I32 l &&& 31)) j, I32 j)) N (fun j hj => by
    show P_X4_linesAt_B4 (I32 c) (orc _ j) (I32 j) S = _
    unfold P_X4_linesAt_B4
    rw [r102, bind_some9, if_neg (fun c => by rw [i32le (by omega) (by omega)] at c; omega), m_carried e0 hcs (hL j hj) (by omega) hc, bind_some9, i32s j (by omega)]
    have e : (if oi (nL s j c) < 0 then (0 : Int32) else (1 : Int32) <<< (I32 j &&& 31)) = (if nL s j c = none then (0 : Int32) else (1 : Int32) <<< (I32 j &&& 31)) := by
      have := oi_neg (nL_lt (c := c) (too_ok (hL j hj)).1)
      by_cases q : nL s j c = none
      · rw [if_pos q, if_pos (this.mpr q)]
      · rw [if_neg q, if_neg (fun w => q (this.mp w))]
    rw [e]
    rfl) (by
    show P_X4_linesAt_B4 (I32 c) _ (I32 N) S = _
    unfold P_X4_linesAt_B4
    rw [r102, bind_some9, if_pos (Int32.le_refl _)]
    rfl) 100000 (by omega)
  unfold P_X4_linesAt
  rw [L, bind_some9]
end MO6
section MQ
variable {B L b : Nat} {xs : Nat → Int32} {h : HH} {S : MS}
theorem t_ride (I : LW B L b xs h S) (m : Rm 50000 228000 h) {S1 : MS} (e0 : S1.1 0 = S.1 0) : ∃ (dk : Nat) (kv : Value) (hi tx st alD sh z : Nat) (w : Int32) (f : Nat → Int32) (ar cap : Nat) (qD : Nat → Option Nat) (la le mo : Nat → Nat) (N : Nat) (h' : HH) (S' : MS) (tk : Nat → Option Nat) (q : Nat → Nat) (n : Nat), hF h B = some (.inr (0, [.ref dk, kv, .ref hi, .ref tx])) ∧ DW h dk (S.1 0) N st alD sh z w f ar cap qD la le mo ∧ S.1 0 102 = I32 N ∧ F_X2_ticksTo dk h = some (some (hSz h), h') ∧ P_X4_rides S1 = some S' ∧ RC h h' (hSz h) (hSz h + 1) tk q n ∧ RM S1 S' tk q n ∧ RI tk q n := by
  obtain ⟨e, o, z, st, R, _⟩ := id I
  obtain ⟨dk, kv, hi, tx, st, alD, sh, z0, C, D, Z, ⟨f, Hs, _, _, fs⟩, s2, ⟨N, ar, cap, q, la, le, mo, h102, hN, A, LL, _⟩, G⟩ := R.parts
  obtain ⟨N', hN', e102, hL, _⟩ := G.2.2.2.2
  have eN : N' = N := i32inj (by omega) (by omega) (e102.symm.trans h102)
  subst eN
  have DD : DW h dk (S.1 0) N' st alD sh z0 (S.1 0 193) f ar cap q la le mo := ⟨D.1, Hs, fs, G.2.2.2.1, hN, A, fun l hl => ⟨(LL l hl).1, (LL l hl).2, hL l hl⟩⟩
  obtain ⟨h', S', tk, qq, n, e1, e2, e3, e4, e5⟩ := r_ride (S0 := S1) o DD e0 h102 (m.mono (by decide) (by decide))
  exact ⟨dk, kv, hi, tx, st, alD, sh, z0, _, f, ar, cap, q, la, le, mo, N', h', S', tk, qq, n, C, DD, h102, e1, e2, e3, e4, e5⟩
theorem x_reachableByMoments (I : LW B L b xs h S) (m : Rm 50000 228000 h) : ∃ v h' S', F_X1_reachableByMoments B h = some (v, h') ∧ P_X4_reachableByMoments S = some (v, S') ∧ XQ B h h' S' := by
  obtain ⟨dk, kv, hi, tx, st, alD, sh, z, w, f, ar, cap, qD, la, le, mo, N, h', S', tk, q, n, C, D, h102, e1, e2, RC', RM', RI'⟩ := t_ride I m (S1 := setI S 8 0) rfl
  obtain ⟨g, ⟨ft, C1, C2⟩, _⟩ := id RC'
  have n7 := RI'.le
  have L1 : lp (fun y => F_X2_harboursByMoments_B9 dk (some (hSz h)) y.1 y.2 h') 100000 ((0 : Int32), (0 : Int32)) = some (orc (fun c => if tk c = none then (0 : Int32) else hbit c) 7986) := lp_for0 (B := fun y => F_X2_harboursByMoments_B9 dk (some (hSz h)) y.1 y.2 h') (fun j => (orc (fun c => if tk c = none then (0 : Int32) else hbit c) j, I32 j)) 7986 (fun j hj => by
    show F_X2_harboursByMoments_B9 dk (some (hSz h)) (orc _ j) (I32 j) h' = _
    unfold F_X2_harboursByMoments_B9
    rw [v_alen C1 (by decide), bind_some9, if_neg (show ¬ Int32.ofNat 7986 ≤ I32 j from n7986 hj), v_aldI C1 (ix86 hj), bind_some9, C2 j hj, i32s j (by omega)]
    have e : (if oi (tk j) = (-1 : Int32) then (0 : Int32) else (1 : Int32) <<< ((I32 j / (1331 : Int32)) &&& 31)) = (if tk j = none then (0 : Int32) else hbit j) := by
      have := RI'.oi j
      by_cases q : tk j = none
      · rw [if_pos q, if_pos (this.mpr q)]
      · rw [if_neg q, if_neg (fun w => q (this.mp w))]
        rfl
    rw [e]
    rfl) (by
    show F_X2_harboursByMoments_B9 dk (some (hSz h)) _ (I32 7986) h' = _
    unfold F_X2_harboursByMoments_B9
    rw [v_alen C1 (by decide), bind_some9]
    exact if_pos (Int32.le_refl _)) 100000 (by decide)
  have L2 : lp (fun y => P_X4_reachableByMoments_B13 y.1 y.2 S') 100000 ((0 : Int32), (0 : Int32)) = some (orc (fun i => hbit (q i)) n) := lp_for0 (B := fun y => P_X4_reachableByMoments_B13 y.1 y.2 S') (fun j => (orc (fun i => hbit (q i)) j, I32 j)) n (fun j hj => by
    show P_X4_reachableByMoments_B13 (orc _ j) (I32 j) S' = _
    unfold P_X4_reachableByMoments_B13 pgI
    rw [RM'.1, bind_some9, if_neg (fun c => by rw [i32le (by omega) (by omega)] at c; omega), rd_i (show ix (I32 j) j (mlen 18) from ix86 (by omega)), bind_some9, RM'.2.2.1 j hj, i32s j (by omega)]
    rfl) (by
    show P_X4_reachableByMoments_B13 _ (I32 n) S' = _
    unfold P_X4_reachableByMoments_B13 pgI
    rw [RM'.1, bind_some9, if_pos (Int32.le_refl _)]) 100000 (by omega)
  rw [← orc_two RI' hbit] at L2
  refine ⟨orc (fun c => if tk c = none then (0 : Int32) else hbit c) 7986, h', S', ?_, ?_, xq_of I (g.mono (by decide) (by decide)) ((SMi S 0).tr RM'.sm)⟩
  · unfold F_X1_reachableByMoments F_X2_harboursByMoments
    rw [v_getR C rfl, bind_some9, v_isO D.1, bind_some9, v_isO D.1, bind_some9, e1, b2_s, L1, bind_some9, b2_s]
  · unfold P_X4_reachableByMoments
    rw [show piI S 8 (0 : Int32) = some (setI S 8 0) from rfl, bind_some9, e2, bind_some9, L2, bind_some9]
theorem x_stuckIn (I : LW B L b xs h S) (m : Rm 50000 228000 h) : ∃ v h' S', F_X1_stuckIn B h = some (v, h') ∧ P_X4_stuckIn S = some (v, S') ∧ XQ B h h' S' := by
  obtain ⟨dk, kv, hi, tx, st, alD, sh, z, w, f, ar, cap, qD, la, le, mo, N, h', S', tk, q, n, C, D, h102, e1, e2, RC', RM', RI'⟩ := t_ride I m (S1 := setI S 8 0) rfl
  obtain ⟨g, ⟨ft, C1, C2⟩, _⟩ := id RC'
  have n7 := RI'.le
  have D' := D.gr I.2.1 g
  have hcs := D.2.2.2.1
  have hN := D.2.2.2.2.1
  have hL : ∀ l, l < N → lineOK (S.1 0) l := fun l hl => (D.2.2.2.2.2.2 l hl).2.2
  have e0 : S'.1 0 = S.1 0 := RM'.2.2.2.1 0 (by decide) (by decide)
  obtain ⟨F, eF⟩ : ∃ F : Nat → Int32, F = fun c => if nT (S.1 0) c = none ∧ lset (S.1 0) N c = 0 then hbit c else (0 : Int32) := ⟨_, rfl⟩
  have eF : ∀ c, F c = if nT (S.1 0) c = none ∧ lset (S.1 0) N c = 0 then hbit c else (0 : Int32) := fun c => by rw [eF]
  have L1 : lp (fun y => F_X2_stuck_B9 dk (some (hSz h)) y.1 y.2 h') 100000 ((0 : Int32), (0 : Int32)) = some (orc (fun c => if tk c = none then (0 : Int32) else F c) 7986) := lp_for0 (B := fun y => F_X2_stuck_B9 dk (some (hSz h)) y.1 y.2 h') (fun j => (orc (fun c => if tk c = none then (0 : Int32) else F c) j, I32 j)) 7986 (fun j hj => by
    show F_X2_stuck_B9 dk (some (hSz h)) (orc _ j) (I32 j) h' = some (Sum.inl (orc (fun c => if tk c = none then (0 : Int32) else F c) j ||| (if tk j = none then (0 : Int32) else F j), I32 (j + 1)))
    unfold F_X2_stuck_B9 F_X2_stuck_T44
    have on := oi_none (nT_lt (s := S.1 0) hj)
    rw [v_alen C1 (by decide), bind_some9, if_neg (show ¬ Int32.ofNat 7986 ≤ I32 j from n7986 hj), v_aldI C1 (ix86 hj), bind_some9, C2 j hj, i32s j (by omega)]
    by_cases c1 : tk j = none
    · rw [if_pos ((RI'.oi j).mpr c1), if_pos rfl, if_pos c1]
    · rw [if_neg (fun w => c1 ((RI'.oi j).mp w)), v_isO D'.1, bind_some9, f_ticked D' hj, bind_some9, if_neg c1, eF j]
      by_cases c2 : nT (S.1 0) j = none
      · rw [if_pos (on.mpr c2), bind_some9, f_takable D' hj, bind_some9]
        by_cases c3 : lset (S.1 0) N j = 0
        · rw [if_pos c3, if_neg (show ¬ (1 : Int32) = 0 by decide), if_pos ⟨c2, c3⟩]
          rfl
        · rw [if_neg c3, if_pos rfl, if_neg (fun w => c3 w.2)]
      · rw [if_neg (fun w => c2 (on.mp w)), if_pos rfl, if_neg (fun w => c2 w.1)]) (by
    show F_X2_stuck_B9 dk (some (hSz h)) _ (I32 7986) h' = _
    unfold F_X2_stuck_B9
    rw [v_alen C1 (by decide), bind_some9]
    exact if_pos (Int32.le_refl _)) 100000 (by decide)
  have L2 : lp (fun y => P_X4_stuckIn_B13 y.1 y.2 S') 100000 ((0 : Int32), (0 : Int32)) = some (orc (fun i => F (q i)) n) := lp_for0 (B := fun y => P_X4_stuckIn_B13 y.1 y.2 S') (fun j => (orc (fun i => F (q i)) j, I32 j)) n (fun j hj => by
    have hq := (RI'.2.1 j hj).1
    have on := oi_neg (nT_lt (s := S.1 0) hq)
    show P_X4_stuckIn_B13 (orc _ j) (I32 j) S' = some (Sum.inl (orc (fun i => F (q i)) j ||| F (q j), I32 (j + 1)))
    unfold P_X4_stuckIn_B13 P_X4_stuckIn_T52 pgI
    rw [RM'.1, bind_some9, if_neg (fun c => by rw [i32le (by omega) (by omega)] at c; omega), rd_i (show ix (I32 j) j (mlen 18) from ix86 (by omega)), bind_some9, RM'.2.2.1 j hj, m_ticked e0 hcs hq, bind_some9, i32s j (by omega), eF (q j)]
    by_cases c2 : nT (S.1 0) (q j) = none
    · rw [if_neg (fun w => Int32.not_lt.mpr w (on.mpr c2)), bind_some9, m_linesAt e0 h102 hN hcs hL hq, bind_some9]
      by_cases c3 : lset (S.1 0) N (q j) = 0
      · rw [if_pos c3, if_neg (show ¬ (1 : Int32) = 0 by decide), bind_some9, if_pos ⟨c2, c3⟩]
        rfl
      · rw [if_neg c3, if_pos rfl, if_neg (fun w => c3 w.2)]
    · rw [if_pos (Int32.not_lt.mp (fun w => c2 (on.mp w))), if_pos rfl, if_neg (fun w => c2 w.1)]) (by
    show P_X4_stuckIn_B13 _ (I32 n) S' = _
    unfold P_X4_stuckIn_B13 pgI
    rw [RM'.1, bind_some9, if_pos (Int32.le_refl _)]) 100000 (by omega)
  rw [← orc_two RI' F] at L2
  refine ⟨orc (fun c => if tk c = none then (0 : Int32) else F c) 7986, h', S', ?_, ?_, xq_of I (g.mono (by decide) (by decide)) ((SMi S 0).tr RM'.sm)⟩
  · unfold F_X1_stuckIn F_X2_stuck
    rw [v_getR C rfl, bind_some9, v_isO D.1, bind_some9, v_isO D.1, bind_some9, e1, b2_s, L1, bind_some9, b2_s]
  · unfold P_X4_stuckIn
    rw [show piI S 8 (0 : Int32) = some (setI S 8 0) from rfl, bind_some9, e2, bind_some9, L2, bind_some9]
theorem x_usableLines (I : LW B L b xs h S) (m : Rm 50000 228000 h) : ∃ v h' S', F_X1_usableLines B h = some (v, h') ∧ P_X4_usableLines S = some (v, S') ∧ XQ B h h' S' := by
  obtain ⟨dk, kv, hi, tx, st, alD, sh, z, w, f, ar, cap, qD, la, le, mo, N, h', S', tk, q, n, C, D, h102, e1, e2, RC', RM', RI'⟩ := t_ride I m (S1 := setI S 8 0) rfl
  obtain ⟨g, ⟨ft, C1, C2⟩, _⟩ := id RC'
  have n7 := RI'.le
  have D' := D.gr I.2.1 g
  have hcs := D.2.2.2.1
  have hN := D.2.2.2.2.1
  have hL : ∀ l, l < N → lineOK (S.1 0) l := fun l hl => (D.2.2.2.2.2.2 l hl).2.2
  have e0 : S'.1 0 = S.1 0 := RM'.2.2.2.1 0 (by decide) (by decide)
  have L1 : lp (fun y => F_X2_usable_B9 dk (some (hSz h)) y.1 y.2 h') 100000 ((0 : Int32), (0 : Int32)) = some (orc (fun c => if tk c = none then (0 : Int32) else lset (S.1 0) N c) 7986) := lp_for0 (B := fun y => F_X2_usable_B9 dk (some (hSz h)) y.1 y.2 h') (fun j => (orc (fun c => if tk c = none then (0 : Int32) else lset (S.1 0) N c) j, I32 j)) 7986 (fun j hj => by
    show F_X2_usable_B9 dk (some (hSz h)) (orc _ j) (I32 j) h' = some (Sum.inl (orc (fun c => if tk c = none then (0 : Int32) else lset (S.1 0) N c) j ||| (if tk j = none then (0 : Int32) else lset (S.1 0) N j), I32 (j + 1)))
    unfold F_X2_usable_B9
    rw [v_alen C1 (by decide), bind_some9, if_neg (show ¬ Int32.ofNat 7986 ≤ I32 j from n7986 hj), v_aldI C1 (ix86 hj), bind_some9, C2 j hj, i32s j (by omega)]
    by_cases c1 : tk j = none
    · rw [if_pos ((RI'.oi j).mpr c1), if_pos c1]
    · rw [if_neg (fun w => c1 ((RI'.oi j).mp w)), v_isO D'.1, bind_some9, f_takable D' hj, bind_some9, if_neg c1]) (by
    show F_X2_usable_B9 dk (some (hSz h)) _ (I32 7986) h' = _
    unfold F_X2_usable_B9
    rw [v_alen C1 (by decide), bind_some9]
    exact if_pos (Int32.le_refl _)) 100000 (by decide)
  have L2 : lp (fun y => P_X4_usableLines_B13 y.1 y.2 S') 100000 ((0 : Int32), (0 : Int32)) = some (orc (fun i => lset (S.1 0) N (q i)) n) := lp_for0 (B := fun y => P_X4_usableLines_B13 y.1 y.2 S') (fun j => (orc (fun i => lset (S.1 0) N (q i)) j, I32 j)) n (fun j hj => by
    have hq := (RI'.2.1 j hj).1
    show P_X4_usableLines_B13 (orc _ j) (I32 j) S' = _
    unfold P_X4_usableLines_B13 pgI
    rw [RM'.1, bind_some9, if_neg (fun c => by rw [i32le (by omega) (by omega)] at c; omega), rd_i (show ix (I32 j) j (mlen 18) from ix86 (by omega)), bind_some9, RM'.2.2.1 j hj, m_linesAt e0 h102 hN hcs hL hq, bind_some9, i32s j (by omega)]
    rfl) (by
    show P_X4_usableLines_B13 _ (I32 n) S' = _
    unfold P_X4_usableLines_B13 pgI
    rw [RM'.1, bind_some9, if_pos (Int32.le_refl _)]) 100000 (by omega)
  rw [← orc_two RI' (lset (S.1 0) N)] at L2
  refine ⟨orc (fun c => if tk c = none then (0 : Int32) else lset (S.1 0) N c) 7986, h', S', ?_, ?_, xq_of I (g.mono (by decide) (by decide)) ((SMi S 0).tr RM'.sm)⟩
  · unfold F_X1_usableLines F_X2_usable
    rw [v_getR C rfl, bind_some9, v_isO D.1, bind_some9, v_isO D.1, bind_some9, e1, b2_s, L1, bind_some9, b2_s]
  · unfold P_X4_usableLines
    rw [show piI S 8 (0 : Int32) = some (setI S 8 0) from rfl, bind_some9, e2, bind_some9, L2, bind_some9]
end MQ
