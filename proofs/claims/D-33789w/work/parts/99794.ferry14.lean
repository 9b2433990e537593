/-! ferries: all lines of a stop, all stops, as plain functions -/
noncomputable def oin (s : Nat → Int32) (e : SP) : Nat → Nat × (Nat → SP) → Nat × (Nat → SP)
  | 0, st => st
  | j + 1, st => oline s e j (oin s e j st)
noncomputable def oout (s : Nat → Int32) (N : Nat) : Nat → Nat × (Nat → SP) → Nat × (Nat → SP)
  | 0, st => st
  | k + 1, st => if k < (oout s N k st).1 ∧ (oout s N k st).1 ≤ 120 then oin s ((oout s N k st).2 k) N (oout s N k st) else oout s N k st
noncomputable def oend (s : Nat → Int32) (N : Nat) (st : Nat × (Nat → SP)) : Nat × (Nat → SP) := oout s N 121 st
section FY14
variable {s : Nat → Int32} {N : Nat} {e : SP} {st : Nat × (Nat → SP)}
theorem oline_ge (l : Nat) : st.1 ≤ (oline s e l st).1 := by
  unfold oline
  split
  · split
    · exact Nat.le_refl _
    · split
      · exact Nat.le_refl _
      · exact Nat.le_succ _
  · exact Nat.le_refl _
theorem oin_ge : ∀ j k, j ≤ k → (oin s e j st).1 ≤ (oin s e k st).1
  | j, 0, h => by
    have : j = 0 := by omega
    subst this
    exact Nat.le_refl _
  | j, k + 1, h => by
    by_cases q : j = k + 1
    · subst q
      exact Nat.le_refl _
    · exact Nat.le_trans (oin_ge j k (by omega)) (oline_ge k)
theorem oout_stay {k n : Nat} {g : Nat → SP} (h : oout s N k st = (n, g)) (hx : ¬ (k < n ∧ n ≤ 120)) : ∀ j, oout s N (k + j) st = (n, g)
  | 0 => h
  | j + 1 => by
    have ih := oout_stay h hx j
    show (if k + j < (oout s N (k + j) st).1 ∧ (oout s N (k + j) st).1 ≤ 120 then _ else oout s N (k + j) st) = _
    rw [ih]
    exact if_neg (fun q => hx ⟨by omega, q.2⟩)
theorem oout_end {k n : Nat} {g : Nat → SP} (h : oout s N k st = (n, g)) (hk : k ≤ 121) (hx : ¬ (k < n ∧ n ≤ 120)) : oend s N st = (n, g) := by
  have := oout_stay h hx (121 - k)
  rwa [show k + (121 - k) = 121 by omega] at this
theorem oout_step {k n : Nat} {g : Nat → SP} (h : oout s N k st = (n, g)) (hx : k < n ∧ n ≤ 120) : oout s N (k + 1) st = oin s (g k) N (n, g) := by
  show (if k < (oout s N k st).1 ∧ (oout s N k st).1 ≤ 120 then oin s ((oout s N k st).2 k) N (oout s N k st) else _) = _
  rw [h]
  exact if_pos hx
end FY14
/-- the ways come in order: sorted, and none is more than one behind that of the stop at hand -/
def Srt (k n : Nat) (g : Nat → SP) : Prop := (∀ i j, i ≤ j → j < n → (g i).2.2 ≤ (g j).2.2) ∧ (k < n → ∀ j, j < n → (g j).2.2 ≤ (g k).2.2 + 1)
section FY14B
variable {h h' : HH} {dk N stD alD sh z arD capD : Nat} {s f : Nat → Int32} {w : Int32} {qD : Nat → Option Nat} {la le mo : Nat → Nat}
/-- all lines of a stop -/
theorem f_lines {h0 : HH} {c0 k0 al ar cap n i t : Nat} {x3 : Int32} {q : Nat → Option Nat} {g : Nat → SP} (o0 : OKH h0) (z0 : hz0 h0) (D : DW h0 dk s N stD alD sh z w f arD capD qD la le mo) (gr : Gr (fun a => a < hSz h0) c0 k0 h0 h) (A : StL h al ar cap n q g) (W : SW n g) (hn : n ≤ 120) (hal : hSz h0 ≤ al) (har : cap ≠ 0 → hSz h0 ≤ ar) (hi : i < n) (ti : q i = some t) (m : Rm 60 3000 h) : ∃ h' ar' cap' q' n' g', lp (fun y => F_X2_gathered_B68 dk (some al) x3 (some t) y.1 y.2) 100000 ((0 : Int32), h) = some h' ∧ oin s (g i) N (n, g) = (n', g') ∧ StL h' al ar' cap' n' q' g' ∧ (cap' ≠ 0 → hSz h0 ≤ ar') ∧ Gr (fun a => a < hSz h0) (2 * N + 2 * (n' - n)) (17 * N + 203 * (n' - n)) h h' ∧ SW n' g' ∧ n ≤ n' ∧ n' ≤ n + N ∧ (∀ j, j < n → g' j = g j) ∧ ∀ j, n ≤ j → j < n' → (g' j).2.2 = (g i).2.2 + 1 := by
  have hN := D.2.2.2.2.1
  obtain ⟨Y, eL, ar', cap', q', n', g', r1, r2, r3, r4, r5, r6, r7, r8, r9, r10⟩ := lp_inv0 (B := fun y => F_X2_gathered_B68 dk (some al) x3 (some t) y.1 y.2) (Q := fun Y => ∃ ar' cap' q' n' g', oin s (g i) N (n, g) = (n', g') ∧ StL Y al ar' cap' n' q' g' ∧ (cap' ≠ 0 → hSz h0 ≤ ar') ∧ Gr (fun a => a < hSz h0) (2 * N + 2 * (n' - n)) (17 * N + 203 * (n' - n)) h Y ∧ SW n' g' ∧ n ≤ n' ∧ n' ≤ n + N ∧ (∀ j, j < n → g' j = g j) ∧ (∀ j, n ≤ j → j < n' → (g' j).2.2 = (g i).2.2 + 1) ∧ ∀ j, j < n → q' j = q j) (fuel := 100000) (x := ((0 : Int32), h)) (fun l y => y.1 = I32 l ∧ ∃ ar' cap' q' n' g', oin s (g i) l (n, g) = (n', g') ∧ StL y.2 al ar' cap' n' q' g' ∧ (cap' ≠ 0 → hSz h0 ≤ ar') ∧ Gr (fun a => a < hSz h0) (2 * l + 2 * (n' - n)) (17 * l + 203 * (n' - n)) h y.2 ∧ SW n' g' ∧ n ≤ n' ∧ n' ≤ n + l ∧ (∀ j, j < n → g' j = g j) ∧ (∀ j, n ≤ j → j < n' → (g' j).2.2 = (g i).2.2 + 1) ∧ ∀ j, j < n → q' j = q j) N (fun l hl y hy => by
    obtain ⟨x, Y⟩ := y
    obtain ⟨e1, ar', cap', q', n', g', r1, r2, r3, r4, r5, r6, r7, r8, r9, r10⟩ := hy
    have e1 : x = I32 l := e1
    subst e1
    have r2 : StL Y al ar' cap' n' q' g' := r2
    have r4 : Gr (fun a => a < hSz h0) (2 * l + 2 * (n' - n)) (17 * l + 203 * (n' - n)) h Y := r4
    have gY := gr.tr r4
    obtain ⟨CY, HY, _, _, _, AY, LY⟩ := D.gr o0 gY
    obtain ⟨ql, Rl, hk⟩ := LY l hl
    obtain ⟨Y', ar2, cap2, q2, n2, g2, e2, o2, A2, h2, gr2, qq2⟩ := f_goes o0 z0 D gY r2 r5 (by omega) hal r3 (i := i) (by omega) (by rw [r10 i hi]; exact ti) hl ((m.gr r4 (by omega) (by omega)).mono (by omega) (by omega))
    rw [r8 i hi] at o2
    have sw := oline_SW (n := n') (g := g') (i := i) (n' := n2) (g' := g2) hk D.2.2.2.1 r5 (by omega) (by rw [r8 i hi]; exact o2)
    obtain ⟨s1, s2, s3, s4, s5⟩ := sw
    refine ⟨(I32 (l + 1), Y'), ?_, rfl, ar2, cap2, q2, n2, g2, ?_, A2, h2, (r4.tr gr2).mono (by omega) (by omega), s3, by omega, by omega, fun j hj => by rw [s4 j (by omega), r8 j hj], fun j h1 h2 => ?_, fun j hj => by rw [qq2 j (by omega), r10 j hj]⟩
    · show F_X2_gathered_B68 dk (some al) x3 (some t) (I32 l) Y = _
      unfold F_X2_gathered_B68
      rw [v_getR CY rfl, bind_some9, AY.size.1, bind_some9, AY.size.2, bind_some9, if_neg (fun c => by rw [i32le (by omega) (by omega)] at c; omega), bind_some9, AY.size.1, bind_some9, AY.get hl (by omega), bind_some9, ql, v_castO Rl.1, bind_some9, v_isO CY, bind_some9, e2, bind_some9, i32s l (by omega)]
    · show oline s (g i) l (oin s (g i) l (n, g)) = _
      rw [r1]
      exact o2
    · by_cases hj : j < n'
      · rw [s4 j hj]
        exact r9 j h1 hj
      · rw [s5 j (by omega) h2, r8 i hi]) (fun y hy => by
    obtain ⟨x, Y⟩ := y
    obtain ⟨e1, ar', cap', q', n', g', r1, r2, r3, r4, r⟩ := hy
    have e1 : x = I32 N := e1
    subst e1
    have r4 : Gr (fun a => a < hSz h0) (2 * N + 2 * (n' - n)) (17 * N + 203 * (n' - n)) h Y := r4
    obtain ⟨CY, HY, _, _, _, AY, LY⟩ := D.gr o0 (gr.tr r4)
    refine ⟨Y, ?_, ar', cap', q', n', g', r1, r2, r3, r4, r⟩
    show F_X2_gathered_B68 dk (some al) x3 (some t) (I32 N) Y = _
    unfold F_X2_gathered_B68
    rw [v_getR CY rfl, bind_some9, AY.size.1, bind_some9, AY.size.2, bind_some9, if_pos (Int32.le_refl _)]) ⟨rfl, ar, cap, q, n, g, rfl, A, har, (Gr.rf gr.ok).mono (by omega) (by omega), W, Nat.le_refl _, by omega, fun _ _ => rfl, fun j h1 h2 => by omega, fun _ _ => rfl⟩ (by omega)
  exact ⟨Y, ar', cap', q', n', g', eL, r1, r2, r3, r4, r5, r6, r7, r8, r9⟩
/-- all stops -/
theorem f_stops {h0 : HH} {c0 k0 al ar cap n : Nat} {q : Nat → Option Nat} {g : Nat → SP} (o0 : OKH h0) (z0 : hz0 h0) (D : DW h0 dk s N stD alD sh z w f arD capD qD la le mo) (gr : Gr (fun a => a < hSz h0) c0 k0 h0 h) (A : StL h al ar cap n q g) (W : SW n g) (T : Srt 0 n g) (hn : n ≤ 1) (hal : hSz h0 ≤ al) (har : cap ≠ 0 → hSz h0 ≤ ar) (m : Rm 3000 60000 h) : ∃ h' ar' cap' q' n' g', lp (fun y => F_X2_gathered_B38 dk (some al) y.1 y.2) 100000 ((0 : Int32), h) = some h' ∧ oend s N (n, g) = (n', g') ∧ StL h' al ar' cap' n' q' g' ∧ Gr (fun a => a < hSz h0) 2800 50000 h h' ∧ SW n' g' ∧ n' ≤ 130 ∧ ∀ i j, i ≤ j → j < n' → (g' i).2.2 ≤ (g' j).2.2 := by
  have hN := D.2.2.2.2.1
  obtain ⟨Y, eL, ar', cap', q', n', g', r1, r2, r3, r4, r5, r6⟩ := lp_mea (B := fun y => F_X2_gathered_B38 dk (some al) y.1 y.2) (Q := fun Y => ∃ ar' cap' q' n' g', oend s N (n, g) = (n', g') ∧ StL Y al ar' cap' n' q' g' ∧ Gr (fun a => a < hSz h0) 2800 50000 h Y ∧ SW n' g' ∧ n' ≤ 130 ∧ ∀ i j, i ≤ j → j < n' → (g' i).2.2 ≤ (g' j).2.2) (fun y => ∃ k ar' cap' q' n' g', y.1 = I32 k ∧ k ≤ 120 ∧ oout s N k (n, g) = (n', g') ∧ StL y.2 al ar' cap' n' q' g' ∧ (cap' ≠ 0 → hSz h0 ≤ ar') ∧ Gr (fun a => a < hSz h0) (20 * k + 2 * n') (170 * k + 203 * n') h y.2 ∧ SW n' g' ∧ n' ≤ 130 ∧ Srt k n' g') (fun y => 200 - y.1.toNatClampNeg) (fun y hy => by
    obtain ⟨x, Y⟩ := y
    obtain ⟨k, ar', cap', q', n', g', e1, hk, r1, r2, r3, r4, r5, r6, r7⟩ := hy
    have e1 : x = I32 k := e1
    subst e1
    have r2 : StL Y al ar' cap' n' q' g' := r2
    have r4 : Gr (fun a => a < hSz h0) (20 * k + 2 * n') (170 * k + 203 * n') h Y := r4
    have gY := gr.tr r4
    by_cases hx : k < n' ∧ n' ≤ 120
    · refine Or.inl ?_
      obtain ⟨t, tk, zz, bb, dd, Ct, _⟩ := r2.2 k hx.1
      obtain ⟨Y', ar2, cap2, q2, n2, g2, e2, o2, A2, h2, gr2, s1, s2, s3, s4, s5⟩ := f_lines (x3 := I32 k) o0 z0 D gY r2 r5 hx.2 hal r3 hx.1 tk ((m.gr r4 (by omega) (by omega)).mono (by omega) (by omega))
      refine ⟨(I32 (k + 1), Y'), ?_, ⟨k + 1, ar2, cap2, q2, n2, g2, rfl, by omega, (oout_step r1 hx).trans o2, A2, h2, (r4.tr gr2).mono (by omega) (by omega), s1, by omega, fun i j hij hj => ?_, fun hk2 j hj => ?_⟩, ?_⟩
      · show F_X2_gathered_B38 dk (some al) (I32 k) Y = _
        unfold F_X2_gathered_B38
        rw [r2.1.size.1, bind_some9, r2.1.size.2, bind_some9, if_neg (fun c => by rw [i32le (by omega) (by omega)] at c; omega), bind_some9, r2.1.size.2, bind_some9, if_neg (fun c => by have c := Int32.lt_iff_toInt_lt.mp c; rw [i32t (by omega), show (120 : Int32).toInt = 120 from rfl] at c; omega), bind_some9, r2.1.get hx.1 (by omega), bind_some9, tk, v_castO Ct, bind_some9, e2, bind_some9, i32s k (by omega)]
      · by_cases q1 : j < n'
        · rw [s4 i (by omega), s4 j q1]
          exact r7.1 i j hij q1
        · rw [s5 j (by omega) hj]
          by_cases q2 : i < n'
          · rw [s4 i q2]
            exact r7.2 hx.1 i q2
          · rw [s5 i (by omega) (by omega)]
            exact Nat.le_refl _
      · have hw : (g' k).2.2 ≤ (g2 (k + 1)).2.2 := by
          by_cases q1 : k + 1 < n'
          · rw [s4 _ q1]
            exact r7.1 k (k + 1) (by omega) q1
          · rw [s5 (k + 1) (by omega) hk2]
            exact Nat.le_succ _
        by_cases q1 : j < n'
        · rw [s4 j q1]
          have := r7.2 hx.1 j q1
          omega
        · rw [s5 j (by omega) hj]
          omega
      · show 200 - (I32 (k + 1)).toNatClampNeg < 200 - (I32 k).toNatClampNeg
        rw [(ix_of (k + 1) 200 (by omega) (by decide)).2.1, (ix_of k 200 (by omega) (by decide)).2.1]
        omega
    · refine Or.inr ⟨Y, ?_, ar', cap', q', n', g', oout_end r1 (by omega) hx, r2, r4.mono (by omega) (by omega), r5, r6, r7.1⟩
      show F_X2_gathered_B38 dk (some al) (I32 k) Y = _
      unfold F_X2_gathered_B38
      rw [r2.1.size.1, bind_some9, r2.1.size.2, bind_some9]
      by_cases q1 : n' ≤ k
      · rw [if_pos ((i32le (by omega) (by omega)).mpr q1)]
      · rw [if_neg (fun c => q1 ((i32le (by omega) (by omega)).mp c)), bind_some9, r2.1.size.2, bind_some9, if_pos (Int32.lt_iff_toInt_lt.mpr (by rw [i32t (by omega), show (120 : Int32).toInt = 120 from rfl]; omega))]) 100000 ((0 : Int32), h) ⟨0, ar, cap, q, n, g, rfl, by decide, rfl, A, har, (Gr.rf gr.ok).mono (by omega) (by omega), W, by omega, T⟩ (by show 200 - _ < 100000; omega)
  exact ⟨Y, ar', cap', q', n', g', eL, r1, r2, r3, r4, r5, r6⟩
end FY14B
