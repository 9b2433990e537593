/-! the arms of the law -/
section ARMS
variable {B L b : Nat} {xs : Nat → Int32} {h : HH} {S : MS} {i : Nat}
theorem arm_reachableByMoments (I : LW B L b xs h S) (m : Rm 50000 228000 h) (hi : i + 5 ≤ L) (hL : L ≤ 120) : ArmOK B L b xs h i F_L_law_A2430 := by
  obtain ⟨r, h1, S1, ec, em, X⟩ := x_reachableByMoments I m
  obtain ⟨H, eH, p1, W, o0, o1, I1, g⟩ := I.afterQ X
  have M := e_X4_reachableByMoments W S
  rw [← p1, em] at M
  have M2 : F_X4_reachableByMoments (B + 11) h1 = some (r, H) := by rw [eH]; exact M
  refine ⟨H, S1, ?_, I1, g⟩
  unfold F_L_law_A2430
  rw [o0, bind_some9, ec, b2_s, o1, bind_some9, M2, b2_s, i5 hi hL]
  exact if_pos rfl
theorem arm_fewestTicks (I : LW B L b xs h S) (m : Rm 50000 228000 h) (hi : i + 5 ≤ L) (hL : L ≤ 120) : ArmOK B L b xs h i F_L_law_A2599 := by
  obtain ⟨k, h1, r, S1, ec, em, X⟩ := x_fewestTicks (xs (i + 1)) I m
  obtain ⟨H, eH, p1, W, sc1, o1, o2, th, al, I1, g⟩ := I.after X
  have M := e_X4_fewestTicks W (xs (i + 1)) S
  rw [← p1, em] at M
  have M2 : F_X4_fewestTicks (B + 11) (xs (i + 1)) h1 = some (r, H) := by rw [eH]; exact M
  refine ⟨H, S1, ?_, I1, g⟩
  unfold F_L_law_A2599
  rw [show aldI _ 0 (some b) (I32 i + (1 : Int32)) = some (xs (i + 1)) from LW.ld I.2.2.2.2.2.2.2.1 hi hL (show 1 < 5 by decide), bind_some9, ec, b2_s, show aldI _ 0 (some b) (I32 i + (1 : Int32)) = some (xs (i + 1)) from LW.ld sc1 hi hL (show 1 < 5 by decide), bind_some9, o1, bind_some9, M2, b2_s, o2, bind_some9, th, bind_some9, i5 hi hL]
  exact arm_tail al
theorem arm_stuckIn (I : LW B L b xs h S) (m : Rm 50000 228000 h) (hi : i + 5 ≤ L) (hL : L ≤ 120) : ArmOK B L b xs h i F_L_law_A2655 := by
  obtain ⟨r, h1, S1, ec, em, X⟩ := x_stuckIn I m
  obtain ⟨H, eH, p1, W, o0, o1, I1, g⟩ := I.afterQ X
  have M := e_X4_stuckIn W S
  rw [← p1, em] at M
  have M2 : F_X4_stuckIn (B + 11) h1 = some (r, H) := by rw [eH]; exact M
  refine ⟨H, S1, ?_, I1, g⟩
  unfold F_L_law_A2655
  rw [o0, bind_some9, ec, b2_s, o1, bind_some9, M2, b2_s, i5 hi hL]
  exact if_pos rfl
theorem arm_usableLines (I : LW B L b xs h S) (m : Rm 50000 228000 h) (hi : i + 5 ≤ L) (hL : L ≤ 120) : ArmOK B L b xs h i F_L_law_A2668 := by
  obtain ⟨r, h1, S1, ec, em, X⟩ := x_usableLines I m
  obtain ⟨H, eH, p1, W, o0, o1, I1, g⟩ := I.afterQ X
  have M := e_X4_usableLines W S
  rw [← p1, em] at M
  have M2 : F_X4_usableLines (B + 11) h1 = some (r, H) := by rw [eH]; exact M
  refine ⟨H, S1, ?_, I1, g⟩
  unfold F_L_law_A2668
  rw [o0, bind_some9, ec, b2_s, o1, bind_some9, M2, b2_s, i5 hi hL]
  exact if_pos rfl
end ARMS
