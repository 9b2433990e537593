/-! the arms of the law -/
section ARMS
variable {B L b : Nat} {xs : Nat → Int32} {h : HH} {S : MS} {i : Nat}
theorem arm_reachable (I : LW B L b xs h S) (m : Rm 50000 228000 h) (hi : i + 5 ≤ L) (hL : L ≤ 120) : ArmOK B L b xs h i F_L_law_A2386 := by
  obtain ⟨k, h1, r, S1, ec, em, X⟩ := x_reachable I m
  obtain ⟨H, eH, p1, W, sc1, o1, o2, th, al, I1, g⟩ := I.after X
  have M := e_X4_reachable W S
  rw [← p1, em] at M
  have M2 : F_X4_reachable (B + 11) h1 = some (r, H) := by rw [eH]; exact M
  refine ⟨H, S1, ?_, I1, g⟩
  unfold F_L_law_A2386
  rw [ec, b2_s, o1, bind_some9, M2, b2_s, o2, bind_some9, th, bind_some9, i5 hi hL]
  exact arm_tail al
theorem arm_zones (I : LW B L b xs h S) (m : Rm 50000 228000 h) (hi : i + 5 ≤ L) (hL : L ≤ 120) : ArmOK B L b xs h i F_L_law_A2443 := by
  obtain ⟨k, h1, r, S1, ec, em, X⟩ := x_zones I m
  obtain ⟨H, eH, p1, W, sc1, o1, o2, th, al, I1, g⟩ := I.after X
  have M := e_X4_zones W S
  rw [← p1, em] at M
  have M2 : F_X4_zones (B + 11) h1 = some (r, H) := by rw [eH]; exact M
  refine ⟨H, S1, ?_, I1, g⟩
  unfold F_L_law_A2443
  rw [ec, b2_s, o1, bind_some9, M2, b2_s, o2, bind_some9, th, bind_some9, i5 hi hL]
  exact arm_tail al
theorem arm_zonesOf (I : LW B L b xs h S) (m : Rm 50000 228000 h) (hi : i + 5 ≤ L) (hL : L ≤ 120) : ArmOK B L b xs h i F_L_law_A2487 := by
  obtain ⟨k, h1, r, S1, ec, em, X⟩ := x_zonesOf (xs (i + 1)) I m
  obtain ⟨H, eH, p1, W, sc1, o1, o2, th, al, I1, g⟩ := I.after X
  have M := e_X4_zonesOf W (xs (i + 1)) S
  rw [← p1, em] at M
  have M2 : F_X4_zonesOf (B + 11) (xs (i + 1)) h1 = some (r, H) := by rw [eH]; exact M
  refine ⟨H, S1, ?_, I1, g⟩
  unfold F_L_law_A2487
  rw [show aldI _ 0 (some b) (I32 i + (1 : Int32)) = some (xs (i + 1)) from LW.ld I.2.2.2.2.2.2.2.1 hi hL (show 1 < 5 by decide), bind_some9, ec, b2_s, show aldI _ 0 (some b) (I32 i + (1 : Int32)) = some (xs (i + 1)) from LW.ld sc1 hi hL (show 1 < 5 by decide), bind_some9, o1, bind_some9, M2, b2_s, o2, bind_some9, th, bind_some9, i5 hi hL]
  exact arm_tail al
theorem arm_fewestLines (I : LW B L b xs h S) (m : Rm 50000 228000 h) (hi : i + 5 ≤ L) (hL : L ≤ 120) : ArmOK B L b xs h i F_L_law_A2543 := by
  obtain ⟨k, h1, r, S1, ec, em, X⟩ := x_fewestLines (xs (i + 1)) I m
  obtain ⟨H, eH, p1, W, sc1, o1, o2, th, al, I1, g⟩ := I.after X
  have M := e_X4_fewestLines W (xs (i + 1)) S
  rw [← p1, em] at M
  have M2 : F_X4_fewestLines (B + 11) (xs (i + 1)) h1 = some (r, H) := by rw [eH]; exact M
  refine ⟨H, S1, ?_, I1, g⟩
  unfold F_L_law_A2543
  rw [show aldI _ 0 (some b) (I32 i + (1 : Int32)) = some (xs (i + 1)) from LW.ld I.2.2.2.2.2.2.2.1 hi hL (show 1 < 5 by decide), bind_some9, ec, b2_s, show aldI _ 0 (some b) (I32 i + (1 : Int32)) = some (xs (i + 1)) from LW.ld sc1 hi hL (show 1 < 5 by decide), bind_some9, o1, bind_some9, M2, b2_s, o2, bind_some9, th, bind_some9, i5 hi hL]
  exact arm_tail al
end ARMS
