/-! the arms of the law: text, back -/
section ARMS
variable {B L b : Nat} {xs : Nat → Int32} {h : HH} {S : MS} {i : Nat}
theorem arm_goBack (I : LW B L b xs h S) (m : Rm 50000 228000 h) (hi : i + 5 ≤ L) (hL : L ≤ 120) : ArmOK B L b xs h i F_L_law_A2816 := by
  obtain ⟨k, h1, r, S1, ec, em, X⟩ := x_goBack I m
  obtain ⟨H, eH, p1, W, sc1, o1, o2, th, al, I1, g⟩ := I.after X
  have M := e_X4_goBack W S
  rw [← p1, em] at M
  have M2 : F_X4_goBack (B + 11) h1 = some (r, H) := by rw [eH]; exact M
  refine ⟨H, S1, ?_, I1, g⟩
  unfold F_L_law_A2816
  rw [ec, b2_s, o1, bind_some9, M2, b2_s, o2, bind_some9, th, bind_some9, i5 hi hL]
  exact arm_tail al
theorem arm_undo (I : LW B L b xs h S) (m : Rm 50000 228000 h) (hi : i + 5 ≤ L) (hL : L ≤ 120) : ArmOK B L b xs h i F_L_law_A2873 := by
  obtain ⟨k, h1, r, S1, ec, em, X⟩ := x_undo I m
  obtain ⟨H, eH, p1, W, sc1, o1, o2, th, al, I1, g⟩ := I.after X
  have M := e_X4_undo W S
  rw [← p1, em] at M
  have M2 : F_X4_undo (B + 11) h1 = some (r, H) := by rw [eH]; exact M
  refine ⟨H, S1, ?_, I1, g⟩
  unfold F_L_law_A2873
  rw [ec, b2_s, o1, bind_some9, M2, b2_s, o2, bind_some9, th, bind_some9, i5 hi hL]
  exact arm_tail al
theorem arm_type (I : LW B L b xs h S) (m : Rm 50000 228000 h) (hi : i + 5 ≤ L) (hL : L ≤ 120) : ArmOK B L b xs h i F_L_law_A2917 := by
  obtain ⟨k, h1, r, S1, ec, em, X⟩ := x_type (xs (i + 1)) I m
  obtain ⟨H, eH, p1, W, sc1, o1, o2, th, al, I1, g⟩ := I.after X
  have M := e_X4_type W (xs (i + 1)) S
  rw [← p1, em] at M
  have M2 : F_X4_type (B + 11) (xs (i + 1)) h1 = some (r, H) := by rw [eH]; exact M
  refine ⟨H, S1, ?_, I1, g⟩
  unfold F_L_law_A2917
  rw [show aldI _ 0 (some b) (I32 i + (1 : Int32)) = some (xs (i + 1)) from LW.ld I.2.2.2.2.2.2.2.1 hi hL (show 1 < 5 by decide), bind_some9, ec, b2_s, show aldI _ 0 (some b) (I32 i + (1 : Int32)) = some (xs (i + 1)) from LW.ld sc1 hi hL (show 1 < 5 by decide), bind_some9, o1, bind_some9, M2, b2_s, o2, bind_some9, th, bind_some9, i5 hi hL]
  exact arm_tail al
theorem arm_clearText (I : LW B L b xs h S) (m : Rm 50000 228000 h) (hi : i + 5 ≤ L) (hL : L ≤ 120) : ArmOK B L b xs h i F_L_law_A2973 := by
  obtain ⟨r, h1, S1, ec, em, X⟩ := x_clearText I m
  obtain ⟨H, eH, p1, W, o0, o1, I1, g⟩ := I.afterQ X
  have M := e_X4_clearText W S
  rw [← p1, em] at M
  have M2 : F_X4_clearText (B + 11) h1 = some (r, H) := by rw [eH]; exact M
  refine ⟨H, S1, ?_, I1, g⟩
  unfold F_L_law_A2973
  rw [o0, bind_some9, ec, b2_s, o1, bind_some9, M2, b2_s, i5 hi hL]
  exact if_pos rfl
end ARMS
