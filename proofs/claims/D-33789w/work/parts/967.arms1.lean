/-! the arms of the law -/
section ARMS
variable {B L b : Nat} {xs : Nat → Int32} {h : HH} {S : MS} {i : Nat}
theorem arm_tell (I : LW B L b xs h S) (m : Rm 50000 228000 h) (hi : i + 5 ≤ L) (hL : L ≤ 120) : ArmOK B L b xs h i F_L_law_A292 := by
  obtain ⟨k, h1, r, S1, ec, em, X⟩ := x_tell (xs (i + 1)) (xs (i + 2)) (xs (i + 3)) I m
  obtain ⟨H, eH, p1, W, sc1, o1, o2, th, al, I1, g⟩ := I.after X
  have M := e_X4_tell W (xs (i + 1)) (xs (i + 2)) (xs (i + 3)) S
  rw [← p1, em] at M
  have M2 : F_X4_tell (B + 11) (xs (i + 1)) (xs (i + 2)) (xs (i + 3)) h1 = some (r, H) := by rw [eH]; exact M
  refine ⟨H, S1, ?_, I1, g⟩
  unfold F_L_law_A292
  rw [show aldI _ 0 (some b) (I32 i + (1 : Int32)) = some (xs (i + 1)) from LW.ld I.2.2.2.2.2.2.2.1 hi hL (show 1 < 5 by decide), bind_some9, show aldI _ 0 (some b) (I32 i + (2 : Int32)) = some (xs (i + 2)) from LW.ld I.2.2.2.2.2.2.2.1 hi hL (show 2 < 5 by decide), bind_some9, show aldI _ 0 (some b) (I32 i + (3 : Int32)) = some (xs (i + 3)) from LW.ld I.2.2.2.2.2.2.2.1 hi hL (show 3 < 5 by decide), bind_some9, ec, b2_s, show aldI _ 0 (some b) (I32 i + (1 : Int32)) = some (xs (i + 1)) from LW.ld sc1 hi hL (show 1 < 5 by decide), bind_some9, show aldI _ 0 (some b) (I32 i + (2 : Int32)) = some (xs (i + 2)) from LW.ld sc1 hi hL (show 2 < 5 by decide), bind_some9, show aldI _ 0 (some b) (I32 i + (3 : Int32)) = some (xs (i + 3)) from LW.ld sc1 hi hL (show 3 < 5 by decide), bind_some9, o1, bind_some9, M2, b2_s, o2, bind_some9, th, bind_some9, i5 hi hL]
  exact arm_tail al
theorem arm_forget (I : LW B L b xs h S) (m : Rm 50000 228000 h) (hi : i + 5 ≤ L) (hL : L ≤ 120) : ArmOK B L b xs h i F_L_law_A379 := by
  obtain ⟨k, h1, r, S1, ec, em, X⟩ := x_forget (xs (i + 1)) (xs (i + 2)) I m
  obtain ⟨H, eH, p1, W, sc1, o1, o2, th, al, I1, g⟩ := I.after X
  have M := e_X4_forget W (xs (i + 1)) (xs (i + 2)) S
  rw [← p1, em] at M
  have M2 : F_X4_forget (B + 11) (xs (i + 1)) (xs (i + 2)) h1 = some (r, H) := by rw [eH]; exact M
  refine ⟨H, S1, ?_, I1, g⟩
  unfold F_L_law_A379
  rw [show aldI _ 0 (some b) (I32 i + (1 : Int32)) = some (xs (i + 1)) from LW.ld I.2.2.2.2.2.2.2.1 hi hL (show 1 < 5 by decide), bind_some9, show aldI _ 0 (some b) (I32 i + (2 : Int32)) = some (xs (i + 2)) from LW.ld I.2.2.2.2.2.2.2.1 hi hL (show 2 < 5 by decide), bind_some9, ec, b2_s, show aldI _ 0 (some b) (I32 i + (1 : Int32)) = some (xs (i + 1)) from LW.ld sc1 hi hL (show 1 < 5 by decide), bind_some9, show aldI _ 0 (some b) (I32 i + (2 : Int32)) = some (xs (i + 2)) from LW.ld sc1 hi hL (show 2 < 5 by decide), bind_some9, o1, bind_some9, M2, b2_s, o2, bind_some9, th, bind_some9, i5 hi hL]
  exact arm_tail al
theorem arm_forgetAll (I : LW B L b xs h S) (m : Rm 50000 228000 h) (hi : i + 5 ≤ L) (hL : L ≤ 120) : ArmOK B L b xs h i F_L_law_A454 := by
  obtain ⟨r, h1, S1, ec, em, X⟩ := x_forgetAll I m
  obtain ⟨H, eH, p1, W, o0, o1, I1, g⟩ := I.afterQ X
  have M := e_X4_forgetAll W S
  rw [← p1, em] at M
  have M2 : F_X4_forgetAll (B + 11) h1 = some (r, H) := by rw [eH]; exact M
  refine ⟨H, S1, ?_, I1, g⟩
  unfold F_L_law_A454
  rw [o0, bind_some9, ec, thr_r, o1, bind_some9, M2, b2_s, i5 hi hL]
  exact if_pos rfl
theorem arm_tighten (I : LW B L b xs h S) (m : Rm 50000 228000 h) (hi : i + 5 ≤ L) (hL : L ≤ 120) : ArmOK B L b xs h i F_L_law_A467 := by
  obtain ⟨k, h1, r, S1, ec, em, X⟩ := x_tighten I m
  obtain ⟨H, eH, p1, W, sc1, o1, o2, th, al, I1, g⟩ := I.after X
  have M := e_X4_tighten W S
  rw [← p1, em] at M
  have M2 : F_X4_tighten (B + 11) h1 = some (r, H) := by rw [eH]; exact M
  refine ⟨H, S1, ?_, I1, g⟩
  unfold F_L_law_A467
  rw [ec, b2_s, o1, bind_some9, M2, b2_s, o2, bind_some9, th, bind_some9, i5 hi hL]
  exact arm_tail al
theorem arm_reset (I : LW B L b xs h S) (m : Rm 50000 228000 h) (hi : i + 5 ≤ L) (hL : L ≤ 120) : ArmOK B L b xs h i F_L_law_A511 := by
  obtain ⟨k, h1, r, S1, ec, em, X⟩ := x_reset (xs (i + 1)) (xs (i + 2)) I m
  obtain ⟨H, eH, p1, W, sc1, o1, o2, th, al, I1, g⟩ := I.after X
  have M := e_X4_reset W (xs (i + 1)) (xs (i + 2)) S
  rw [← p1, em] at M
  have M2 : F_X4_reset (B + 11) (xs (i + 1)) (xs (i + 2)) h1 = some (r, H) := by rw [eH]; exact M
  refine ⟨H, S1, ?_, I1, g⟩
  unfold F_L_law_A511
  rw [show aldI _ 0 (some b) (I32 i + (1 : Int32)) = some (xs (i + 1)) from LW.ld I.2.2.2.2.2.2.2.1 hi hL (show 1 < 5 by decide), bind_some9, show aldI _ 0 (some b) (I32 i + (2 : Int32)) = some (xs (i + 2)) from LW.ld I.2.2.2.2.2.2.2.1 hi hL (show 2 < 5 by decide), bind_some9, ec, b2_s, show aldI _ 0 (some b) (I32 i + (1 : Int32)) = some (xs (i + 1)) from LW.ld sc1 hi hL (show 1 < 5 by decide), bind_some9, show aldI _ 0 (some b) (I32 i + (2 : Int32)) = some (xs (i + 2)) from LW.ld sc1 hi hL (show 2 < 5 by decide), bind_some9, o1, bind_some9, M2, b2_s, o2, bind_some9, th, bind_some9, i5 hi hL]
  exact arm_tail al
theorem arm_delay (I : LW B L b xs h S) (m : Rm 50000 228000 h) (hi : i + 5 ≤ L) (hL : L ≤ 120) : ArmOK B L b xs h i F_L_law_A579 := by
  obtain ⟨k, h1, r, S1, ec, em, X⟩ := x_delay I m
  obtain ⟨H, eH, p1, W, sc1, o1, o2, th, al, I1, g⟩ := I.after X
  have M := e_X4_delay W S
  rw [← p1, em] at M
  have M2 : F_X4_delay (B + 11) h1 = some (r, H) := by rw [eH]; exact M
  refine ⟨H, S1, ?_, I1, g⟩
  unfold F_L_law_A579
  rw [ec, b2_s, o1, bind_some9, M2, b2_s, o2, bind_some9, th, bind_some9, i5 hi hL]
  exact arm_tail al
theorem arm_goBackInTime (I : LW B L b xs h S) (m : Rm 50000 228000 h) (hi : i + 5 ≤ L) (hL : L ≤ 120) : ArmOK B L b xs h i F_L_law_A623 := by
  obtain ⟨k, h1, r, S1, ec, em, X⟩ := x_goBackInTime I m
  obtain ⟨H, eH, p1, W, sc1, o1, o2, th, al, I1, g⟩ := I.after X
  have M := e_X4_goBackInTime W S
  rw [← p1, em] at M
  have M2 : F_X4_goBackInTime (B + 11) h1 = some (r, H) := by rw [eH]; exact M
  refine ⟨H, S1, ?_, I1, g⟩
  unfold F_L_law_A623
  rw [ec, b2_s, o1, bind_some9, M2, b2_s, o2, bind_some9, th, bind_some9, i5 hi hL]
  exact arm_tail al
theorem arm_setFree (I : LW B L b xs h S) (m : Rm 50000 228000 h) (hi : i + 5 ≤ L) (hL : L ≤ 120) : ArmOK B L b xs h i F_L_law_A667 := by
  obtain ⟨k, h1, r, S1, ec, em, X⟩ := x_setFree (xs (i + 1)) I m
  obtain ⟨H, eH, p1, W, sc1, o1, o2, th, al, I1, g⟩ := I.after X
  have M := e_X4_setFree W (xs (i + 1)) S
  rw [← p1, em] at M
  have M2 : F_X4_setFree (B + 11) (xs (i + 1)) h1 = some (r, H) := by rw [eH]; exact M
  refine ⟨H, S1, ?_, I1, g⟩
  unfold F_L_law_A667
  rw [show aldI _ 0 (some b) (I32 i + (1 : Int32)) = some (xs (i + 1)) from LW.ld I.2.2.2.2.2.2.2.1 hi hL (show 1 < 5 by decide), bind_some9, ec, b2_s, show aldI _ 0 (some b) (I32 i + (1 : Int32)) = some (xs (i + 1)) from LW.ld sc1 hi hL (show 1 < 5 by decide), bind_some9, o1, bind_some9, M2, b2_s, o2, bind_some9, th, bind_some9, i5 hi hL]
  exact arm_tail al
theorem arm_copyClock (I : LW B L b xs h S) (m : Rm 50000 228000 h) (hi : i + 5 ≤ L) (hL : L ≤ 120) : ArmOK B L b xs h i F_L_law_A723 := by
  obtain ⟨k, h1, r, S1, ec, em, X⟩ := x_copyClock (xs (i + 1)) (xs (i + 2)) I m
  obtain ⟨H, eH, p1, W, sc1, o1, o2, th, al, I1, g⟩ := I.after X
  have M := e_X4_copyClock W (xs (i + 1)) (xs (i + 2)) S
  rw [← p1, em] at M
  have M2 : F_X4_copyClock (B + 11) (xs (i + 1)) (xs (i + 2)) h1 = some (r, H) := by rw [eH]; exact M
  refine ⟨H, S1, ?_, I1, g⟩
  unfold F_L_law_A723
  rw [show aldI _ 0 (some b) (I32 i + (1 : Int32)) = some (xs (i + 1)) from LW.ld I.2.2.2.2.2.2.2.1 hi hL (show 1 < 5 by decide), bind_some9, show aldI _ 0 (some b) (I32 i + (2 : Int32)) = some (xs (i + 2)) from LW.ld I.2.2.2.2.2.2.2.1 hi hL (show 2 < 5 by decide), bind_some9, ec, b2_s, show aldI _ 0 (some b) (I32 i + (1 : Int32)) = some (xs (i + 1)) from LW.ld sc1 hi hL (show 1 < 5 by decide), bind_some9, show aldI _ 0 (some b) (I32 i + (2 : Int32)) = some (xs (i + 2)) from LW.ld sc1 hi hL (show 2 < 5 by decide), bind_some9, o1, bind_some9, M2, b2_s, o2, bind_some9, th, bind_some9, i5 hi hL]
  exact arm_tail al
theorem arm_shift (I : LW B L b xs h S) (m : Rm 50000 228000 h) (hi : i + 5 ≤ L) (hL : L ≤ 120) : ArmOK B L b xs h i F_L_law_A791 := by
  obtain ⟨k, h1, r, S1, ec, em, X⟩ := x_shift (xs (i + 1)) (xs (i + 2)) I m
  obtain ⟨H, eH, p1, W, sc1, o1, o2, th, al, I1, g⟩ := I.after X
  have M := e_X4_shift W (xs (i + 1)) (xs (i + 2)) S
  rw [← p1, em] at M
  have M2 : F_X4_shift (B + 11) (xs (i + 1)) (xs (i + 2)) h1 = some (r, H) := by rw [eH]; exact M
  refine ⟨H, S1, ?_, I1, g⟩
  unfold F_L_law_A791
  rw [show aldI _ 0 (some b) (I32 i + (1 : Int32)) = some (xs (i + 1)) from LW.ld I.2.2.2.2.2.2.2.1 hi hL (show 1 < 5 by decide), bind_some9, show aldI _ 0 (some b) (I32 i + (2 : Int32)) = some (xs (i + 2)) from LW.ld I.2.2.2.2.2.2.2.1 hi hL (show 2 < 5 by decide), bind_some9, ec, b2_s, show aldI _ 0 (some b) (I32 i + (1 : Int32)) = some (xs (i + 1)) from LW.ld sc1 hi hL (show 1 < 5 by decide), bind_some9, show aldI _ 0 (some b) (I32 i + (2 : Int32)) = some (xs (i + 2)) from LW.ld sc1 hi hL (show 2 < 5 by decide), bind_some9, o1, bind_some9, M2, b2_s, o2, bind_some9, th, bind_some9, i5 hi hL]
  exact arm_tail al
theorem arm_store (I : LW B L b xs h S) (m : Rm 50000 228000 h) (hi : i + 5 ≤ L) (hL : L ≤ 120) : ArmOK B L b xs h i F_L_law_A859 := by
  obtain ⟨k, h1, r, S1, ec, em, X⟩ := x_store (xs (i + 1)) I m
  obtain ⟨H, eH, p1, W, sc1, o1, o2, th, al, I1, g⟩ := I.after X
  have M := e_X4_store W (xs (i + 1)) S
  rw [← p1, em] at M
  have M2 : F_X4_store (B + 11) (xs (i + 1)) h1 = some (r, H) := by rw [eH]; exact M
  refine ⟨H, S1, ?_, I1, g⟩
  unfold F_L_law_A859
  rw [show aldI _ 0 (some b) (I32 i + (1 : Int32)) = some (xs (i + 1)) from LW.ld I.2.2.2.2.2.2.2.1 hi hL (show 1 < 5 by decide), bind_some9, ec, b2_s, show aldI _ 0 (some b) (I32 i + (1 : Int32)) = some (xs (i + 1)) from LW.ld sc1 hi hL (show 1 < 5 by decide), bind_some9, o1, bind_some9, M2, b2_s, o2, bind_some9, th, bind_some9, i5 hi hL]
  exact arm_tail al
theorem arm_meet (I : LW B L b xs h S) (m : Rm 50000 228000 h) (hi : i + 5 ≤ L) (hL : L ≤ 120) : ArmOK B L b xs h i F_L_law_A922 := by
  obtain ⟨k, h1, r, S1, ec, em, X⟩ := x_meet (xs (i + 1)) I m
  obtain ⟨H, eH, p1, W, sc1, o1, o2, th, al, I1, g⟩ := I.after X
  have M := e_X4_meet W (xs (i + 1)) S
  rw [← p1, em] at M
  have M2 : F_X4_meet (B + 11) (xs (i + 1)) h1 = some (r, H) := by rw [eH]; exact M
  refine ⟨H, S1, ?_, I1, g⟩
  unfold F_L_law_A922
  rw [show aldI _ 0 (some b) (I32 i + (1 : Int32)) = some (xs (i + 1)) from LW.ld I.2.2.2.2.2.2.2.1 hi hL (show 1 < 5 by decide), bind_some9, ec, b2_s, show aldI _ 0 (some b) (I32 i + (1 : Int32)) = some (xs (i + 1)) from LW.ld sc1 hi hL (show 1 < 5 by decide), bind_some9, o1, bind_some9, M2, b2_s, o2, bind_some9, th, bind_some9, i5 hi hL]
  exact arm_tail al
theorem arm_wrap (I : LW B L b xs h S) (m : Rm 50000 228000 h) (hi : i + 5 ≤ L) (hL : L ≤ 120) : ArmOK B L b xs h i F_L_law_A978 := by
  obtain ⟨k, h1, r, S1, ec, em, X⟩ := x_wrap (xs (i + 1)) I m
  obtain ⟨H, eH, p1, W, sc1, o1, o2, th, al, I1, g⟩ := I.after X
  have M := e_X4_wrap W (xs (i + 1)) S
  rw [← p1, em] at M
  have M2 : F_X4_wrap (B + 11) (xs (i + 1)) h1 = some (r, H) := by rw [eH]; exact M
  refine ⟨H, S1, ?_, I1, g⟩
  unfold F_L_law_A978
  rw [show aldI _ 0 (some b) (I32 i + (1 : Int32)) = some (xs (i + 1)) from LW.ld I.2.2.2.2.2.2.2.1 hi hL (show 1 < 5 by decide), bind_some9, ec, b2_s, show aldI _ 0 (some b) (I32 i + (1 : Int32)) = some (xs (i + 1)) from LW.ld sc1 hi hL (show 1 < 5 by decide), bind_some9, o1, bind_some9, M2, b2_s, o2, bind_some9, th, bind_some9, i5 hi hL]
  exact arm_tail al
theorem arm_setStay (I : LW B L b xs h S) (m : Rm 50000 228000 h) (hi : i + 5 ≤ L) (hL : L ≤ 120) : ArmOK B L b xs h i F_L_law_A1034 := by
  obtain ⟨k, h1, r, S1, ec, em, X⟩ := x_setStay (xs (i + 1)) (xs (i + 2)) (xs (i + 3)) I m
  obtain ⟨H, eH, p1, W, sc1, o1, o2, th, al, I1, g⟩ := I.after X
  have M := e_X4_setStay W (xs (i + 1)) (xs (i + 2)) (xs (i + 3)) S
  rw [← p1, em] at M
  have M2 : F_X4_setStay (B + 11) (xs (i + 1)) (xs (i + 2)) (xs (i + 3)) h1 = some (r, H) := by rw [eH]; exact M
  refine ⟨H, S1, ?_, I1, g⟩
  unfold F_L_law_A1034
  rw [show aldI _ 0 (some b) (I32 i + (1 : Int32)) = some (xs (i + 1)) from LW.ld I.2.2.2.2.2.2.2.1 hi hL (show 1 < 5 by decide), bind_some9, show aldI _ 0 (some b) (I32 i + (2 : Int32)) = some (xs (i + 2)) from LW.ld I.2.2.2.2.2.2.2.1 hi hL (show 2 < 5 by decide), bind_some9, show aldI _ 0 (some b) (I32 i + (3 : Int32)) = some (xs (i + 3)) from LW.ld I.2.2.2.2.2.2.2.1 hi hL (show 3 < 5 by decide), bind_some9, ec, b2_s, show aldI _ 0 (some b) (I32 i + (1 : Int32)) = some (xs (i + 1)) from LW.ld sc1 hi hL (show 1 < 5 by decide), bind_some9, show aldI _ 0 (some b) (I32 i + (2 : Int32)) = some (xs (i + 2)) from LW.ld sc1 hi hL (show 2 < 5 by decide), bind_some9, show aldI _ 0 (some b) (I32 i + (3 : Int32)) = some (xs (i + 3)) from LW.ld sc1 hi hL (show 3 < 5 by decide), bind_some9, o1, bind_some9, M2, b2_s, o2, bind_some9, th, bind_some9, i5 hi hL]
  exact arm_tail al
theorem arm_addLine (I : LW B L b xs h S) (m : Rm 50000 228000 h) (hi : i + 5 ≤ L) (hL : L ≤ 120) : ArmOK B L b xs h i F_L_law_A1114 := by
  obtain ⟨k, h1, r, S1, ec, em, X⟩ := x_addLine (xs (i + 1)) (xs (i + 2)) I m
  obtain ⟨H, eH, p1, W, sc1, o1, o2, th, al, I1, g⟩ := I.after X
  have M := e_X4_addLine W (xs (i + 1)) (xs (i + 2)) S
  rw [← p1, em] at M
  have M2 : F_X4_addLine (B + 11) (xs (i + 1)) (xs (i + 2)) h1 = some (r, H) := by rw [eH]; exact M
  refine ⟨H, S1, ?_, I1, g⟩
  unfold F_L_law_A1114
  rw [show aldI _ 0 (some b) (I32 i + (1 : Int32)) = some (xs (i + 1)) from LW.ld I.2.2.2.2.2.2.2.1 hi hL (show 1 < 5 by decide), bind_some9, show aldI _ 0 (some b) (I32 i + (2 : Int32)) = some (xs (i + 2)) from LW.ld I.2.2.2.2.2.2.2.1 hi hL (show 2 < 5 by decide), bind_some9, ec, b2_s, show aldI _ 0 (some b) (I32 i + (1 : Int32)) = some (xs (i + 1)) from LW.ld sc1 hi hL (show 1 < 5 by decide), bind_some9, show aldI _ 0 (some b) (I32 i + (2 : Int32)) = some (xs (i + 2)) from LW.ld sc1 hi hL (show 2 < 5 by decide), bind_some9, o1, bind_some9, M2, b2_s, o2, bind_some9, th, bind_some9, i5 hi hL]
  exact arm_tail al
theorem arm_setNeed (I : LW B L b xs h S) (m : Rm 50000 228000 h) (hi : i + 5 ≤ L) (hL : L ≤ 120) : ArmOK B L b xs h i F_L_law_A1182 := by
  obtain ⟨k, h1, r, S1, ec, em, X⟩ := x_setNeed (xs (i + 1)) (xs (i + 2)) (xs (i + 3)) (xs (i + 4)) I m
  obtain ⟨H, eH, p1, W, sc1, o1, o2, th, al, I1, g⟩ := I.after X
  have M := e_X4_setNeed W (xs (i + 1)) (xs (i + 2)) (xs (i + 3)) (xs (i + 4)) S
  rw [← p1, em] at M
  have M2 : F_X4_setNeed (B + 11) (xs (i + 1)) (xs (i + 2)) (xs (i + 3)) (xs (i + 4)) h1 = some (r, H) := by rw [eH]; exact M
  refine ⟨H, S1, ?_, I1, g⟩
  unfold F_L_law_A1182
  rw [show aldI _ 0 (some b) (I32 i + (1 : Int32)) = some (xs (i + 1)) from LW.ld I.2.2.2.2.2.2.2.1 hi hL (show 1 < 5 by decide), bind_some9, show aldI _ 0 (some b) (I32 i + (2 : Int32)) = some (xs (i + 2)) from LW.ld I.2.2.2.2.2.2.2.1 hi hL (show 2 < 5 by decide), bind_some9, show aldI _ 0 (some b) (I32 i + (3 : Int32)) = some (xs (i + 3)) from LW.ld I.2.2.2.2.2.2.2.1 hi hL (show 3 < 5 by decide), bind_some9, show aldI _ 0 (some b) (I32 i + (4 : Int32)) = some (xs (i + 4)) from LW.ld I.2.2.2.2.2.2.2.1 hi hL (show 4 < 5 by decide), bind_some9, ec, b2_s, show aldI _ 0 (some b) (I32 i + (1 : Int32)) = some (xs (i + 1)) from LW.ld sc1 hi hL (show 1 < 5 by decide), bind_some9, show aldI _ 0 (some b) (I32 i + (2 : Int32)) = some (xs (i + 2)) from LW.ld sc1 hi hL (show 2 < 5 by decide), bind_some9, show aldI _ 0 (some b) (I32 i + (3 : Int32)) = some (xs (i + 3)) from LW.ld sc1 hi hL (show 3 < 5 by decide), bind_some9, show aldI _ 0 (some b) (I32 i + (4 : Int32)) = some (xs (i + 4)) from LW.ld sc1 hi hL (show 4 < 5 by decide), bind_some9, o1, bind_some9, M2, b2_s, o2, bind_some9, th, bind_some9, i5 hi hL]
  exact arm_tail al
theorem arm_turnReset (I : LW B L b xs h S) (m : Rm 50000 228000 h) (hi : i + 5 ≤ L) (hL : L ≤ 120) : ArmOK B L b xs h i F_L_law_A1274 := by
  obtain ⟨k, h1, r, S1, ec, em, X⟩ := x_turnReset (xs (i + 1)) (xs (i + 2)) I m
  obtain ⟨H, eH, p1, W, sc1, o1, o2, th, al, I1, g⟩ := I.after X
  have M := e_X4_turnReset W (xs (i + 1)) (xs (i + 2)) S
  rw [← p1, em] at M
  have M2 : F_X4_turnReset (B + 11) (xs (i + 1)) (xs (i + 2)) h1 = some (r, H) := by rw [eH]; exact M
  refine ⟨H, S1, ?_, I1, g⟩
  unfold F_L_law_A1274
  rw [show aldI _ 0 (some b) (I32 i + (1 : Int32)) = some (xs (i + 1)) from LW.ld I.2.2.2.2.2.2.2.1 hi hL (show 1 < 5 by decide), bind_some9, show aldI _ 0 (some b) (I32 i + (2 : Int32)) = some (xs (i + 2)) from LW.ld I.2.2.2.2.2.2.2.1 hi hL (show 2 < 5 by decide), bind_some9, ec, b2_s, show aldI _ 0 (some b) (I32 i + (1 : Int32)) = some (xs (i + 1)) from LW.ld sc1 hi hL (show 1 < 5 by decide), bind_some9, show aldI _ 0 (some b) (I32 i + (2 : Int32)) = some (xs (i + 2)) from LW.ld sc1 hi hL (show 2 < 5 by decide), bind_some9, o1, bind_some9, M2, b2_s, o2, bind_some9, th, bind_some9, i5 hi hL]
  exact arm_tail al
end ARMS
