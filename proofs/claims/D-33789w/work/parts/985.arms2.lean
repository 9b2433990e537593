/-! the arms of the law: queries -/
theorem share_tail {c : Int32} {X : (Int32 × HH) ⊕ HH} : (if c = 0 then some X else (if c = 0 then none else (if c = 0 then none else some X))) = some X := by
  by_cases h : c = 0
  · rw [if_pos h]
  · rw [if_neg h, if_neg h, if_neg h]
section ARMS
variable {B L b : Nat} {xs : Nat → Int32} {h : HH} {S : MS} {i : Nat}
theorem arm_told (I : LW B L b xs h S) (m : Rm 50000 228000 h) (hi : i + 5 ≤ L) (hL : L ≤ 120) : ArmOK B L b xs h i F_L_law_A1349 := by
  obtain ⟨k, h1, r, S1, ec, em, X⟩ := x_told (xs (i + 1)) (xs (i + 2)) I m
  obtain ⟨H, eH, p1, W, sc1, o1, o2, th, al, I1, g⟩ := I.after X
  have M := e_X4_told W (xs (i + 1)) (xs (i + 2)) S
  rw [← p1, em] at M
  have M2 : F_X4_told (B + 11) (xs (i + 1)) (xs (i + 2)) h1 = some (r, H) := by rw [eH]; exact M
  refine ⟨H, S1, ?_, I1, g⟩
  unfold F_L_law_A1349
  rw [show aldI _ 0 (some b) (I32 i + (1 : Int32)) = some (xs (i + 1)) from LW.ld I.2.2.2.2.2.2.2.1 hi hL (show 1 < 5 by decide), bind_some9, show aldI _ 0 (some b) (I32 i + (2 : Int32)) = some (xs (i + 2)) from LW.ld I.2.2.2.2.2.2.2.1 hi hL (show 2 < 5 by decide), bind_some9, ec, b2_s, show aldI _ 0 (some b) (I32 i + (1 : Int32)) = some (xs (i + 1)) from LW.ld sc1 hi hL (show 1 < 5 by decide), bind_some9, show aldI _ 0 (some b) (I32 i + (2 : Int32)) = some (xs (i + 2)) from LW.ld sc1 hi hL (show 2 < 5 by decide), bind_some9, o1, bind_some9, M2, b2_s, o2, bind_some9, th, bind_some9, i5 hi hL]
  exact arm_tail al
theorem arm_tightened (I : LW B L b xs h S) (m : Rm 50000 228000 h) (hi : i + 5 ≤ L) (hL : L ≤ 120) : ArmOK B L b xs h i F_L_law_A1417 := by
  obtain ⟨k, h1, r, S1, ec, em, X⟩ := x_tightened (xs (i + 1)) (xs (i + 2)) I m
  obtain ⟨H, eH, p1, W, sc1, o1, o2, th, al, I1, g⟩ := I.after X
  have M := e_X4_tightened W (xs (i + 1)) (xs (i + 2)) S
  rw [← p1, em] at M
  have M2 : F_X4_tightened (B + 11) (xs (i + 1)) (xs (i + 2)) h1 = some (r, H) := by rw [eH]; exact M
  refine ⟨H, S1, ?_, I1, g⟩
  unfold F_L_law_A1417
  rw [show aldI _ 0 (some b) (I32 i + (1 : Int32)) = some (xs (i + 1)) from LW.ld I.2.2.2.2.2.2.2.1 hi hL (show 1 < 5 by decide), bind_some9, show aldI _ 0 (some b) (I32 i + (2 : Int32)) = some (xs (i + 2)) from LW.ld I.2.2.2.2.2.2.2.1 hi hL (show 2 < 5 by decide), bind_some9, ec, b2_s, show aldI _ 0 (some b) (I32 i + (1 : Int32)) = some (xs (i + 1)) from LW.ld sc1 hi hL (show 1 < 5 by decide), bind_some9, show aldI _ 0 (some b) (I32 i + (2 : Int32)) = some (xs (i + 2)) from LW.ld sc1 hi hL (show 2 < 5 by decide), bind_some9, o1, bind_some9, M2, b2_s, o2, bind_some9, th, bind_some9, i5 hi hL]
  exact arm_tail al
theorem arm_isTight (I : LW B L b xs h S) (m : Rm 50000 228000 h) (hi : i + 5 ≤ L) (hL : L ≤ 120) : ArmOK B L b xs h i F_L_law_A1485 := by
  obtain ⟨r, h1, S1, ec, em, X⟩ := x_isTight I m
  obtain ⟨H, eH, p1, W, o0, o1, I1, g⟩ := I.afterQ X
  have M := e_X4_isTight W S
  rw [← p1, em] at M
  have M2 : F_X4_isTight (B + 11) h1 = some (r, H) := by rw [eH]; exact M
  refine ⟨H, S1, ?_, I1, g⟩
  unfold F_L_law_A1485
  rw [o0, bind_some9, ec, b2_s, o1, bind_some9, M2, b2_s, i5 hi hL]
  exact if_pos rfl
theorem arm_isEmpty (I : LW B L b xs h S) (m : Rm 50000 228000 h) (hi : i + 5 ≤ L) (hL : L ≤ 120) : ArmOK B L b xs h i F_L_law_A1498 := by
  obtain ⟨r, h1, S1, ec, em, X⟩ := x_isEmpty I m
  obtain ⟨H, eH, p1, W, o0, o1, I1, g⟩ := I.afterQ X
  have M := e_X4_isEmpty W S
  rw [← p1, em] at M
  have M2 : F_X4_isEmpty (B + 11) h1 = some (r, H) := by rw [eH]; exact M
  refine ⟨H, S1, ?_, I1, g⟩
  unfold F_L_law_A1498
  rw [o0, bind_some9, ec, b2_s, o1, bind_some9, M2, b2_s, i5 hi hL]
  exact if_pos rfl
theorem arm_isEmptyByMoments (I : LW B L b xs h S) (m : Rm 50000 228000 h) (hi : i + 5 ≤ L) (hL : L ≤ 120) : ArmOK B L b xs h i F_L_law_A1511 := by
  obtain ⟨r, h1, S1, ec, em, X⟩ := x_isEmptyByMoments I m
  obtain ⟨H, eH, p1, W, o0, o1, I1, g⟩ := I.afterQ X
  have M := e_X4_isEmptyByMoments W S
  rw [← p1, em] at M
  have M2 : F_X4_isEmptyByMoments (B + 11) h1 = some (r, H) := by rw [eH]; exact M
  refine ⟨H, S1, ?_, I1, g⟩
  unfold F_L_law_A1511
  rw [o0, bind_some9, ec, b2_s, o1, bind_some9, M2, b2_s, i5 hi hL]
  exact if_pos rfl
theorem arm_hasMoment (I : LW B L b xs h S) (m : Rm 50000 228000 h) (hi : i + 5 ≤ L) (hL : L ≤ 120) : ArmOK B L b xs h i F_L_law_A1524 := by
  obtain ⟨k, h1, r, S1, ec, em, X⟩ := x_hasMoment (xs (i + 1)) (xs (i + 2)) (xs (i + 3)) I m
  obtain ⟨H, eH, p1, W, sc1, o1, o2, th, al, I1, g⟩ := I.after X
  have M := e_X4_hasMoment W (xs (i + 1)) (xs (i + 2)) (xs (i + 3)) S
  rw [← p1, em] at M
  have M2 : F_X4_hasMoment (B + 11) (xs (i + 1)) (xs (i + 2)) (xs (i + 3)) h1 = some (r, H) := by rw [eH]; exact M
  refine ⟨H, S1, ?_, I1, g⟩
  unfold F_L_law_A1524
  rw [show aldI _ 0 (some b) (I32 i + (1 : Int32)) = some (xs (i + 1)) from LW.ld I.2.2.2.2.2.2.2.1 hi hL (show 1 < 5 by decide), bind_some9, show aldI _ 0 (some b) (I32 i + (2 : Int32)) = some (xs (i + 2)) from LW.ld I.2.2.2.2.2.2.2.1 hi hL (show 2 < 5 by decide), bind_some9, show aldI _ 0 (some b) (I32 i + (3 : Int32)) = some (xs (i + 3)) from LW.ld I.2.2.2.2.2.2.2.1 hi hL (show 3 < 5 by decide), bind_some9, ec, b2_s, show aldI _ 0 (some b) (I32 i + (1 : Int32)) = some (xs (i + 1)) from LW.ld sc1 hi hL (show 1 < 5 by decide), bind_some9, show aldI _ 0 (some b) (I32 i + (2 : Int32)) = some (xs (i + 2)) from LW.ld sc1 hi hL (show 2 < 5 by decide), bind_some9, show aldI _ 0 (some b) (I32 i + (3 : Int32)) = some (xs (i + 3)) from LW.ld sc1 hi hL (show 3 < 5 by decide), bind_some9, o1, bind_some9, M2, b2_s, o2, bind_some9, th, bind_some9, i5 hi hL]
  exact arm_tail al
theorem arm_moments (I : LW B L b xs h S) (m : Rm 50000 228000 h) (hi : i + 5 ≤ L) (hL : L ≤ 120) : ArmOK B L b xs h i F_L_law_A1611 := by
  obtain ⟨r, h1, S1, ec, em, X⟩ := x_moments I m
  obtain ⟨H, eH, p1, W, o0, o1, I1, g⟩ := I.afterQ X
  have M := e_X4_moments W S
  rw [← p1, em] at M
  have M2 : F_X4_moments (B + 11) h1 = some (r, H) := by rw [eH]; exact M
  refine ⟨H, S1, ?_, I1, g⟩
  unfold F_L_law_A1611
  rw [o0, bind_some9, ec, b2_s, o1, bind_some9, M2, b2_s, i5 hi hL]
  exact if_pos rfl
theorem arm_momentsTightened (I : LW B L b xs h S) (m : Rm 50000 228000 h) (hi : i + 5 ≤ L) (hL : L ≤ 120) : ArmOK B L b xs h i F_L_law_A1624 := by
  obtain ⟨r, h1, S1, ec, em, X⟩ := x_momentsTightened I m
  obtain ⟨H, eH, p1, W, o0, o1, I1, g⟩ := I.afterQ X
  have M := e_X4_momentsTightened W S
  rw [← p1, em] at M
  have M2 : F_X4_momentsTightened (B + 11) h1 = some (r, H) := by rw [eH]; exact M
  refine ⟨H, S1, ?_, I1, g⟩
  unfold F_L_law_A1624
  rw [o0, bind_some9, ec, b2_s, o1, bind_some9, M2, b2_s, i5 hi hL]
  exact if_pos rfl
theorem arm_leastOf (I : LW B L b xs h S) (m : Rm 50000 228000 h) (hi : i + 5 ≤ L) (hL : L ≤ 120) : ArmOK B L b xs h i F_L_law_A1637 := by
  obtain ⟨k, h1, r, S1, ec, em, X⟩ := x_leastOf (xs (i + 1)) I m
  obtain ⟨H, eH, p1, W, sc1, o1, o2, th, al, I1, g⟩ := I.after X
  have M := e_X4_leastOf W (xs (i + 1)) S
  rw [← p1, em] at M
  have M2 : F_X4_leastOf (B + 11) (xs (i + 1)) h1 = some (r, H) := by rw [eH]; exact M
  refine ⟨H, S1, ?_, I1, g⟩
  unfold F_L_law_A1637
  rw [show aldI _ 0 (some b) (I32 i + (1 : Int32)) = some (xs (i + 1)) from LW.ld I.2.2.2.2.2.2.2.1 hi hL (show 1 < 5 by decide), bind_some9, ec, b2_s, show aldI _ 0 (some b) (I32 i + (1 : Int32)) = some (xs (i + 1)) from LW.ld sc1 hi hL (show 1 < 5 by decide), bind_some9, o1, bind_some9, M2, b2_s, o2, bind_some9, th, bind_some9, i5 hi hL]
  exact arm_tail al
theorem arm_mostOf (I : LW B L b xs h S) (m : Rm 50000 228000 h) (hi : i + 5 ≤ L) (hL : L ≤ 120) : ArmOK B L b xs h i F_L_law_A1693 := by
  obtain ⟨k, h1, r, S1, ec, em, X⟩ := x_mostOf (xs (i + 1)) I m
  obtain ⟨H, eH, p1, W, sc1, o1, o2, th, al, I1, g⟩ := I.after X
  have M := e_X4_mostOf W (xs (i + 1)) S
  rw [← p1, em] at M
  have M2 : F_X4_mostOf (B + 11) (xs (i + 1)) h1 = some (r, H) := by rw [eH]; exact M
  refine ⟨H, S1, ?_, I1, g⟩
  unfold F_L_law_A1693
  rw [show aldI _ 0 (some b) (I32 i + (1 : Int32)) = some (xs (i + 1)) from LW.ld I.2.2.2.2.2.2.2.1 hi hL (show 1 < 5 by decide), bind_some9, ec, b2_s, show aldI _ 0 (some b) (I32 i + (1 : Int32)) = some (xs (i + 1)) from LW.ld sc1 hi hL (show 1 < 5 by decide), bind_some9, o1, bind_some9, M2, b2_s, o2, bind_some9, th, bind_some9, i5 hi hL]
  exact arm_tail al
theorem arm_longestDelay (I : LW B L b xs h S) (m : Rm 50000 228000 h) (hi : i + 5 ≤ L) (hL : L ≤ 120) : ArmOK B L b xs h i F_L_law_A1749 := by
  obtain ⟨k, h1, r, S1, ec, em, X⟩ := x_longestDelay (xs (i + 1)) (xs (i + 2)) (xs (i + 3)) I m
  obtain ⟨H, eH, p1, W, sc1, o1, o2, th, al, I1, g⟩ := I.after X
  have M := e_X4_longestDelay W (xs (i + 1)) (xs (i + 2)) (xs (i + 3)) S
  rw [← p1, em] at M
  have M2 : F_X4_longestDelay (B + 11) (xs (i + 1)) (xs (i + 2)) (xs (i + 3)) h1 = some (r, H) := by rw [eH]; exact M
  refine ⟨H, S1, ?_, I1, g⟩
  unfold F_L_law_A1749
  rw [show aldI _ 0 (some b) (I32 i + (1 : Int32)) = some (xs (i + 1)) from LW.ld I.2.2.2.2.2.2.2.1 hi hL (show 1 < 5 by decide), bind_some9, show aldI _ 0 (some b) (I32 i + (2 : Int32)) = some (xs (i + 2)) from LW.ld I.2.2.2.2.2.2.2.1 hi hL (show 2 < 5 by decide), bind_some9, show aldI _ 0 (some b) (I32 i + (3 : Int32)) = some (xs (i + 3)) from LW.ld I.2.2.2.2.2.2.2.1 hi hL (show 3 < 5 by decide), bind_some9, ec, b2_s, show aldI _ 0 (some b) (I32 i + (1 : Int32)) = some (xs (i + 1)) from LW.ld sc1 hi hL (show 1 < 5 by decide), bind_some9, show aldI _ 0 (some b) (I32 i + (2 : Int32)) = some (xs (i + 2)) from LW.ld sc1 hi hL (show 2 < 5 by decide), bind_some9, show aldI _ 0 (some b) (I32 i + (3 : Int32)) = some (xs (i + 3)) from LW.ld sc1 hi hL (show 3 < 5 by decide), bind_some9, o1, bind_some9, M2, b2_s, o2, bind_some9, th, bind_some9, i5 hi hL]
  exact arm_tail al
theorem arm_needless (I : LW B L b xs h S) (m : Rm 50000 228000 h) (hi : i + 5 ≤ L) (hL : L ≤ 120) : ArmOK B L b xs h i F_L_law_A1829 := by
  obtain ⟨k, h1, r, S1, ec, em, X⟩ := x_needless I m
  obtain ⟨H, eH, p1, W, sc1, o1, o2, th, al, I1, g⟩ := I.after X
  have M := e_X4_needless W S
  rw [← p1, em] at M
  have M2 : F_X4_needless (B + 11) h1 = some (r, H) := by rw [eH]; exact M
  refine ⟨H, S1, ?_, I1, g⟩
  unfold F_L_law_A1829
  rw [ec, b2_s, o1, bind_some9, M2, b2_s, o2, bind_some9, th, bind_some9, i5 hi hL]
  exact arm_tail al
theorem arm_isShelfEmpty (I : LW B L b xs h S) (m : Rm 50000 228000 h) (hi : i + 5 ≤ L) (hL : L ≤ 120) : ArmOK B L b xs h i F_L_law_A1873 := by
  obtain ⟨k, h1, r, S1, ec, em, X⟩ := x_isShelfEmpty (xs (i + 1)) I m
  obtain ⟨H, eH, p1, W, sc1, o1, o2, th, al, I1, g⟩ := I.after X
  have M := e_X4_isShelfEmpty W (xs (i + 1)) S
  rw [← p1, em] at M
  have M2 : F_X4_isShelfEmpty (B + 11) (xs (i + 1)) h1 = some (r, H) := by rw [eH]; exact M
  refine ⟨H, S1, ?_, I1, g⟩
  unfold F_L_law_A1873
  rw [show aldI _ 0 (some b) (I32 i + (1 : Int32)) = some (xs (i + 1)) from LW.ld I.2.2.2.2.2.2.2.1 hi hL (show 1 < 5 by decide), bind_some9, ec, b2_s, show aldI _ 0 (some b) (I32 i + (1 : Int32)) = some (xs (i + 1)) from LW.ld sc1 hi hL (show 1 < 5 by decide), bind_some9, o1, bind_some9, M2, b2_s, o2, bind_some9, th, bind_some9, i5 hi hL]
  exact arm_tail al
theorem arm_isWithin (I : LW B L b xs h S) (m : Rm 50000 228000 h) (hi : i + 5 ≤ L) (hL : L ≤ 120) : ArmOK B L b xs h i F_L_law_A1936 := by
  obtain ⟨k, h1, r, S1, ec, em, X⟩ := x_isWithin (xs (i + 1)) I m
  obtain ⟨H, eH, p1, W, sc1, o1, o2, th, al, I1, g⟩ := I.after X
  have M := e_X4_isWithin W (xs (i + 1)) S
  rw [← p1, em] at M
  have M2 : F_X4_isWithin (B + 11) (xs (i + 1)) h1 = some (r, H) := by rw [eH]; exact M
  refine ⟨H, S1, ?_, I1, g⟩
  unfold F_L_law_A1936
  rw [show aldI _ 0 (some b) (I32 i + (1 : Int32)) = some (xs (i + 1)) from LW.ld I.2.2.2.2.2.2.2.1 hi hL (show 1 < 5 by decide), bind_some9, ec, b2_s, show aldI _ 0 (some b) (I32 i + (1 : Int32)) = some (xs (i + 1)) from LW.ld sc1 hi hL (show 1 < 5 by decide), bind_some9, o1, bind_some9, M2, b2_s, o2, bind_some9, th, bind_some9, i5 hi hL]
  exact arm_tail al
theorem arm_momentsBeyond (I : LW B L b xs h S) (m : Rm 50000 228000 h) (hi : i + 5 ≤ L) (hL : L ≤ 120) : ArmOK B L b xs h i F_L_law_A1999 := by
  obtain ⟨k, h1, r, S1, ec, em, X⟩ := x_momentsBeyond (xs (i + 1)) I m
  obtain ⟨H, eH, p1, W, sc1, o1, o2, th, al, I1, g⟩ := I.after X
  have M := e_X4_momentsBeyond W (xs (i + 1)) S
  rw [← p1, em] at M
  have M2 : F_X4_momentsBeyond (B + 11) (xs (i + 1)) h1 = some (r, H) := by rw [eH]; exact M
  refine ⟨H, S1, ?_, I1, g⟩
  unfold F_L_law_A1999
  rw [show aldI _ 0 (some b) (I32 i + (1 : Int32)) = some (xs (i + 1)) from LW.ld I.2.2.2.2.2.2.2.1 hi hL (show 1 < 5 by decide), bind_some9, ec, b2_s, show aldI _ 0 (some b) (I32 i + (1 : Int32)) = some (xs (i + 1)) from LW.ld sc1 hi hL (show 1 < 5 by decide), bind_some9, o1, bind_some9, M2, b2_s, o2, bind_some9, th, bind_some9, i5 hi hL]
  exact arm_tail al
theorem arm_doMeet (I : LW B L b xs h S) (m : Rm 50000 228000 h) (hi : i + 5 ≤ L) (hL : L ≤ 120) : ArmOK B L b xs h i F_L_law_A2055 := by
  obtain ⟨k, h1, r, S1, ec, em, X⟩ := x_doMeet (xs (i + 1)) I m
  obtain ⟨H, eH, p1, W, sc1, o1, o2, th, al, I1, g⟩ := I.after X
  have M := e_X4_doMeet W (xs (i + 1)) S
  rw [← p1, em] at M
  have M2 : F_X4_doMeet (B + 11) (xs (i + 1)) h1 = some (r, H) := by rw [eH]; exact M
  refine ⟨H, S1, ?_, I1, g⟩
  unfold F_L_law_A2055
  rw [show aldI _ 0 (some b) (I32 i + (1 : Int32)) = some (xs (i + 1)) from LW.ld I.2.2.2.2.2.2.2.1 hi hL (show 1 < 5 by decide), bind_some9, ec, b2_s, show aldI _ 0 (some b) (I32 i + (1 : Int32)) = some (xs (i + 1)) from LW.ld sc1 hi hL (show 1 < 5 by decide), bind_some9, o1, bind_some9, M2, b2_s, o2, bind_some9, th, bind_some9, i5 hi hL]
  exact arm_tail al
theorem arm_stayOf (I : LW B L b xs h S) (m : Rm 50000 228000 h) (hi : i + 5 ≤ L) (hL : L ≤ 120) : ArmOK B L b xs h i F_L_law_A2118 := by
  obtain ⟨k, h1, r, S1, ec, em, X⟩ := x_stayOf (xs (i + 1)) (xs (i + 2)) I m
  obtain ⟨H, eH, p1, W, sc1, o1, o2, th, al, I1, g⟩ := I.after X
  have M := e_X4_stayOf W (xs (i + 1)) (xs (i + 2)) S
  rw [← p1, em] at M
  have M2 : F_X4_stayOf (B + 11) (xs (i + 1)) (xs (i + 2)) h1 = some (r, H) := by rw [eH]; exact M
  refine ⟨H, S1, ?_, I1, g⟩
  unfold F_L_law_A2118
  rw [show aldI _ 0 (some b) (I32 i + (1 : Int32)) = some (xs (i + 1)) from LW.ld I.2.2.2.2.2.2.2.1 hi hL (show 1 < 5 by decide), bind_some9, show aldI _ 0 (some b) (I32 i + (2 : Int32)) = some (xs (i + 2)) from LW.ld I.2.2.2.2.2.2.2.1 hi hL (show 2 < 5 by decide), bind_some9, ec, b2_s, show aldI _ 0 (some b) (I32 i + (1 : Int32)) = some (xs (i + 1)) from LW.ld sc1 hi hL (show 1 < 5 by decide), bind_some9, show aldI _ 0 (some b) (I32 i + (2 : Int32)) = some (xs (i + 2)) from LW.ld sc1 hi hL (show 2 < 5 by decide), bind_some9, o1, bind_some9, M2, b2_s, o2, bind_some9, th, bind_some9, i5 hi hL]
  exact arm_tail al
theorem arm_lines (I : LW B L b xs h S) (m : Rm 50000 228000 h) (hi : i + 5 ≤ L) (hL : L ≤ 120) : ArmOK B L b xs h i F_L_law_A2186 := by
  obtain ⟨r, S1, ec, em, R1⟩ := x_lines I
  obtain ⟨H, eH, p1, W, o0, o1, I1, g⟩ := I.afterQ (h1 := h) (S1 := S1) ⟨(Gr.rf I.2.1).mono (by decide) (by decide), KeepX.gr I.2.1 (Gr.rf I.2.1), R1⟩
  have M := e_X4_lines W S
  rw [← p1, em] at M
  have M2 : F_X4_lines (B + 11) h = some (r, H) := by rw [eH]; exact M
  refine ⟨H, S1, ?_, I1, g⟩
  unfold F_L_law_A2186
  rw [o0, bind_some9, ec, bind_some9, o1, bind_some9, M2, b2_s, i5 hi hL]
  exact if_pos rfl
theorem arm_fromOf (I : LW B L b xs h S) (m : Rm 50000 228000 h) (hi : i + 5 ≤ L) (hL : L ≤ 120) : ArmOK B L b xs h i F_L_law_A2199 := by
  obtain ⟨k, h1, r, S1, ec, em, X⟩ := x_fromOf (xs (i + 1)) I m
  obtain ⟨H, eH, p1, W, sc1, o1, o2, th, al, I1, g⟩ := I.after X
  have M := e_X4_fromOf W (xs (i + 1)) S
  rw [← p1, em] at M
  have M2 : F_X4_fromOf (B + 11) (xs (i + 1)) h1 = some (r, H) := by rw [eH]; exact M
  refine ⟨H, S1, ?_, I1, g⟩
  unfold F_L_law_A2199
  rw [show aldI _ 0 (some b) (I32 i + (1 : Int32)) = some (xs (i + 1)) from LW.ld I.2.2.2.2.2.2.2.1 hi hL (show 1 < 5 by decide), bind_some9, ec, b2_s, show aldI _ 0 (some b) (I32 i + (1 : Int32)) = some (xs (i + 1)) from LW.ld sc1 hi hL (show 1 < 5 by decide), bind_some9, o1, bind_some9, M2, b2_s, o2, bind_some9, th, bind_some9, i5 hi hL]
  exact arm_tail al
theorem arm_toOf (I : LW B L b xs h S) (m : Rm 50000 228000 h) (hi : i + 5 ≤ L) (hL : L ≤ 120) : ArmOK B L b xs h i F_L_law_A2255 := by
  obtain ⟨k, h1, r, S1, ec, em, X⟩ := x_toOf (xs (i + 1)) I m
  obtain ⟨H, eH, p1, W, sc1, o1, o2, th, al, I1, g⟩ := I.after X
  have M := e_X4_toOf W (xs (i + 1)) S
  rw [← p1, em] at M
  have M2 : F_X4_toOf (B + 11) (xs (i + 1)) h1 = some (r, H) := by rw [eH]; exact M
  refine ⟨H, S1, ?_, I1, g⟩
  unfold F_L_law_A2255
  rw [show aldI _ 0 (some b) (I32 i + (1 : Int32)) = some (xs (i + 1)) from LW.ld I.2.2.2.2.2.2.2.1 hi hL (show 1 < 5 by decide), bind_some9, ec, b2_s, show aldI _ 0 (some b) (I32 i + (1 : Int32)) = some (xs (i + 1)) from LW.ld sc1 hi hL (show 1 < 5 by decide), bind_some9, o1, bind_some9, M2, b2_s, o2, bind_some9, th, bind_some9, i5 hi hL]
  exact arm_tail al
theorem arm_doesReset (I : LW B L b xs h S) (m : Rm 50000 228000 h) (hi : i + 5 ≤ L) (hL : L ≤ 120) : ArmOK B L b xs h i F_L_law_A2311 := by
  obtain ⟨k, h1, r, S1, ec, em, X⟩ := x_doesReset (xs (i + 1)) (xs (i + 2)) I m
  obtain ⟨H, eH, p1, W, sc1, o1, o2, th, al, I1, g⟩ := I.after X
  have M := e_X4_doesReset W (xs (i + 1)) (xs (i + 2)) S
  rw [← p1, em] at M
  have M2 : F_X4_doesReset (B + 11) (xs (i + 1)) (xs (i + 2)) h1 = some (r, H) := by rw [eH]; exact M
  refine ⟨H, S1, ?_, I1, g⟩
  unfold F_L_law_A2311
  rw [show aldI _ 0 (some b) (I32 i + (1 : Int32)) = some (xs (i + 1)) from LW.ld I.2.2.2.2.2.2.2.1 hi hL (show 1 < 5 by decide), bind_some9, show aldI _ 0 (some b) (I32 i + (2 : Int32)) = some (xs (i + 2)) from LW.ld I.2.2.2.2.2.2.2.1 hi hL (show 2 < 5 by decide), bind_some9, ec, b2_s, show aldI _ 0 (some b) (I32 i + (1 : Int32)) = some (xs (i + 1)) from LW.ld sc1 hi hL (show 1 < 5 by decide), bind_some9, show aldI _ 0 (some b) (I32 i + (2 : Int32)) = some (xs (i + 2)) from LW.ld sc1 hi hL (show 2 < 5 by decide), bind_some9, o1, bind_some9, M2, b2_s, o2, bind_some9, th, bind_some9, i5 hi hL]
  exact arm_tail al
theorem arm_share (I : LW B L b xs h S) (m : Rm 50000 228000 h) (hi : i + 5 ≤ L) (hL : L ≤ 120) : ArmOK B L b xs h i F_L_law_A2681 := by
  obtain ⟨r, h1, S1, ec, em, X⟩ := x_share I m
  obtain ⟨H, eH, p1, W, o0, o1, I1, g⟩ := I.afterQ X
  have M := e_X4_share W S
  rw [← p1, em] at M
  have M2 : F_X4_share (B + 11) h1 = some (r, H) := by rw [eH]; exact M
  refine ⟨H, S1, ?_, I1, g⟩
  unfold F_L_law_A2681
  rw [o0, bind_some9, ec, b2_s, o1, bind_some9, M2, b2_s, i5 hi hL]
  exact share_tail
theorem arm_shareBits (I : LW B L b xs h S) (m : Rm 50000 228000 h) (hi : i + 5 ≤ L) (hL : L ≤ 120) : ArmOK B L b xs h i F_L_law_A2722 := by
  obtain ⟨r, h1, S1, ec, em, X⟩ := x_shareBits I m
  obtain ⟨H, eH, p1, W, o0, o1, I1, g⟩ := I.afterQ X
  have M := e_X4_shareBits W S
  rw [← p1, em] at M
  have M2 : F_X4_shareBits (B + 11) h1 = some (r, H) := by rw [eH]; exact M
  refine ⟨H, S1, ?_, I1, g⟩
  unfold F_L_law_A2722
  rw [o0, bind_some9, ec, b2_s, o1, bind_some9, M2, b2_s, i5 hi hL]
  exact if_pos rfl
theorem arm_meanBits (I : LW B L b xs h S) (m : Rm 50000 228000 h) (hi : i + 5 ≤ L) (hL : L ≤ 120) : ArmOK B L b xs h i F_L_law_A2735 := by
  obtain ⟨k, h1, r, S1, ec, em, X⟩ := x_meanBits (xs (i + 1)) I m
  obtain ⟨H, eH, p1, W, sc1, o1, o2, th, al, I1, g⟩ := I.after X
  have M := e_X4_meanBits W (xs (i + 1)) S
  rw [← p1, em] at M
  have M2 : F_X4_meanBits (B + 11) (xs (i + 1)) h1 = some (r, H) := by rw [eH]; exact M
  refine ⟨H, S1, ?_, I1, g⟩
  unfold F_L_law_A2735
  rw [show aldI _ 0 (some b) (I32 i + (1 : Int32)) = some (xs (i + 1)) from LW.ld I.2.2.2.2.2.2.2.1 hi hL (show 1 < 5 by decide), bind_some9, ec, b2_s, show aldI _ 0 (some b) (I32 i + (1 : Int32)) = some (xs (i + 1)) from LW.ld sc1 hi hL (show 1 < 5 by decide), bind_some9, o1, bind_some9, M2, b2_s, o2, bind_some9, th, bind_some9, i5 hi hL]
  exact arm_tail al
theorem arm_worked (I : LW B L b xs h S) (m : Rm 50000 228000 h) (hi : i + 5 ≤ L) (hL : L ≤ 120) : ArmOK B L b xs h i F_L_law_A2790 := by
  obtain ⟨r, S1, ec, em, R1⟩ := x_worked I
  obtain ⟨H, eH, p1, W, o0, o1, I1, g⟩ := I.afterQ (h1 := h) (S1 := S1) ⟨(Gr.rf I.2.1).mono (by decide) (by decide), KeepX.gr I.2.1 (Gr.rf I.2.1), R1⟩
  have M := e_X4_worked W S
  rw [← p1, em] at M
  have M2 : F_X4_worked (B + 11) h = some (r, H) := by rw [eH]; exact M
  refine ⟨H, S1, ?_, I1, g⟩
  unfold F_L_law_A2790
  rw [o0, bind_some9, ec, bind_some9, o1, bind_some9, M2, b2_s, i5 hi hL]
  exact if_pos rfl
theorem arm_keep (I : LW B L b xs h S) (m : Rm 50000 228000 h) (hi : i + 5 ≤ L) (hL : L ≤ 120) : ArmOK B L b xs h i F_L_law_A2803 := by
  obtain ⟨r, h1, S1, ec, em, X⟩ := x_keep I m
  obtain ⟨H, eH, p1, W, o0, o1, I1, g⟩ := I.afterQ X
  have M := e_X4_keep W S
  rw [← p1, em] at M
  have M2 : F_X4_keep (B + 11) h1 = some (r, H) := by rw [eH]; exact M
  refine ⟨H, S1, ?_, I1, g⟩
  unfold F_L_law_A2803
  rw [o0, bind_some9, ec, b2_s, o1, bind_some9, M2, b2_s, i5 hi hL]
  exact if_pos rfl
theorem arm_states (I : LW B L b xs h S) (m : Rm 50000 228000 h) (hi : i + 5 ≤ L) (hL : L ≤ 120) : ArmOK B L b xs h i F_L_law_A2860 := by
  obtain ⟨r, S1, ec, em, R1⟩ := x_states I
  obtain ⟨H, eH, p1, W, o0, o1, I1, g⟩ := I.afterQ (h1 := h) (S1 := S1) ⟨(Gr.rf I.2.1).mono (by decide) (by decide), KeepX.gr I.2.1 (Gr.rf I.2.1), R1⟩
  have M := e_X4_states W S
  rw [← p1, em] at M
  have M2 : F_X4_states (B + 11) h = some (r, H) := by rw [eH]; exact M
  refine ⟨H, S1, ?_, I1, g⟩
  unfold F_L_law_A2860
  rw [o0, bind_some9, ec, bind_some9, o1, bind_some9, M2, b2_s, i5 hi hL]
  exact if_pos rfl
end ARMS
