/-! the law's loop -/
section LOOP
variable {B L b : Nat} {xs : Nat → Int32} {h : HH} {S : MS}
theorem law_step (a_reachable : ∀ (h : HH) (S : MS) (i : Nat), LW B L b xs h S → Rm 50000 228000 h → i + 5 ≤ L → ArmOK B L b xs h i F_L_law_A2386) (a_reachableByMoments : ∀ (h : HH) (S : MS) (i : Nat), LW B L b xs h S → Rm 50000 228000 h → i + 5 ≤ L → ArmOK B L b xs h i F_L_law_A2430) (a_zones : ∀ (h : HH) (S : MS) (i : Nat), LW B L b xs h S → Rm 50000 228000 h → i + 5 ≤ L → ArmOK B L b xs h i F_L_law_A2443) (a_zonesOf : ∀ (h : HH) (S : MS) (i : Nat), LW B L b xs h S → Rm 50000 228000 h → i + 5 ≤ L → ArmOK B L b xs h i F_L_law_A2487) (a_fewestLines : ∀ (h : HH) (S : MS) (i : Nat), LW B L b xs h S → Rm 50000 228000 h → i + 5 ≤ L → ArmOK B L b xs h i F_L_law_A2543) (a_fewestTicks : ∀ (h : HH) (S : MS) (i : Nat), LW B L b xs h S → Rm 50000 228000 h → i + 5 ≤ L → ArmOK B L b xs h i F_L_law_A2599) (a_stuckIn : ∀ (h : HH) (S : MS) (i : Nat), LW B L b xs h S → Rm 50000 228000 h → i + 5 ≤ L → ArmOK B L b xs h i F_L_law_A2655) (a_usableLines : ∀ (h : HH) (S : MS) (i : Nat), LW B L b xs h S → Rm 50000 228000 h → i + 5 ≤ L → ArmOK B L b xs h i F_L_law_A2668) (a_faultPosition : ∀ (h : HH) (S : MS) (i : Nat), LW B L b xs h S → Rm 50000 228000 h → i + 5 ≤ L → ArmOK B L b xs h i F_L_law_A2986) (a_faultReason : ∀ (h : HH) (S : MS) (i : Nat), LW B L b xs h S → Rm 50000 228000 h → i + 5 ≤ L → ArmOK B L b xs h i F_L_law_A3030) (a_faultCause : ∀ (h : HH) (S : MS) (i : Nat), LW B L b xs h S → Rm 50000 228000 h → i + 5 ≤ L → ArmOK B L b xs h i F_L_law_A3074) (a_play : ∀ (h : HH) (S : MS) (i : Nat), LW B L b xs h S → Rm 50000 228000 h → i + 5 ≤ L → ArmOK B L b xs h i F_L_law_A3118) {i : Nat} (I : LW B L b xs h S) (m : Rm 50000 228000 h) (hi : i + 5 ≤ L) (hL : L ≤ 120) : ArmOK B L b xs h i F_L_law_B23 := by
  have sc := I.2.2.2.2.2.2.2.1
  have e5 : I32 L - (5 : Int32) = I32 (L - 5) := by
    have : ∀ L, L < 121 → 5 ≤ L → I32 L - (5 : Int32) = I32 (L - 5) := by decide
    exact this L (by omega) (by omega)
  unfold ArmOK F_L_law_B23
  rw [show alen h (some b) = some (I32 L) from v_alen sc (by decide), bind_some9, e5, if_neg (fun q => by have := Int32.lt_iff_toInt_lt.mp q; rw [big_t (by omega), big_t (by omega)] at this; omega), v_aldI sc (ix_of i L (by omega) (by omega)), bind_some9]
  by_cases c : (xs i &&& (63 : Int32)) = (0 : Int32)
  · rw [if_pos c]
    exact arm_tell I m hi hL
  rw [if_neg c]
  clear c
  by_cases c : (xs i &&& (63 : Int32)) = (1 : Int32)
  · rw [if_pos c]
    exact arm_forget I m hi hL
  rw [if_neg c]
  clear c
  by_cases c : (xs i &&& (63 : Int32)) = (2 : Int32)
  · rw [if_pos c]
    exact arm_forgetAll I m hi hL
  rw [if_neg c]
  clear c
  by_cases c : (xs i &&& (63 : Int32)) = (3 : Int32)
  · rw [if_pos c]
    exact arm_tighten I m hi hL
  rw [if_neg c]
  clear c
  by_cases c : (xs i &&& (63 : Int32)) = (4 : Int32)
  · rw [if_pos c]
    exact arm_reset I m hi hL
  rw [if_neg c]
  clear c
  by_cases c : (xs i &&& (63 : Int32)) = (5 : Int32)
  · rw [if_pos c]
    exact arm_delay I m hi hL
  rw [if_neg c]
  clear c
  by_cases c : (xs i &&& (63 : Int32)) = (6 : Int32)
  · rw [if_pos c]
    exact arm_goBackInTime I m hi hL
  rw [if_neg c]
  clear c
  by_cases c : (xs i &&& (63 : Int32)) = (7 : Int32)
  · rw [if_pos c]
    exact arm_setFree I m hi hL
  rw [if_neg c]
  clear c
  by_cases c : (xs i &&& (63 : Int32)) = (8 : Int32)
  · rw [if_pos c]
    exact arm_copyClock I m hi hL
  rw [if_neg c]
  clear c
  by_cases c : (xs i &&& (63 : Int32)) = (9 : Int32)
  · rw [if_pos c]
    exact arm_shift I m hi hL
  rw [if_neg c]
  clear c
  by_cases c : (xs i &&& (63 : Int32)) = (10 : Int32)
  · rw [if_pos c]
    exact arm_store I m hi hL
  rw [if_neg c]
  clear c
  by_cases c : (xs i &&& (63 : Int32)) = (11 : Int32)
  · rw [if_pos c]
    exact arm_meet I m hi hL
  rw [if_neg c]
  clear c
  by_cases c : (xs i &&& (63 : Int32)) = (12 : Int32)
  · rw [if_pos c]
    exact arm_wrap I m hi hL
  rw [if_neg c]
  clear c
  by_cases c : (xs i &&& (63 : Int32)) = (13 : Int32)
  · rw [if_pos c]
    exact arm_setStay I m hi hL
  rw [if_neg c]
  clear c
  by_cases c : (xs i &&& (63 : Int32)) = (14 : Int32)
  · rw [if_pos c]
    exact arm_addLine I m hi hL
  rw [if_neg c]
  clear c
  by_cases c : (xs i &&& (63 : Int32)) = (15 : Int32)
  · rw [if_pos c]
    exact arm_setNeed I m hi hL
  rw [if_neg c]
  clear c
  by_cases c : (xs i &&& (63 : Int32)) = (16 : Int32)
  · rw [if_pos c]
    exact arm_turnReset I m hi hL
  rw [if_neg c]
  clear c
  by_cases c : (xs i &&& (63 : Int32)) = (17 : Int32)
  · rw [if_pos c]
    exact arm_told I m hi hL
  rw [if_neg c]
  clear c
  by_cases c : (xs i &&& (63 : Int32)) = (18 : Int32)
  · rw [if_pos c]
    exact arm_tightened I m hi hL
  rw [if_neg c]
  clear c
  by_cases c : (xs i &&& (63 : Int32)) = (19 : Int32)
  · rw [if_pos c]
    exact arm_isTight I m hi hL
  rw [if_neg c]
  clear c
  by_cases c : (xs i &&& (63 : Int32)) = (20 : Int32)
  · rw [if_pos c]
    exact arm_isEmpty I m hi hL
  rw [if_neg c]
  clear c
  by_cases c : (xs i &&& (63 : Int32)) = (21 : Int32)
  · rw [if_pos c]
    exact arm_isEmptyByMoments I m hi hL
  rw [if_neg c]
  clear c
  by_cases c : (xs i &&& (63 : Int32)) = (22 : Int32)
  · rw [if_pos c]
    exact arm_hasMoment I m hi hL
  rw [if_neg c]
  clear c
  by_cases c : (xs i &&& (63 : Int32)) = (23 : Int32)
  · rw [if_pos c]
    exact arm_moments I m hi hL
  rw [if_neg c]
  clear c
  by_cases c : (xs i &&& (63 : Int32)) = (24 : Int32)
  · rw [if_pos c]
    exact arm_momentsTightened I m hi hL
  rw [if_neg c]
  clear c
  by_cases c : (xs i &&& (63 : Int32)) = (25 : Int32)
  · rw [if_pos c]
    exact arm_leastOf I m hi hL
  rw [if_neg c]
  clear c
  by_cases c : (xs i &&& (63 : Int32)) = (26 : Int32)
  · rw [if_pos c]
    exact arm_mostOf I m hi hL
  rw [if_neg c]
  clear c
  by_cases c : (xs i &&& (63 : Int32)) = (27 : Int32)
  · rw [if_pos c]
    exact arm_longestDelay I m hi hL
  rw [if_neg c]
  clear c
  by_cases c : (xs i &&& (63 : Int32)) = (28 : Int32)
  · rw [if_pos c]
    exact arm_needless I m hi hL
  rw [if_neg c]
  clear c
  by_cases c : (xs i &&& (63 : Int32)) = (29 : Int32)
  · rw [if_pos c]
    exact arm_isShelfEmpty I m hi hL
  rw [if_neg c]
  clear c
  by_cases c : (xs i &&& (63 : Int32)) = (30 : Int32)
  · rw [if_pos c]
    exact arm_isWithin I m hi hL
  rw [if_neg c]
  clear c
  by_cases c : (xs i &&& (63 : Int32)) = (31 : Int32)
  · rw [if_pos c]
    exact arm_momentsBeyond I m hi hL
  rw [if_neg c]
  clear c
  by_cases c : (xs i &&& (63 : Int32)) = (32 : Int32)
  · rw [if_pos c]
    exact arm_doMeet I m hi hL
  rw [if_neg c]
  clear c
  by_cases c : (xs i &&& (63 : Int32)) = (33 : Int32)
  · rw [if_pos c]
    exact arm_stayOf I m hi hL
  rw [if_neg c]
  clear c
  by_cases c : (xs i &&& (63 : Int32)) = (34 : Int32)
  · rw [if_pos c]
    exact arm_lines I m hi hL
  rw [if_neg c]
  clear c
  by_cases c : (xs i &&& (63 : Int32)) = (35 : Int32)
  · rw [if_pos c]
    exact arm_fromOf I m hi hL
  rw [if_neg c]
  clear c
  by_cases c : (xs i &&& (63 : Int32)) = (36 : Int32)
  · rw [if_pos c]
    exact arm_toOf I m hi hL
  rw [if_neg c]
  clear c
  by_cases c : (xs i &&& (63 : Int32)) = (37 : Int32)
  · rw [if_pos c]
    exact arm_doesReset I m hi hL
  rw [if_neg c]
  clear c
  by_cases c : (xs i &&& (63 : Int32)) = (38 : Int32)
  · rw [if_pos c]
    exact a_reachable h S i I m hi
  rw [if_neg c]
  clear c
  by_cases c : (xs i &&& (63 : Int32)) = (39 : Int32)
  · rw [if_pos c]
    exact a_reachableByMoments h S i I m hi
  rw [if_neg c]
  clear c
  by_cases c : (xs i &&& (63 : Int32)) = (40 : Int32)
  · rw [if_pos c]
    exact a_zones h S i I m hi
  rw [if_neg c]
  clear c
  by_cases c : (xs i &&& (63 : Int32)) = (41 : Int32)
  · rw [if_pos c]
    exact a_zonesOf h S i I m hi
  rw [if_neg c]
  clear c
  by_cases c : (xs i &&& (63 : Int32)) = (42 : Int32)
  · rw [if_pos c]
    exact a_fewestLines h S i I m hi
  rw [if_neg c]
  clear c
  by_cases c : (xs i &&& (63 : Int32)) = (43 : Int32)
  · rw [if_pos c]
    exact a_fewestTicks h S i I m hi
  rw [if_neg c]
  clear c
  by_cases c : (xs i &&& (63 : Int32)) = (44 : Int32)
  · rw [if_pos c]
    exact a_stuckIn h S i I m hi
  rw [if_neg c]
  clear c
  by_cases c : (xs i &&& (63 : Int32)) = (45 : Int32)
  · rw [if_pos c]
    exact a_usableLines h S i I m hi
  rw [if_neg c]
  clear c
  by_cases c : (xs i &&& (63 : Int32)) = (46 : Int32)
  · rw [if_pos c]
    exact arm_share I m hi hL
  rw [if_neg c]
  clear c
  by_cases c : (xs i &&& (63 : Int32)) = (47 : Int32)
  · rw [if_pos c]
    exact arm_shareBits I m hi hL
  rw [if_neg c]
  clear c
  by_cases c : (xs i &&& (63 : Int32)) = (48 : Int32)
  · rw [if_pos c]
    exact arm_meanBits I m hi hL
  rw [if_neg c]
  clear c
  by_cases c : (xs i &&& (63 : Int32)) = (49 : Int32)
  · rw [if_pos c]
    exact arm_worked I m hi hL
  rw [if_neg c]
  clear c
  by_cases c : (xs i &&& (63 : Int32)) = (50 : Int32)
  · rw [if_pos c]
    exact arm_keep I m hi hL
  rw [if_neg c]
  clear c
  by_cases c : (xs i &&& (63 : Int32)) = (51 : Int32)
  · rw [if_pos c]
    exact arm_goBack I m hi hL
  rw [if_neg c]
  clear c
  by_cases c : (xs i &&& (63 : Int32)) = (52 : Int32)
  · rw [if_pos c]
    exact arm_states I m hi hL
  rw [if_neg c]
  clear c
  by_cases c : (xs i &&& (63 : Int32)) = (53 : Int32)
  · rw [if_pos c]
    exact arm_undo I m hi hL
  rw [if_neg c]
  clear c
  by_cases c : (xs i &&& (63 : Int32)) = (54 : Int32)
  · rw [if_pos c]
    exact arm_type I m hi hL
  rw [if_neg c]
  clear c
  by_cases c : (xs i &&& (63 : Int32)) = (55 : Int32)
  · rw [if_pos c]
    exact arm_clearText I m hi hL
  rw [if_neg c]
  clear c
  by_cases c : (xs i &&& (63 : Int32)) = (56 : Int32)
  · rw [if_pos c]
    exact a_faultPosition h S i I m hi
  rw [if_neg c]
  clear c
  by_cases c : (xs i &&& (63 : Int32)) = (57 : Int32)
  · rw [if_pos c]
    exact a_faultReason h S i I m hi
  rw [if_neg c]
  clear c
  by_cases c : (xs i &&& (63 : Int32)) = (58 : Int32)
  · rw [if_pos c]
    exact a_faultCause h S i I m hi
  rw [if_neg c]
  clear c
  by_cases c : (xs i &&& (63 : Int32)) = (59 : Int32)
  · rw [if_pos c]
    exact a_play h S i I m hi
  rw [if_neg c]
  clear c
  exact ⟨h, S, by rw [i5 hi hL], I, (Gr.rf I.2.1).mono (by decide) (by decide)⟩
theorem law_loop (a_reachable : ∀ (h : HH) (S : MS) (i : Nat), LW B L b xs h S → Rm 50000 228000 h → i + 5 ≤ L → ArmOK B L b xs h i F_L_law_A2386) (a_reachableByMoments : ∀ (h : HH) (S : MS) (i : Nat), LW B L b xs h S → Rm 50000 228000 h → i + 5 ≤ L → ArmOK B L b xs h i F_L_law_A2430) (a_zones : ∀ (h : HH) (S : MS) (i : Nat), LW B L b xs h S → Rm 50000 228000 h → i + 5 ≤ L → ArmOK B L b xs h i F_L_law_A2443) (a_zonesOf : ∀ (h : HH) (S : MS) (i : Nat), LW B L b xs h S → Rm 50000 228000 h → i + 5 ≤ L → ArmOK B L b xs h i F_L_law_A2487) (a_fewestLines : ∀ (h : HH) (S : MS) (i : Nat), LW B L b xs h S → Rm 50000 228000 h → i + 5 ≤ L → ArmOK B L b xs h i F_L_law_A2543) (a_fewestTicks : ∀ (h : HH) (S : MS) (i : Nat), LW B L b xs h S → Rm 50000 228000 h → i + 5 ≤ L → ArmOK B L b xs h i F_L_law_A2599) (a_stuckIn : ∀ (h : HH) (S : MS) (i : Nat), LW B L b xs h S → Rm 50000 228000 h → i + 5 ≤ L → ArmOK B L b xs h i F_L_law_A2655) (a_usableLines : ∀ (h : HH) (S : MS) (i : Nat), LW B L b xs h S → Rm 50000 228000 h → i + 5 ≤ L → ArmOK B L b xs h i F_L_law_A2668) (a_faultPosition : ∀ (h : HH) (S : MS) (i : Nat), LW B L b xs h S → Rm 50000 228000 h → i + 5 ≤ L → ArmOK B L b xs h i F_L_law_A2986) (a_faultReason : ∀ (h : HH) (S : MS) (i : Nat), LW B L b xs h S → Rm 50000 228000 h → i + 5 ≤ L → ArmOK B L b xs h i F_L_law_A3030) (a_faultCause : ∀ (h : HH) (S : MS) (i : Nat), LW B L b xs h S → Rm 50000 228000 h → i + 5 ≤ L → ArmOK B L b xs h i F_L_law_A3074) (a_play : ∀ (h : HH) (S : MS) (i : Nat), LW B L b xs h S → Rm 50000 228000 h → i + 5 ≤ L → ArmOK B L b xs h i F_L_law_A3118) (I : LW B L b xs h S) (hL : L ≤ 120) (m : Rm (50000 * 24) (228000 * 24) h) : ∃ h2, lp (fun z => F_L_law_B23 (some b) (some B) (some (B + 11)) (some (B + 24)) z.1 z.2) 100000 ((0 : Int32), h) = some h2 := by
  obtain ⟨r, e, _⟩ := lp_inv0 (B := fun z => F_L_law_B23 (some b) (some B) (some (B + 11)) (some (B + 24)) z.1 z.2) (Q := fun _ => True) (fuel := 100000) (x := ((0 : Int32), h)) (fun j y => y.1 = I32 (5 * j) ∧ (∃ S, LW B L b xs y.2 S) ∧ Gr (fun _ => False) (50000 * j) (228000 * j) h y.2) (L / 5) (fun j hj y hy => by
    obtain ⟨x, X⟩ := y
    obtain ⟨e1, ⟨S, I⟩, g⟩ := hy
    have e1 : x = I32 (5 * j) := e1
    subst e1
    have I : LW B L b xs X S := I
    have g : Gr (fun _ => False) (50000 * j) (228000 * j) h X := g
    obtain ⟨H, S1, e, I1, g1⟩ := law_step a_reachable a_reachableByMoments a_zones a_zonesOf a_fewestLines a_fewestTicks a_stuckIn a_usableLines a_faultPosition a_faultReason a_faultCause a_play I ((m.gr g (by omega) (by omega)).mono (by omega) (by omega)) (i := 5 * j) (by omega) hL
    exact ⟨_, e, rfl, ⟨S1, I1⟩, (g.tr g1).mono (by omega) (by omega)⟩) (fun y hy => by
    obtain ⟨x, X⟩ := y
    obtain ⟨e1, ⟨S, I⟩, g⟩ := hy
    have e1 : x = I32 (5 * (L / 5)) := e1
    subst e1
    have I : LW B L b xs X S := I
    have sc := I.2.2.2.2.2.2.2.1
    refine ⟨X, ?_, True.intro⟩
    show F_L_law_B23 (some b) (some B) (some (B + 11)) (some (B + 24)) (I32 (5 * (L / 5))) X = _
    unfold F_L_law_B23
    rw [show alen X (some b) = some (I32 L) from v_alen sc (by decide), bind_some9]
    have e5 : (I32 L - (5 : Int32)).toInt = (L : Int) - 5 := by
      have : ∀ L, L < 121 → (I32 L - (5 : Int32)).toInt = (L : Int) - 5 := by decide
      exact this L (by omega)
    exact if_pos (Int32.lt_iff_toInt_lt.mpr (by rw [e5, big_t (by omega)]; omega))) ⟨rfl, ⟨S, I⟩, (Gr.rf I.2.1).mono (Nat.zero_le _) (Nat.zero_le _)⟩ (by omega)
  exact ⟨r, e⟩
end LOOP
