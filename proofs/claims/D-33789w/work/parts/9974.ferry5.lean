/-! ferries: the resets of a line, both sides -/
def lbit (s : Nat → Int32) (l c : Nat) : Bool := decide (((s (111 + 9 * l) >>> (I32 c &&& 31)) &&& (1 : Int32)) = (1 : Int32))
section FY5
variable {h : HH} {z b ln le mo l : Nat} {d : ZS} {D : OD} {s : Nat → Int32}
theorem m_lresets {S : MS} (hl : l < 10) (rd : rep 100000 d D) (ec : EC D) (a1 : Int32) : ∃ d', lp (fun y => P_X4_goes_B28 a1 (I32 l) y.1 y.2) 100000 ((0 : Int32), setA S 9 d) = some (setA S 9 d') ∧ rep 100000 d' (orst (lbit (S.1 0) l) D 3) := by
  obtain ⟨Y, eL, d', e2, rd'⟩ := lp_inv0 (B := fun y => P_X4_goes_B28 a1 (I32 l) y.1 y.2) (Q := fun Y => ∃ d', Y = setA S 9 d' ∧ rep 100000 d' (orst (lbit (S.1 0) l) D 3)) (fuel := 100000) (x := ((0 : Int32), setA S 9 d)) (fun j y => y.1 = I32 j ∧ ∃ d', y.2 = setA S 9 d' ∧ rep 100000 d' (orst (lbit (S.1 0) l) D j)) 3 (fun j hj y hy => by
    obtain ⟨x, Y⟩ := y
    obtain ⟨e1, d1, e2, r1⟩ := hy
    have e1 : x = I32 j := e1
    have e3 : Y = setA S 9 d1 := e2
    clear e2
    subst e1
    subst e3
    have ecj := EC_orst ec (lbit (S.1 0) l) j (by omega)
    have eb : P_X4_line (I32 l) (8 : Int32) (setA S 9 d1) = some (S.1 0 (111 + 9 * l)) := by
      rw [show P_X4_line (I32 l) (8 : Int32) (setA S 9 d1) = some ((setA S 9 d1).1 0 (103 + 9 * l + 8)) from m_line _ (k := 8) (by omega) (by decide), setA_ne _ _ (by decide), show 103 + 9 * l + 8 = 111 + 9 * l by omega]
    have sB : ∃ z', P_X4_goes_B28 a1 (I32 l) (I32 j) (setA S 9 d1) = some (.inl (I32 (j + 1), setA S 9 z')) ∧ rep 100000 z' (orst (lbit (S.1 0) l) D (j + 1)) := by
      unfold P_X4_goes_B28
      rw [if_neg (nge3 hj), eb, bind_some9]
      by_cases q : ((S.1 0 (111 + 9 * l) >>> (I32 j &&& 31)) &&& (1 : Int32)) = (1 : Int32)
      · obtain ⟨z', ez, rz⟩ := m_resets S hj (v := 0) (w := 0) (by decide) (by decide) r1 (ecj.2.2.mono (by decide) (by decide)) ecj.1 (zr_of ecj.1 ecj.2.1)
        rw [if_pos q, ez, bind_some9, i32s j (by omega)]
        refine ⟨z', rfl, ?_⟩
        show rep 100000 z' (if lbit (S.1 0) l j then _ else _)
        rw [if_pos (show lbit (S.1 0) l j = true from decide_eq_true q)]
        exact rz
      · rw [if_neg q, i32s j (by omega)]
        refine ⟨d1, rfl, ?_⟩
        show rep 100000 d1 (if lbit (S.1 0) l j then _ else _)
        rw [if_neg (show ¬ lbit (S.1 0) l j = true from fun w => q (of_decide_eq_true w))]
        exact r1
    obtain ⟨z', eB, rB⟩ := sB
    exact ⟨_, eB, rfl, z', rfl, rB⟩) (fun y hy => by
    obtain ⟨x, Y⟩ := y
    obtain ⟨e1, d1, e2, r1⟩ := hy
    have e1 : x = I32 3 := e1
    subst e1
    refine ⟨Y, ?_, d1, e2, r1⟩
    show P_X4_goes_B28 a1 (I32 l) (I32 3) Y = _
    unfold P_X4_goes_B28
    exact if_pos (by decide)) ⟨rfl, d, rfl, rd⟩ (by decide)
  exact ⟨d', by rw [eL, e2], rd'⟩
theorem f_lresets (R : LR h s l ln le mo) (Z : ZA h z b d) (rd : rep 9999 d D) (ec : EC D) (a1 : Option Nat) : ∃ d', lp (fun y => F_X5_taken_B70 ln a1 (some z) y.1 y.2) 100000 ((0 : Int32), h) = some (pz b d' h) ∧ rep 9999 d' (orst (lbit s l) D 3) := by
  obtain ⟨R1, _⟩ := R
  have n1 : ln ≠ b := fun w => by
    have := Z.2.1
    rw [← w, R1] at this
    cases this
  have at1 : ∀ e a, a ≠ b → hF (pz b e h) a = hF h a := fun e a n => hF_set_ne _ _ n
  have pp : ∀ e e', pz b e' (pz b e h) = pz b e' h := fun e e' => hset_set _ _ _ _
  obtain ⟨Y, eLp, d', e2, rd'⟩ := lp_inv0 (B := fun y => F_X5_taken_B70 ln a1 (some z) y.1 y.2) (Q := fun Y => ∃ d', Y = pz b d' h ∧ rep 9999 d' (orst (lbit s l) D 3)) (fuel := 100000) (x := ((0 : Int32), h)) (fun j y => y.1 = I32 j ∧ ∃ d', y.2 = pz b d' h ∧ rep 9999 d' (orst (lbit s l) D j)) 3 (fun j hj y hy => by
    obtain ⟨x, Y⟩ := y
    obtain ⟨e1, d1, e2, r1⟩ := hy
    have e1 : x = I32 j := e1
    have e3 : Y = pz b d1 h := e2
    clear e2
    subst e1
    subst e3
    have Z1 := Z.pz d1
    have ecj := EC_orst ec (lbit s l) j (by omega)
    have C1 : hF (pz b d1 h) ln = some (.inr (4, [.int (s (103 + 9 * l)), .int (s (104 + 9 * l)), .ref le, .ref mo, .int (s (111 + 9 * l))])) := by rw [at1 _ _ n1]; exact R1
    obtain ⟨v, ev, fv⟩ := z_hasNone Z1 r1
    have sB : ∃ z', F_X5_taken_B70 ln a1 (some z) (I32 j) (pz b d1 h) = some (.inl (I32 (j + 1), pz b z' h)) ∧ rep 9999 z' (orst (lbit s l) D (j + 1)) := by
      unfold F_X5_taken_B70 F_X5_isReset
      rw [if_neg (nge3 hj), v_isO Z1.1, bind_some9, ev, bind_some9, if_pos ((fl_0 fv).mpr (fun w => w ecj.nn)), v_isO C1, bind_some9, v_getI C1 rfl, bind_some9, bind_some9]
      by_cases q : ((s (111 + 9 * l) >>> (I32 j &&& 31)) &&& (1 : Int32)) = (1 : Int32)
      · obtain ⟨z', ez, rz⟩ := z_resets (c := j) hj (v := 0) (w := 0) (by decide) (by decide) Z1 r1 (ecj.2.2.mono (by decide) (by decide))
        rw [if_pos q, if_neg (by decide), bind_some9, ez, bind_some9, i32s j (by omega), pp]
        refine ⟨z', rfl, ?_⟩
        show rep 9999 z' (if lbit s l j then _ else _)
        rw [if_pos (show lbit s l j = true from decide_eq_true q)]
        exact rz
      · rw [if_neg q, if_pos rfl, i32s j (by omega)]
        refine ⟨d1, rfl, ?_⟩
        show rep 9999 d1 (if lbit s l j then _ else _)
        rw [if_neg (show ¬ lbit s l j = true from fun w => q (of_decide_eq_true w))]
        exact r1
    obtain ⟨z', eB, rB⟩ := sB
    exact ⟨_, eB, rfl, z', rfl, rB⟩) (fun y hy => by
    obtain ⟨x, Y⟩ := y
    obtain ⟨e1, d1, e2, r1⟩ := hy
    have e1 : x = I32 3 := e1
    subst e1
    refine ⟨Y, ?_, d1, e2, r1⟩
    show F_X5_taken_B70 ln a1 (some z) (I32 3) Y = _
    unfold F_X5_taken_B70
    exact if_pos (by decide)) ⟨rfl, d, Z.self.symm, rd⟩ (by decide)
  exact ⟨d', by rw [eLp, e2], rd'⟩
end FY5
