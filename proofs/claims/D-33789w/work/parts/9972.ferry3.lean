/-! ferries: what a line needs, the component's side -/
section FY3
variable {h : HH} {z b ln le mo l : Nat} {d : ZS} {D : OD} {s : Nat → Int32}
theorem f_needs (R : LR h s l ln le mo) (hk : lineOK s l) (Z : ZA h z b d) (rd : rep 9999 d D) (a1 : Option Nat) : ∃ d', lp (fun y => F_X5_taken_B11 ln a1 (some z) y.1 y.2) 100000 ((0 : Int32), h) = some (pz b d' h) ∧ rep 9999 d' (ond 3 (fun c => s (105 + 9 * l + c)) (fun c => s (108 + 9 * l + c)) D) := by
  obtain ⟨R1, ⟨fl1, RL, eL⟩, ⟨fm, RM, eM⟩, _⟩ := R
  have nb : ∀ a e, hF h a = some e → kd e ≠ (1, 16) → a ≠ b := fun a e ha hn w => by
    have := Z.2.1
    rw [← w, ha] at this
    cases this
    exact hn rfl
  have n1 := nb ln _ R1 (by intro w; cases w)
  have n2 := nb le _ RL (by intro w; cases w)
  have n3 := nb mo _ RM (by intro w; cases w)
  have at1 : ∀ e a, a ≠ b → hF (pz b e h) a = hF h a := fun e a n => hF_set_ne _ _ n
  have pp : ∀ e e', pz b e' (pz b e h) = pz b e' h := fun e e' => hset_set _ _ _ _
  obtain ⟨Y, eLp, d', e2, rd'⟩ := lp_inv0 (B := fun y => F_X5_taken_B11 ln a1 (some z) y.1 y.2) (Q := fun Y => ∃ d', Y = pz b d' h ∧ rep 9999 d' (ond 3 (fun c => s (105 + 9 * l + c)) (fun c => s (108 + 9 * l + c)) D)) (fuel := 100000) (x := ((0 : Int32), h)) (fun j y => y.1 = I32 j ∧ ∃ d', y.2 = pz b d' h ∧ rep 9999 d' (ond j (fun c => s (105 + 9 * l + c)) (fun c => s (108 + 9 * l + c)) D)) 3 (fun j hj y hy => by
    obtain ⟨x, Y⟩ := y
    obtain ⟨e1, d1, e2, r1⟩ := hy
    have e1 : x = I32 j := e1
    have e3 : Y = pz b d1 h := e2
    clear e2
    subst e1
    subst e3
    have Z1 := Z.pz d1
    have C1 : ∀ e, hF (pz b e h) ln = some (.inr (4, [.int (s (103 + 9 * l)), .int (s (104 + 9 * l)), .ref le, .ref mo, .int (s (111 + 9 * l))])) := fun e => by rw [at1 _ _ n1]; exact R1
    have L1 : ∀ e, hF (pz b e h) le = some (.inl (0, 3, .inl fl1)) := fun e => by rw [at1 _ _ n2]; exact RL
    have M1 : ∀ e, hF (pz b e h) mo = some (.inl (0, 3, .inl fm)) := fun e => by rw [at1 _ _ n3]; exact RM
    obtain ⟨⟨k1, hk1, ek1⟩, ⟨k2, hk2, ek2⟩⟩ := hk.2.2.1 j hj
    have u := ond_u j (fun c => s (105 + 9 * l + c)) (fun c => s (108 + 9 * l + c)) D hj
    have r12 : rep1 9999 (d1 (12 + j)) (D (12 + j)) := by
      have := r1 (12 + j) (by omega)
      rwa [u.2] at this
    have r43 : rep1 9999 (d1 (4 * j + 3)) (D (4 * j + 3)) := by
      have := r1 (4 * j + 3) (by omega)
      rwa [u.1] at this
    obtain ⟨d2, e2⟩ : ∃ d2, d2 = upd d1 (12 + j) (gmin (d1 (12 + j)) (-(fl1 j))) := ⟨_, rfl⟩
    have hix := ix_of j 3 hj (by decide)
    have t1 : F_X3_tells z (3 : Int32) (I32 j) (-(fl1 j)) (pz b d1 h) = some (pz b d2 h) := by
      rw [show F_X3_tells z (3 : Int32) (I32 j) (-(fl1 j)) (pz b d1 h) = some (pz b (upd d1 (4 * 3 + j) (gmin (d1 (4 * 3 + j)) (-(fl1 j)))) (pz b d1 h)) from z_tells (i := 3) (by decide) (by omega) Z1 _, pp, e2]
    have Z2 := Z.pz d2
    have t2 : ∀ x, F_X3_tells z (I32 j) (3 : Int32) x (pz b d2 h) = some (pz b (upd d2 (4 * j + 3) (gmin (d2 (4 * j + 3)) x)) h) := fun x => by
      rw [show F_X3_tells z (I32 j) (3 : Int32) x (pz b d2 h) = some (pz b (upd d2 (4 * j + 3) (gmin (d2 (4 * j + 3)) x)) (pz b d2 h)) from z_tells (j := 3) (by omega) (by decide) Z2 _, pp]
    have d243 : d2 (4 * j + 3) = d1 (4 * j + 3) := by
      rw [e2]
      unfold upd
      rw [if_neg (by omega)]
    have rr : ∀ x, rep1 9999 x (if s (108 + 9 * l + j) = 10 then none else some (s (108 + 9 * l + j)).toInt) → rep 9999 (upd d2 (4 * j + 3) (gmin (d2 (4 * j + 3)) x)) (ond (j + 1) (fun c => s (105 + 9 * l + c)) (fun c => s (108 + 9 * l + c)) D) := fun x hx => by
      rw [← ond_s j _ _ D hj, d243, e2]
      have rl : rep1 9999 (-(fl1 j)) (some (-(s (105 + 9 * l + j)).toInt)) := by
        rw [eL j hj, ek1]
        refine ⟨?_, ?_⟩
        · rw [neg9 k1 hk1, big_t (by omega)]
        · rw [big_t (by omega)]
          omega
      exact rep_set (rep_set r1 _ (rep1_cmin n9 r12 rl)) _ (rep1_cmin n9 r43 hx)
    obtain ⟨x, hx, eB⟩ : ∃ x, rep1 9999 x (if s (108 + 9 * l + j) = 10 then none else some (s (108 + 9 * l + j)).toInt) ∧ F_X5_taken_B11 ln a1 (some z) (I32 j) (pz b d1 h) = some (.inl (I32 (j + 1), pz b (upd d2 (4 * j + 3) (gmin (d2 (4 * j + 3)) x)) h)) := by
      by_cases q : s (108 + 9 * l + j) = (10 : Int32)
      · refine ⟨9999, by rw [if_pos q]; rfl, ?_⟩
        unfold F_X5_taken_B11
        rw [if_neg (nge3 hj), v_getR (C1 d1) rfl, bind_some9, v_aldI (L1 d1) hix, bind_some9, v_isO Z1.1, bind_some9, t1, bind_some9, v_getR (C1 d2) rfl, bind_some9, v_aldI (M1 d2) hix, bind_some9, if_pos (show fm j = (10 : Int32) by rw [eM j hj]; exact q), v_isO Z2.1, bind_some9, t2, bind_some9, i32s j (by omega)]
      · refine ⟨fm j, ?_, ?_⟩
        · rw [if_neg q, eM j hj]
          refine ⟨rfl, ?_⟩
          rw [ek2, big_t (by omega)]
          omega
        · unfold F_X5_taken_B11
          rw [if_neg (nge3 hj), v_getR (C1 d1) rfl, bind_some9, v_aldI (L1 d1) hix, bind_some9, v_isO Z1.1, bind_some9, t1, bind_some9, v_getR (C1 d2) rfl, bind_some9, v_aldI (M1 d2) hix, bind_some9, if_neg (show ¬ fm j = (10 : Int32) by rw [eM j hj]; exact q), bind_some9, v_aldI (M1 d2) hix, bind_some9, v_isO Z2.1, bind_some9, t2, bind_some9, i32s j (by omega)]
    exact ⟨_, eB, rfl, _, rfl, rr x hx⟩) (fun y hy => by
    obtain ⟨x, Y⟩ := y
    obtain ⟨e1, d1, e2, r1⟩ := hy
    have e1 : x = I32 3 := e1
    subst e1
    refine ⟨Y, ?_, d1, e2, r1⟩
    show F_X5_taken_B11 ln a1 (some z) (I32 3) Y = _
    unfold F_X5_taken_B11
    exact if_pos (by decide)) ⟨rfl, d, Z.self.symm, by rw [ond_0]; exact rd⟩ (by decide)
  exact ⟨d', by rw [eLp, e2], rd'⟩
end FY3
