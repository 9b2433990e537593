/-! the component's first heap -/
def cD (a b c d : Value) : AC := .inr (2, [a, b, c, d, .int 0])
def cL (h0 : HH) : AC := .inr (8, [.int 0, .ref (hSa h0 0), .int 0])
def cS : AC := .inl (3, 4, .inr (.inr fun _ => none))
def cA (f : Nat → Int32) : AC := .inl (0, 18, .inl f)
def fil (k i : Nat) : Int32 := if i < k then 10 else 0
section E2
variable {h0 : HH}
theorem e_desk (E : EH h0) (c0 : AC) : ∃ d, F_X2_init (hSz h0 + 1) (LH h0 [c0, cD .null .null .null .null] 9) = some (LH h0 [c0, cD (.ref (hSz h0 + 6)) (.ref (hSz h0 + 2)) (.ref (hSz h0 + 3)) (.ref (hSz h0 + 4)), cL h0, cS, .inr (3, [.ref (hSz h0 + 5)]), .inl (0, 16, .inl d), cA (fil 18)] 51) ∧ rep 9999 d oplain := by
  have a1 : newO (LH h0 [c0, cD .null .null .null .null] 9) 8 3 [.int 0, .null, .int 0] = some (LH h0 [c0, cD .null .null .null .null, .inr (8, [.int 0, .null, .int 0])] 12) := lh_newO E (show (2 : Nat) < 1000000 by decide) (by decide)
  have a2 : F_J2_init (hSz (LH h0 [c0, cD .null .null .null .null] 9)) (LH h0 [c0, cD .null .null .null .null, .inr (8, [.int 0, .null, .int 0])] 12) = some (LH h0 [c0, cD .null .null .null .null, cL h0] 12) := j2i E (j := 2) rfl
  have a3 : putV (LH h0 [c0, cD .null .null .null .null, cL h0] 12) 2 1 (some (hSz h0 + 1)) (va_rf (some (hSz (LH h0 [c0, cD .null .null .null .null] 9)))) = some (LH h0 [c0, cD .null (.ref (hSz h0 + 2)) .null .null, cL h0] 12) := lh_put2 E (j := 1) [.null, .null, .null, .null, .int 0] rfl (show (1 : Nat) < 5 by decide) rfl
  have a4 : newA (LH h0 [c0, cD .null (.ref (hSz h0 + 2)) .null .null, cL h0] 12) 3 (4 : Int32) = some (LH h0 [c0, cD .null (.ref (hSz h0 + 2)) .null .null, cL h0, cS] 16) := lh_newA E (n := 4) (by decide) (by decide) (by decide) (show (3 : Nat) < 1000000 by decide) (by decide)
  have a5 : putV (LH h0 [c0, cD .null (.ref (hSz h0 + 2)) .null .null, cL h0, cS] 16) 2 2 (some (hSz h0 + 1)) (va_rf (some (hSz (LH h0 [c0, cD .null (.ref (hSz h0 + 2)) .null .null, cL h0] 12)))) = some (LH h0 [c0, cD .null (.ref (hSz h0 + 2)) (.ref (hSz h0 + 3)) .null, cL h0, cS] 16) := lh_put2 E (j := 1) [.null, .ref (hSz h0 + 2), .null, .null, .int 0] rfl (show (2 : Nat) < 5 by decide) rfl
  have a6 : newO (LH h0 [c0, cD .null (.ref (hSz h0 + 2)) (.ref (hSz h0 + 3)) .null, cL h0, cS] 16) 3 1 [.null] = some (LH h0 [c0, cD .null (.ref (hSz h0 + 2)) (.ref (hSz h0 + 3)) .null, cL h0, cS, .inr (3, [.null])] 17) := lh_newO E (show (4 : Nat) < 1000000 by decide) (by decide)
  have a7 : ∃ d, F_X3_init (hSz (LH h0 [c0, cD .null (.ref (hSz h0 + 2)) (.ref (hSz h0 + 3)) .null, cL h0, cS] 16)) (LH h0 [c0, cD .null (.ref (hSz h0 + 2)) (.ref (hSz h0 + 3)) .null, cL h0, cS, .inr (3, [.null])] 17) = some (LH h0 [c0, cD .null (.ref (hSz h0 + 2)) (.ref (hSz h0 + 3)) .null, cL h0, cS, .inr (3, [.ref (hSz h0 + 5)]), .inl (0, 16, .inl d)] 33) ∧ rep 9999 d oplain := by
    obtain ⟨d, e, r⟩ := z_init (h := LH h0 [c0, cD .null (.ref (hSz h0 + 2)) (.ref (hSz h0 + 3)) .null, cL h0, cS] 16) (show hB h0 ≤ hSz h0 + 4 by have := E.2.2; omega) ⟨show hSz h0 + 4 + 2 ≤ hLim h0 by have := E.1; omega, show 16 + 17 ≤ hSlim h0 by have := E.2.1; omega⟩
    refine ⟨d, ?_, r⟩
    unfold mkZ at e
    rw [lh_push, lh_push, lh_push] at e
    exact e
  obtain ⟨d, a7, rd⟩ := a7
  have a8 : putV (LH h0 [c0, cD .null (.ref (hSz h0 + 2)) (.ref (hSz h0 + 3)) .null, cL h0, cS, .inr (3, [.ref (hSz h0 + 5)]), .inl (0, 16, .inl d)] 33) 2 3 (some (hSz h0 + 1)) (va_rf (some (hSz (LH h0 [c0, cD .null (.ref (hSz h0 + 2)) (.ref (hSz h0 + 3)) .null, cL h0, cS] 16)))) = some (LH h0 [c0, cD .null (.ref (hSz h0 + 2)) (.ref (hSz h0 + 3)) (.ref (hSz h0 + 4)), cL h0, cS, .inr (3, [.ref (hSz h0 + 5)]), .inl (0, 16, .inl d)] 33) := lh_put2 E (j := 1) [.null, .ref (hSz h0 + 2), .ref (hSz h0 + 3), .null, .int 0] rfl (show (3 : Nat) < 5 by decide) rfl
  have a9 : newA (LH h0 [c0, cD .null (.ref (hSz h0 + 2)) (.ref (hSz h0 + 3)) (.ref (hSz h0 + 4)), cL h0, cS, .inr (3, [.ref (hSz h0 + 5)]), .inl (0, 16, .inl d)] 33) 0 (18 : Int32) = some (LH h0 [c0, cD .null (.ref (hSz h0 + 2)) (.ref (hSz h0 + 3)) (.ref (hSz h0 + 4)), cL h0, cS, .inr (3, [.ref (hSz h0 + 5)]), .inl (0, 16, .inl d), cA (fil 0)] 51) := by
    have := lh_newA E (l := [c0, cD .null (.ref (hSz h0 + 2)) (.ref (hSz h0 + 3)) (.ref (hSz h0 + 4)), cL h0, cS, .inr (3, [.ref (hSz h0 + 5)]), .inl (0, 16, .inl d)]) (s := 33) (t := 0) (n := 18) (i := (18 : Int32)) (by decide) (by decide) (by decide) (show (6 : Nat) < 1000000 by decide) (by decide)
    have f0 : fil 0 = fun _ => 0 := funext fun i => if_neg (Nat.not_lt_zero i)
    unfold cA
    rw [f0]
    exact this
  have a10 : putV (LH h0 [c0, cD .null (.ref (hSz h0 + 2)) (.ref (hSz h0 + 3)) (.ref (hSz h0 + 4)), cL h0, cS, .inr (3, [.ref (hSz h0 + 5)]), .inl (0, 16, .inl d), cA (fil 0)] 51) 2 0 (some (hSz h0 + 1)) (va_rf (some (hSz (LH h0 [c0, cD .null (.ref (hSz h0 + 2)) (.ref (hSz h0 + 3)) (.ref (hSz h0 + 4)), cL h0, cS, .inr (3, [.ref (hSz h0 + 5)]), .inl (0, 16, .inl d)] 33)))) = some (LH h0 [c0, cD (.ref (hSz h0 + 6)) (.ref (hSz h0 + 2)) (.ref (hSz h0 + 3)) (.ref (hSz h0 + 4)), cL h0, cS, .inr (3, [.ref (hSz h0 + 5)]), .inl (0, 16, .inl d), cA (fil 0)] 51) := lh_put2 E (j := 1) [.null, .ref (hSz h0 + 2), .ref (hSz h0 + 3), .ref (hSz h0 + 4), .int 0] rfl (show (0 : Nat) < 5 by decide) rfl
  have a11 : lp (fun z => F_X2_init_B44 (hSz h0 + 1) z.1 z.2) 100000 ((0 : Int32), LH h0 [c0, cD (.ref (hSz h0 + 6)) (.ref (hSz h0 + 2)) (.ref (hSz h0 + 3)) (.ref (hSz h0 + 4)), cL h0, cS, .inr (3, [.ref (hSz h0 + 5)]), .inl (0, 16, .inl d), cA (fil 0)] 51) = some (LH h0 [c0, cD (.ref (hSz h0 + 6)) (.ref (hSz h0 + 2)) (.ref (hSz h0 + 3)) (.ref (hSz h0 + 4)), cL h0, cS, .inr (3, [.ref (hSz h0 + 5)]), .inl (0, 16, .inl d), cA (fil 18)] 51) := by
    refine lp_for0 (fun j => (I32 j, LH h0 [c0, cD (.ref (hSz h0 + 6)) (.ref (hSz h0 + 2)) (.ref (hSz h0 + 3)) (.ref (hSz h0 + 4)), cL h0, cS, .inr (3, [.ref (hSz h0 + 5)]), .inl (0, 16, .inl d), cA (fil j)] 51)) 18 (fun j hj => ?_) ?_ 100000 (by decide)
    · show F_X2_init_B44 (hSz h0 + 1) (I32 j) (LH h0 _ 51) = _
      have D1 : hF (LH h0 [c0, cD (.ref (hSz h0 + 6)) (.ref (hSz h0 + 2)) (.ref (hSz h0 + 3)) (.ref (hSz h0 + 4)), cL h0, cS, .inr (3, [.ref (hSz h0 + 5)]), .inl (0, 16, .inl d), cA (fil j)] 51) (hSz h0 + 1) = some (cD (.ref (hSz h0 + 6)) (.ref (hSz h0 + 2)) (.ref (hSz h0 + 3)) (.ref (hSz h0 + 4))) := lh_F
      have D6 : hF (LH h0 [c0, cD (.ref (hSz h0 + 6)) (.ref (hSz h0 + 2)) (.ref (hSz h0 + 3)) (.ref (hSz h0 + 4)), cL h0, cS, .inr (3, [.ref (hSz h0 + 5)]), .inl (0, 16, .inl d), cA (fil j)] 51) (hSz h0 + 6) = some (cA (fil j)) := lh_F
      have al : alen (LH h0 [c0, cD (.ref (hSz h0 + 6)) (.ref (hSz h0 + 2)) (.ref (hSz h0 + 3)) (.ref (hSz h0 + 4)), cL h0, cS, .inr (3, [.ref (hSz h0 + 5)]), .inl (0, 16, .inl d), cA (fil j)] 51) (some (hSz h0 + 6)) = some (I32 18) := v_alen D6 (by decide)
      have fj : upd (fil j) j 10 = fil (j + 1) := funext fun i => by
        unfold upd fil
        by_cases q : i = j
        · rw [if_pos q, if_pos (by omega)]
        · rw [if_neg q]
          by_cases q2 : i < j
          · rw [if_pos q2, if_pos (by omega)]
          · rw [if_neg q2, if_neg (by omega)]
      have eA : astI (LH h0 [c0, cD (.ref (hSz h0 + 6)) (.ref (hSz h0 + 2)) (.ref (hSz h0 + 3)) (.ref (hSz h0 + 4)), cL h0, cS, .inr (3, [.ref (hSz h0 + 5)]), .inl (0, 16, .inl d), cA (fil j)] 51) (some (hSz h0 + 6)) (I32 j) (10 : Int32) = some (LH h0 [c0, cD (.ref (hSz h0 + 6)) (.ref (hSz h0 + 2)) (.ref (hSz h0 + 3)) (.ref (hSz h0 + 4)), cL h0, cS, .inr (3, [.ref (hSz h0 + 5)]), .inl (0, 16, .inl d), cA (fil (j + 1))] 51) := by
        rw [v_astI D6 (ix_of j 18 hj (by decide)) (show hB h0 ≤ hSz h0 + 6 by have := E.2.2; omega), fj, lh_set (show (6 : Nat) < 7 by decide)]
        rfl
      unfold F_X2_init_B44
      rw [v_getR D1 rfl, bind_some9, al, bind_some9, if_neg (fun q => by have := (big_le (n := 18) (k := j) (by decide) (by omega)).mp q; omega), bind_some9, eA, bind_some9, i32s j (by omega)]
    · show F_X2_init_B44 (hSz h0 + 1) (I32 18) (LH h0 _ 51) = _
      have D1 : hF (LH h0 [c0, cD (.ref (hSz h0 + 6)) (.ref (hSz h0 + 2)) (.ref (hSz h0 + 3)) (.ref (hSz h0 + 4)), cL h0, cS, .inr (3, [.ref (hSz h0 + 5)]), .inl (0, 16, .inl d), cA (fil 18)] 51) (hSz h0 + 1) = some (cD (.ref (hSz h0 + 6)) (.ref (hSz h0 + 2)) (.ref (hSz h0 + 3)) (.ref (hSz h0 + 4))) := lh_F
      have D6 : hF (LH h0 [c0, cD (.ref (hSz h0 + 6)) (.ref (hSz h0 + 2)) (.ref (hSz h0 + 3)) (.ref (hSz h0 + 4)), cL h0, cS, .inr (3, [.ref (hSz h0 + 5)]), .inl (0, 16, .inl d), cA (fil 18)] 51) (hSz h0 + 6) = some (cA (fil 18)) := lh_F
      have al : alen (LH h0 [c0, cD (.ref (hSz h0 + 6)) (.ref (hSz h0 + 2)) (.ref (hSz h0 + 3)) (.ref (hSz h0 + 4)), cL h0, cS, .inr (3, [.ref (hSz h0 + 5)]), .inl (0, 16, .inl d), cA (fil 18)] 51) (some (hSz h0 + 6)) = some (I32 18) := v_alen D6 (by decide)
      unfold F_X2_init_B44
      rw [v_getR D1 rfl, bind_some9, al, bind_some9, if_pos (Int32.le_refl _)]
  refine ⟨d, ?_, rd⟩
  unfold F_X2_init
  simp only [nnl, bind_some9, a1, a2, a3, a4, a5, a6, a7, a8, a9, a10, a11]
end E2
