/-! ferries: what a line needs -/
def ond (j : Nat) (le mo : Nat → Int32) (D : OD) : OD := fun m => if m % 4 = 3 ∧ m / 4 < j then omin (D m) (if mo (m / 4) = 10 then none else some (mo (m / 4)).toInt) else if 12 ≤ m ∧ m < 12 + j then omin (D m) (some (-(le (m - 12)).toInt)) else D m
theorem ond_0 (le mo : Nat → Int32) (D : OD) : ond 0 le mo D = D := funext fun m => by
  unfold ond
  rw [if_neg (by omega), if_neg (by omega)]
theorem ond_u (j : Nat) (le mo : Nat → Int32) (D : OD) (hj : j < 3) : ond j le mo D (4 * j + 3) = D (4 * j + 3) ∧ ond j le mo D (12 + j) = D (12 + j) := by
  unfold ond
  refine ⟨?_, ?_⟩
  · rw [if_neg (by omega), if_neg (by omega)]
  · rw [if_neg (by omega), if_neg (by omega)]
theorem ond_s (j : Nat) (le mo : Nat → Int32) (D : OD) (hj : j < 3) : oset (oset (ond j le mo D) (12 + j) (omin (D (12 + j)) (some (-(le j).toInt)))) (4 * j + 3) (omin (D (4 * j + 3)) (if mo j = 10 then none else some (mo j).toInt)) = ond (j + 1) le mo D := funext fun m => by
  unfold oset ond
  by_cases q : m = 4 * j + 3
  · rw [if_pos q, if_pos (show m % 4 = 3 ∧ m / 4 < j + 1 by omega), q, show (4 * j + 3) / 4 = j by omega]
  · rw [if_neg q]
    by_cases q2 : m = 12 + j
    · rw [if_pos q2, if_neg (show ¬ (m % 4 = 3 ∧ m / 4 < j + 1) by omega), if_pos (show 12 ≤ m ∧ m < 12 + (j + 1) by omega), q2, Nat.add_sub_cancel_left]
    · rw [if_neg q2]
      by_cases c : m % 4 = 3 ∧ m / 4 < j
      · rw [if_pos c, if_pos (show m % 4 = 3 ∧ m / 4 < j + 1 by omega)]
      · rw [if_neg c, if_neg (show ¬ (m % 4 = 3 ∧ m / 4 < j + 1) by omega)]
        by_cases c2 : 12 ≤ m ∧ m < 12 + j
        · rw [if_pos c2, if_pos (show 12 ≤ m ∧ m < 12 + (j + 1) by omega)]
        · rw [if_neg c2, if_neg (show ¬ (12 ≤ m ∧ m < 12 + (j + 1)) by omega)]
theorem oset_c {D : OD} {m n : Nat} {x y : Option Int} (h : m ≠ n) : oset (oset D m x) n y = oset (oset D n y) m x := funext fun i => by
  unfold oset
  by_cases a : i = n
  · rw [if_pos a, if_neg (by omega), if_pos a]
  · rw [if_neg a]
    by_cases c : i = m
    · rw [if_pos c, if_pos c]
    · rw [if_neg c, if_neg c, if_neg a]
section FY2
variable {h : HH} {z b ln le mo l : Nat} {d : ZS} {D : OD} {s : Nat → Int32}
theorem neg9 : ∀ n, n ≤ 9 → (-(I32 n)).toInt = -(n : Int) := by decide
theorem m_needs {S : MS} {N : Nat} (hN : N ≤ 10) (hl : l < N) (hk : lineOK (S.1 0) l) (rd : rep 100000 d D) (ec : EC (ond 3 (fun c => S.1 0 (105 + 9 * l + c)) (fun c => S.1 0 (108 + 9 * l + c)) D)) : ∃ v t, P_X4_needs (I32 l) (setA S 9 d) = some (v, setA S 9 t) ∧ rep 100000 t (otl (ond 3 (fun c => S.1 0 (105 + 9 * l + c)) (fun c => S.1 0 (108 + 9 * l + c)) D) 4) ∧ fl v (nn (otl (ond 3 (fun c => S.1 0 (105 + 9 * l + c)) (fun c => S.1 0 (108 + 9 * l + c)) D) 4)) := by
  obtain ⟨Y, eL, d', e2, rd'⟩ := lp_inv0 (B := fun y => P_X4_needs_B2 (I32 l) y.1 y.2) (Q := fun Y => ∃ d', Y = setA S 9 d' ∧ rep 100000 d' (ond 3 (fun c => S.1 0 (105 + 9 * l + c)) (fun c => S.1 0 (108 + 9 * l + c)) D)) (fuel := 100000) (x := ((0 : Int32), setA S 9 d)) (fun j y => y.1 = I32 j ∧ ∃ d', y.2 = setA S 9 d' ∧ rep 100000 d' (ond j (fun c => S.1 0 (105 + 9 * l + c)) (fun c => S.1 0 (108 + 9 * l + c)) D)) 3 (fun j hj y hy => by
    obtain ⟨x, Y⟩ := y
    obtain ⟨e1, d1, e2, r1⟩ := hy
    have e1 : x = I32 j := e1
    have e3 : Y = setA S 9 d1 := e2
    clear e2
    subst e1
    subst e3
    have lineM : ∀ X : MS, X.1 0 = S.1 0 → P_X4_line (I32 l) ((5 : Int32) + I32 j) X = some (S.1 0 (108 + 9 * l + j)) := fun X hX => by
      rw [show (5 : Int32) + I32 j = I32 (5 + j) from big_add 5 j, m_line X (by omega) (by omega), hX, show 103 + 9 * l + (5 + j) = 108 + 9 * l + j by omega]
    have lineL : ∀ X : MS, X.1 0 = S.1 0 → P_X4_line (I32 l) ((2 : Int32) + I32 j) X = some (S.1 0 (105 + 9 * l + j)) := fun X hX => by
      rw [show (2 : Int32) + I32 j = I32 (2 + j) from big_add 2 j, m_line X (by omega) (by omega), hX, show 103 + 9 * l + (2 + j) = 105 + 9 * l + j by omega]
    have hix : ix (((4 : Int32) * I32 j) + (3 : Int32)) (4 * j + 3) (mlen 9) := ix43 (by omega)
    have hix2 : ix ((12 : Int32) + I32 j) (12 + j) (mlen 9) := ix12 (by omega)
    obtain ⟨⟨n1, hn1, en1⟩, ⟨n2, hn2, en2⟩⟩ := hk.2.2.1 j hj
    have s9 : ∀ e, (setA S 9 e).1 0 = S.1 0 := fun e => setA_ne _ _ (by decide)
    have T : ∀ x, rep1 100000 x (omin (D (4 * j + 3)) (if S.1 0 (108 + 9 * l + j) = 10 then none else some (S.1 0 (108 + 9 * l + j)).toInt)) → ∃ z', P_X4_needs_T58 (I32 l) (I32 j) x (((4 : Int32) * I32 j) + (3 : Int32)) 9 (setA S 9 d1) = some (.inl (I32 (j + 1), setA S 9 z')) ∧ rep 100000 z' (ond (j + 1) (fun c => S.1 0 (105 + 9 * l + c)) (fun c => S.1 0 (108 + 9 * l + c)) D) := fun x hx => by
      unfold P_X4_needs_T58
      rw [wr_i _ hix, bind_some9, setA_get, setA_set, rd_i hix2, bind_some9, lineL _ (s9 _), bind_some9, wr_i _ hix2, bind_some9, setA_get, setA_set, i32s j (by omega), less_min]
      refine ⟨_, rfl, ?_⟩
      rw [← ond_s j _ _ D hj, oset_c (by omega)]
      have u := ond_u j (fun c => S.1 0 (105 + 9 * l + c)) (fun c => S.1 0 (108 + 9 * l + c)) D hj
      have r12 : rep1 100000 (d1 (12 + j)) (D (12 + j)) := by
        have := r1 (12 + j) (by omega)
        rwa [u.2] at this
      refine rep_set (rep_set r1 _ hx) _ (rep1_cmin n5 ?_ ⟨by rw [en1, neg9 n1 hn1, big_t (by omega)], ?_⟩)
      · unfold upd
        rw [if_neg (by omega)]
        exact r12
      · rw [en1, big_t (by omega)]
        omega
    have r43 : rep1 100000 (d1 (4 * j + 3)) (D (4 * j + 3)) := by
      have := r1 (4 * j + 3) (by omega)
      rwa [(ond_u j (fun c => S.1 0 (105 + 9 * l + c)) (fun c => S.1 0 (108 + 9 * l + c)) D hj).1] at this
    have sB : ∃ z', P_X4_needs_B2 (I32 l) (I32 j) (setA S 9 d1) = some (.inl (I32 (j + 1), setA S 9 z')) ∧ rep 100000 z' (ond (j + 1) (fun c => S.1 0 (105 + 9 * l + c)) (fun c => S.1 0 (108 + 9 * l + c)) D) := by
      unfold P_X4_needs_B2
      rw [if_neg (nge3 hj), lineM _ (s9 _), bind_some9]
      by_cases q : S.1 0 (108 + 9 * l + j) = (10 : Int32)
      · rw [if_pos q, rd_i hix, bind_some9, setA_get]
        refine T _ ?_
        rw [if_pos q]
        have : ∀ a : Option Int, omin a none = a := fun a => by cases a <;> rfl
        rw [this]
        exact r43
      · rw [if_neg q, rd_i hix, bind_some9, setA_get, less_min]
        refine T _ ?_
        rw [if_neg q]
        refine rep1_cmin n5 r43 ⟨rfl, ?_⟩
        rw [en2, big_t (by omega)]
        omega
    obtain ⟨z', eB, rB⟩ := sB
    exact ⟨_, eB, rfl, z', rfl, rB⟩) (fun y hy => by
    obtain ⟨x, Y⟩ := y
    obtain ⟨e1, d1, e2, r1⟩ := hy
    have e1 : x = I32 3 := e1
    subst e1
    refine ⟨Y, ?_, d1, e2, r1⟩
    show P_X4_needs_B2 (I32 l) (I32 3) Y = _
    unfold P_X4_needs_B2
    exact if_pos (by decide)) ⟨rfl, d, rfl, by rw [ond_0]; exact rd⟩ (by decide)
  obtain ⟨v, t, et, rt, fv⟩ := m_tightens (K := 9) rfl S rd' ec.RG
  refine ⟨v, t, ?_, rt, fv⟩
  unfold P_X4_needs
  rw [eL, bind_some9, e2, et, pb2_s, fl_okZ fv, bind_some9]
end FY2
