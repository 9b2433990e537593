/-! the model's begins, ends, records -/
def setI (S : MS) (K : Nat) (x : Int32) : MS := (S.1, va_up S.2.1 K x, S.2.2)
theorem setI_get (S : MS) (K : Nat) (x : Int32) : (setI S K x).2.1 K = x := by simp [setI, va_up]
theorem setI_ne (S : MS) {K K' : Nat} (x : Int32) (h : K' ≠ K) : (setI S K x).2.1 K' = S.2.1 K' := by simp [setI, va_up, h]
theorem mov_2 (S : MS) (K o K' o' n : Nat) : (mov S K o K' o' n).2 = S.2 := rfl
def beg (S : MS) : MS := mov (setI S 8 0) 0 0 1 0 194
theorem m_begins (S : MS) : P_X4_begins S = some (beg S) := by
  unfold P_X4_begins
  rw [show piI S 8 0 = some (setI S 8 0) from rfl, bind_some9, m_copies (K := 0) (K' := 1) (o := 0) (o' := 0) (a := (0 : Int32)) (b := (0 : Int32)) (setI S 8 0) rfl rfl (by decide) (by decide) (by decide) (by decide) (by decide)]
  rfl
theorem beg_0 (S : MS) {K : Nat} (h : K ≠ 1) : (beg S).1 K = S.1 K := mov_ne _ h
theorem beg_1 (S : MS) {i : Nat} (h : i < 194) : (beg S).1 1 i = S.1 0 i := by
  unfold beg
  rw [mov_get, if_pos (by omega), Nat.zero_add, Nat.sub_zero]
  rfl
theorem beg_i (S : MS) {K : Nat} (h : K ≠ 8) : (beg S).2.1 K = S.2.1 K := setI_ne S 0 h
theorem beg_8 (S : MS) : (beg S).2.1 8 = 0 := setI_get S 8 0
/-- the states of before, told by the model: c of them -/
def Rec (S : MS) (b : Nat → Int32) (S' : MS) : Prop := ∃ c, c ≤ 4 ∧ S.2.1 5 = I32 c ∧ (c < 4 → S'.2.1 5 = I32 (c + 1) ∧ (∀ i, i < c → ∀ j, j < 194 → S'.1 4 (194 * i + j) = S.1 4 (194 * i + j)) ∧ ∀ j, j < 194 → S'.1 4 (194 * c + j) = b j) ∧ (c = 4 → S'.2.1 5 = I32 4 ∧ (∀ i, i < 3 → ∀ j, j < 194 → S'.1 4 (194 * i + j) = S.1 4 (194 * (i + 1) + j)) ∧ ∀ j, j < 194 → S'.1 4 (194 * 3 + j) = b j)
theorem i32sub1 : ∀ c, c < 5 → 0 < c → I32 c - (1 : Int32) = I32 (c - 1) := by decide
theorem m_recT (S : MS) {c : Nat} (hc : c < 4) (h5 : S.2.1 5 = I32 c) : ∃ S', P_X4_records_T49 S = some S' ∧ S'.2.1 5 = I32 (c + 1) ∧ (∀ K, K ≠ 5 → S'.2.1 K = S.2.1 K) ∧ S'.2.2 = S.2.2 ∧ (∀ K, K ≠ 4 → S'.1 K = S.1 K) ∧ (∀ i, S'.1 4 i = if 194 * c ≤ i ∧ i < 194 * c + 194 then S.1 1 (i - 194 * c) else S.1 4 i) := by
  have em : (194 : Int32) * I32 c = I32 (194 * c) := i32mul (a := 194) (by decide) (by omega) (by omega)
  refine ⟨setI (mov S 1 0 4 (194 * c) 194) 5 (I32 (c + 1)), ?_, setI_get _ _ _, fun K hK => setI_ne _ _ hK, rfl, fun K hK => mov_ne S hK, fun i => ?_⟩
  · unfold P_X4_records_T49
    rw [show pgI S 5 = some (I32 c) from congrArg some h5, bind_some9, em, m_copies (K := 1) (K' := 4) (o := 0) (o' := 194 * c) (a := (0 : Int32)) S rfl rfl (by decide) (by show 194 * c + 194 ≤ 776; omega) (by decide) (by decide) (by decide), bind_some9, show pgI (mov S 1 0 4 (194 * c) 194) 5 = some (I32 c) from congrArg some h5, bind_some9, i32s c (by omega)]
    rfl
  · show (mov S 1 0 4 (194 * c) 194).1 4 i = _
    rw [mov_get, Nat.zero_add]
theorem m_records (S : MS) {c : Nat} (hc : c ≤ 4) (h5 : S.2.1 5 = I32 c) {b : Nat → Int32} (hb : ∀ j, j < 194 → S.1 1 j = b j) : ∃ S', P_X4_records S = some S' ∧ Rec S b S' ∧ (∀ K, K ≠ 5 → S'.2.1 K = S.2.1 K) ∧ S'.2.2 = S.2.2 ∧ ∀ K, K ≠ 4 → S'.1 K = S.1 K := by
  unfold P_X4_records
  rw [show pgI S 5 = some (I32 c) from congrArg some h5, bind_some9]
  by_cases h4 : c = 4
  · subst h4
    rw [if_pos (show I32 4 = (4 : Int32) from rfl)]
    have L := lp_for0 (B := fun z => P_X4_records_B10 z.1 z.2) (r := setA S 4 (fun i => if i < 582 then S.1 4 (i + 194) else S.1 4 i)) (fun k => (I32 k, setA S 4 (fun i => if i < k then S.1 4 (i + 194) else S.1 4 i))) 582 (fun k hk => by
      have n582 : ¬ (582 : Int32) ≤ I32 k := fun q => by
        have q : I32 582 ≤ I32 k := q
        rw [i32le (by decide) (by omega)] at q
        omega
      show P_X4_records_B10 (I32 k) (setA S 4 (fun i => if i < k then S.1 4 (i + 194) else S.1 4 i)) = _
      unfold P_X4_records_B10
      rw [if_neg n582, show (194 : Int32) = I32 194 from rfl, i32add (by omega), rd_i (show ix (I32 (k + 194)) (k + 194) (mlen 4) from ix_of _ _ (by show k + 194 < 776; omega) (by decide)), bind_some9, wr_i _ (show ix (I32 k) k (mlen 4) from ix_of _ _ (by show k < 776; omega) (by decide)), bind_some9, i32s k (by omega), setA_get, setA_set]
      apply congrArg some
      apply congrArg Sum.inl
      apply congrArg (fun x => (I32 (k + 1), setA S 4 x))
      funext i
      unfold upd
      by_cases e : i = k
      · subst e
        rw [if_pos rfl]
        show (if i + 194 < i then S.1 4 (i + 194 + 194) else S.1 4 (i + 194)) = (if i < i + 1 then S.1 4 (i + 194) else S.1 4 i)
        rw [if_neg (by omega), if_pos (by omega)]
      · rw [if_neg e]
        show (if i < k then S.1 4 (i + 194) else S.1 4 i) = (if i < k + 1 then S.1 4 (i + 194) else S.1 4 i)
        by_cases h : i < k
        · rw [if_pos h, if_pos (by omega)]
        · rw [if_neg h, if_neg (by omega)]) (by
      show P_X4_records_B10 (I32 582) _ = _
      unfold P_X4_records_B10
      rw [if_pos (by decide)]) 100000 (by decide)
    have L2 : lp (fun z => P_X4_records_B10 z.1 z.2) 100000 ((0 : Int32), S) = some (setA S 4 (fun i => if i < 582 then S.1 4 (i + 194) else S.1 4 i)) := by
      have e0 : setA S 4 (fun i => if i < 0 then S.1 4 (i + 194) else S.1 4 i) = S := by
        have : (fun i => if i < 0 then S.1 4 (i + 194) else S.1 4 i) = S.1 4 := by
          funext i
          rw [if_neg (Nat.not_lt_zero i)]
        rw [this, setA_self]
      have L3 : lp (fun z => P_X4_records_B10 z.1 z.2) 100000 ((0 : Int32), setA S 4 (fun i => if i < 0 then S.1 4 (i + 194) else S.1 4 i)) = _ := L
      rw [e0] at L3
      exact L3
    obtain ⟨S', e, p1, p2, p3, p4, p5⟩ := m_recT (setI (setA S 4 (fun i => if i < 582 then S.1 4 (i + 194) else S.1 4 i)) 5 (I32 3)) (c := 3) (by decide) (setI_get _ _ _)
    refine ⟨S', ?_, ⟨4, by decide, h5, fun z => absurd z (by decide), fun _ => ⟨p1, fun i hi j hj => ?_, fun j hj => ?_⟩⟩, fun K hK => ?_, p3, fun K hK => ?_⟩
    · rw [L2, bind_some9, show pgI (setA S 4 (fun i => if i < 582 then S.1 4 (i + 194) else S.1 4 i)) 5 = some (I32 4) from congrArg some h5, bind_some9, show I32 4 - (1 : Int32) = I32 3 from by decide, show piI (setA S 4 (fun i => if i < 582 then S.1 4 (i + 194) else S.1 4 i)) 5 (I32 3) = some (setI (setA S 4 (fun i => if i < 582 then S.1 4 (i + 194) else S.1 4 i)) 5 (I32 3)) from rfl, bind_some9]
      exact e
    · rw [p5, if_neg (by omega)]
      show (setA S 4 _).1 4 (194 * i + j) = _
      refine (congrFun (setA_get S 4 _) (194 * i + j)).trans ?_
      show (if 194 * i + j < 582 then S.1 4 (194 * i + j + 194) else S.1 4 (194 * i + j)) = _
      rw [if_pos (by omega), show 194 * i + j + 194 = 194 * (i + 1) + j by omega]
    · rw [p5, if_pos (by omega), show 194 * 3 + j - 194 * 3 = j by omega]
      exact (congrFun (setA_ne S (K := 4) (K' := 1) (fun i => if i < 582 then S.1 4 (i + 194) else S.1 4 i) (by decide)) j).trans (hb j hj)
    · rw [p2 K hK]
      exact setI_ne _ _ hK
    · rw [p4 K hK]
      exact setA_ne S _ hK
  · have hn : ¬ I32 c = (4 : Int32) := fun q => h4 (i32inj (by omega) (by decide) (show I32 c = I32 4 from q))
    rw [if_neg hn]
    obtain ⟨S', e, p1, p2, p3, p4, p5⟩ := m_recT S (c := c) (by omega) h5
    refine ⟨S', e, ⟨c, hc, h5, fun _ => ⟨p1, fun i hi j hj => ?_, fun j hj => ?_⟩, fun z => absurd z h4⟩, p2, p3, p4⟩
    · rw [p5, if_neg (by
        intro q
        have h1 : i + 1 ≤ c := hi
        have h2 : 194 * (i + 1) ≤ 194 * c := Nat.mul_le_mul_left 194 h1
        omega)]
    · rw [p5, if_pos (by omega), show 194 * c + j - 194 * c = j by omega]
      exact hb j hj
/-- what a change leaves behind in the model: k is what it throws -/
def MF (S S' : MS) (k : Int32) : Prop := S'.2.1 8 = k ∧ S'.1 2 = S.1 2 ∧ S'.1 6 = S.1 6 ∧ S'.2.1 3 = S.2.1 3 ∧ S'.2.1 7 = S.2.1 7 ∧ (k ≠ 0 → (∀ i, i < 194 → S'.1 0 i = S.1 0 i) ∧ S'.1 4 = S.1 4 ∧ S'.2.1 5 = S.2.1 5) ∧ (k = 0 → Rec S (S.1 0) S')
theorem m_fails (k : Int32) (S : MS) : P_X4_fails k S = some (0, setI S 8 k) := rfl
/-- arguments that are refused at once -/
theorem MF_fail {S S2 : MS} (e : SX (beg S) S2) (k : Int32) (h0 : S2.1 0 = S.1 0) : k ≠ 0 → MF S (setI S2 8 k) k := fun hk => ⟨setI_get _ _ _, (e.2 2 (by decide) (by decide) (by decide)).trans (beg_0 S (by decide)), (e.2 6 (by decide) (by decide) (by decide)).trans (beg_0 S (by decide)), by rw [setI_ne _ _ (by decide), e.1]; exact beg_i S (by decide), by rw [setI_ne _ _ (by decide), e.1]; exact beg_i S (by decide), fun _ => ⟨fun i _ => congrFun h0 i, (e.2 4 (by decide) (by decide) (by decide)).trans (beg_0 S (by decide)), by rw [setI_ne _ _ (by decide), e.1]; exact beg_i S (by decide)⟩, fun z => absurd z hk⟩
theorem m_endsF {S S2 : MS} (e : SX (beg S) S2) (v : Int32) (hv : v = -11 ∨ v = -12) : ∃ S', P_X4_ends v S2 = some (0, S') ∧ MF S S' (if v = -11 then (1 : Int32) else (2 : Int32)) := by
  have hT : ∃ S', P_X4_ends_T12 v S2 = some (0, S') ∧ MF S S' (if v = -11 then (1 : Int32) else (2 : Int32)) := by
    refine ⟨setI (mov S2 1 0 0 0 194) 8 (if v = -11 then (1 : Int32) else (2 : Int32)), ?_, setI_get _ _ _, ?_, ?_, ?_, ?_, fun _ => ⟨fun i hi => ?_, ?_, ?_⟩, fun z => ?_⟩
    · unfold P_X4_ends_T12
      rw [m_copies (K := 1) (K' := 0) (o := 0) (o' := 0) (a := (0 : Int32)) (b := (0 : Int32)) S2 rfl rfl (by decide) (by decide) (by decide) (by decide) (by decide), bind_some9, m_fails, pb2_s]
    · exact (mov_ne (K := 1) (o := 0) (K' := 0) (o' := 0) (n := 194) (K2 := 2) S2 (by decide)).trans ((e.2 2 (by decide) (by decide) (by decide)).trans (beg_0 S (by decide)))
    · exact (mov_ne (K := 1) (o := 0) (K' := 0) (o' := 0) (n := 194) (K2 := 6) S2 (by decide)).trans ((e.2 6 (by decide) (by decide) (by decide)).trans (beg_0 S (by decide)))
    · rw [setI_ne _ _ (by decide), mov_2, e.1]
      exact beg_i S (by decide)
    · rw [setI_ne _ _ (by decide), mov_2, e.1]
      exact beg_i S (by decide)
    · show (mov S2 1 0 0 0 194).1 0 i = _
      rw [mov_get, if_pos (by omega), Nat.zero_add, Nat.sub_zero, e.2 1 (by decide) (by decide) (by decide)]
      exact beg_1 S hi
    · exact (mov_ne (K := 1) (o := 0) (K' := 0) (o' := 0) (n := 194) (K2 := 4) S2 (by decide)).trans ((e.2 4 (by decide) (by decide) (by decide)).trans (beg_0 S (by decide)))
    · rw [setI_ne _ _ (by decide), mov_2, e.1]
      exact beg_i S (by decide)
    · rcases hv with rfl | rfl
      · exact absurd z (by decide)
      · exact absurd z (by decide)
  unfold P_X4_ends
  rcases hv with rfl | rfl
  · rw [if_pos rfl]
    exact hT
  · rw [if_neg (by decide), if_pos rfl]
    exact hT
theorem m_endsR {S S2 : MS} (e : SX (beg S) S2) {v : Int32} (hv : noF v) {c : Nat} (hc : c ≤ 4) (h5 : S.2.1 5 = I32 c) : ∃ S', P_X4_ends v S2 = some (v, S') ∧ MF S S' 0 ∧ S'.1 0 = S2.1 0 := by
  obtain ⟨S', e2, ⟨c', q1, q2, q3, q4⟩, p2, p3, p4⟩ := m_records S2 hc (by rw [e.1]; exact (beg_i S (by decide)).trans h5) (b := S.1 0) (fun j hj => by rw [e.2 1 (by decide) (by decide) (by decide)]; exact beg_1 S hj)
  have s4 : S2.1 4 = S.1 4 := (e.2 4 (by decide) (by decide) (by decide)).trans (beg_0 S (by decide))
  have s5 : S2.2.1 5 = S.2.1 5 := by rw [e.1]; exact beg_i S (by decide)
  rw [s4] at q3 q4
  rw [s5] at q2
  refine ⟨S', ?_, ⟨?_, ?_, ?_, ?_, ?_, fun z => absurd rfl z, fun _ => ⟨c', q1, q2, q3, q4⟩⟩, p4 0 (by decide)⟩
  · unfold P_X4_ends
    rw [if_neg hv.1, if_neg hv.2, e2, bind_some9]
  · rw [p2 8 (by decide), e.1]
    exact beg_8 S
  · rw [p4 2 (by decide)]
    exact (e.2 2 (by decide) (by decide) (by decide)).trans (beg_0 S (by decide))
  · rw [p4 6 (by decide)]
    exact (e.2 6 (by decide) (by decide) (by decide)).trans (beg_0 S (by decide))
  · rw [p2 3 (by decide), e.1]
    exact beg_i S (by decide)
  · rw [p2 7 (by decide), e.1]
    exact beg_i S (by decide)
