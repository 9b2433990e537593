/-! closed forms of the model's tightens, carries within its arrays of sixteen -/
def setA (S : MS) (K : Nat) (d : ZS) : MS := (va_up S.1 K d, S.2)
theorem setA_get (S : MS) (K : Nat) (d : ZS) : (setA S K d).1 K = d := by simp [setA, va_up]
theorem setA_set (S : MS) (K : Nat) (d d' : ZS) : setA (setA S K d) K d' = setA S K d' := by
  unfold setA
  congr 1
  funext j
  simp only [va_up]
  split <;> rfl
theorem setA_self (S : MS) (K : Nat) : setA S K (S.1 K) = S := by
  unfold setA
  have : va_up S.1 K (S.1 K) = S.1 := by
    funext j
    simp only [va_up]
    split
    · rename_i h; rw [h]
    · rfl
  rw [this]
theorem rd_n {K n : Nat} {i : Int32} (S : MS) (h1 : ¬ i < 0) (h2 : i.toNatClampNeg = n) (h3 : n < mlen K) : rd S K i = some (S.1 K n) := by
  unfold rd
  rw [if_neg (by rw [h2]; exact fun q => q.elim h1 (fun z => by omega)), h2]
theorem wr_n {K n : Nat} {i : Int32} (S : MS) (x : Int32) (h1 : ¬ i < 0) (h2 : i.toNatClampNeg = n) (h3 : n < mlen K) : wr S K i x = some (setA S K (upd (S.1 K) n x)) := by
  unfold wr setA
  rw [if_neg (by rw [h2]; exact fun q => q.elim h1 (fun z => by omega)), h2]
def mstep (k c : Nat) (d : ZS) : ZS := upd d c (F_X4_less (d c) (F_X4_sum (d (4 * (c / 4) + k)) (d (4 * k + c % 4))))
def mrow (k : Nat) (d : ZS) : Nat → ZS
  | 0 => d
  | c + 1 => mstep k c (mrow k d c)
def mt (d : ZS) : Nat → ZS
  | 0 => d
  | k + 1 => mrow k (mt d k) 16
theorem mi1 : ∀ c, c < 16 → ¬ (0 : Int32) + I32 c < 0 ∧ ((0 : Int32) + I32 c).toNatClampNeg = c ∧ ¬ (16 : Int32) ≤ I32 c ∧ I32 c + (1 : Int32) = I32 (c + 1) := by decide
theorem mi2 : ∀ k, k < 4 → ∀ c, c < 16 → ¬ ((0 : Int32) + ((4 : Int32) * (I32 c / (4 : Int32)))) + I32 k < 0 ∧ (((0 : Int32) + ((4 : Int32) * (I32 c / (4 : Int32)))) + I32 k).toNatClampNeg = 4 * (c / 4) + k := by decide
theorem mi3 : ∀ k, k < 4 → ∀ c, c < 16 → ¬ ((0 : Int32) + ((4 : Int32) * I32 k)) + (I32 c - I32 c / (4 : Int32) * (4 : Int32)) < 0 ∧ (((0 : Int32) + ((4 : Int32) * I32 k)) + (I32 c - I32 c / (4 : Int32) * (4 : Int32))).toNatClampNeg = 4 * k + c % 4 := by decide
theorem mi4 : ∀ j, j < 4 → ¬ (0 : Int32) + (5 : Int32) * I32 j < 0 ∧ ((0 : Int32) + (5 : Int32) * I32 j).toNatClampNeg = 5 * j := by decide
theorem q_trow {K k : Nat} (hK : mlen K = 16) (hk : k < 4) (S : MS) (d : ZS) : lp (fun z => P_X4_tightens_B9 K (0 : Int32) (I32 k) z.1 z.2) 100000 ((0 : Int32), setA S K d) = some (setA S K (mrow k d 16)) := by
  refine lp_for0 (fun c => (I32 c, setA S K (mrow k d c))) 16 (fun c hc => ?_) ?_ 100000 (by decide)
  · show P_X4_tightens_B9 K (0 : Int32) (I32 k) (I32 c) (setA S K (mrow k d c)) = _
    obtain ⟨a1, a2, a3, a4⟩ := mi1 c hc
    obtain ⟨b1, b2'⟩ := mi2 k hk c hc
    obtain ⟨c1, c2⟩ := mi3 k hk c hc
    unfold P_X4_tightens_B9
    rw [if_neg a3, rd_n _ a1 a2 (by omega), bind_some9, rd_n _ b1 b2' (by omega), bind_some9, rd_n _ c1 c2 (by omega), bind_some9, wr_n _ _ a1 a2 (by omega), bind_some9, a4, setA_get, setA_set]
    rfl
  · show P_X4_tightens_B9 K (0 : Int32) (I32 k) (I32 16) (setA S K (mrow k d 16)) = _
    unfold P_X4_tightens_B9
    rw [if_pos (by decide)]
theorem q_tall {K : Nat} (hK : mlen K = 16) (S : MS) (d : ZS) : lp (fun z => P_X4_tightens_B2 K (0 : Int32) z.1 z.2) 100000 ((0 : Int32), setA S K d) = some (setA S K (mt d 4)) := by
  refine lp_for0 (fun k => (I32 k, setA S K (mt d k))) 4 (fun k hk => ?_) ?_ 100000 (by decide)
  · show P_X4_tightens_B2 K (0 : Int32) (I32 k) (setA S K (mt d k)) = _
    unfold P_X4_tightens_B2
    rw [if_neg (zi3 k hk), q_trow hK hk, bind_some9, zi4 k hk]
    rfl
  · show P_X4_tightens_B2 K (0 : Int32) (I32 4) (setA S K (mt d 4)) = _
    unfold P_X4_tightens_B2
    rw [if_pos (by decide)]
/-- whether no place of the diagonal is below nought -/
def mv (d : ZS) : Nat → Int32
  | 0 => 1
  | j + 1 => if mv d j = 0 then 0 else if d (5 * j) < 0 then 0 else 1
theorem mv_01 (d : ZS) : ∀ j, mv d j = 0 ∨ mv d j = 1
  | 0 => Or.inr rfl
  | j + 1 => by
    unfold mv
    split
    · exact Or.inl rfl
    · split
      · exact Or.inl rfl
      · exact Or.inr rfl
theorem q_diag {K : Nat} (hK : mlen K = 16) (S : MS) (d : ZS) (f : Nat → Int32) (h0 : f 0 = 1) (hs : ∀ j, f (j + 1) = if f j = 0 then 0 else if d (5 * j) < 0 then 0 else 1) : lp (fun z => P_X4_tightens_B77 K (0 : Int32) z.1 z.2 (setA S K d)) 100000 ((1 : Int32), (0 : Int32)) = some (f 4) := by
  have h := lp_for0 (B := fun z => P_X4_tightens_B77 K (0 : Int32) z.1 z.2 (setA S K d)) (r := f 4) (fun j => (f j, I32 j)) 4 (fun j hj => by
    show P_X4_tightens_B77 K (0 : Int32) (f j) (I32 j) (setA S K d) = some (Sum.inl (f (j + 1), I32 (j + 1)))
    obtain ⟨a1, a2⟩ := mi4 j hj
    unfold P_X4_tightens_B77
    rw [if_neg (zi3 j hj), rd_n _ a1 a2 (by omega), bind_some9, zi4 j hj, setA_get, hs]
    split <;> rfl) (by
    show P_X4_tightens_B77 K (0 : Int32) (f 4) (I32 4) (setA S K d) = _
    unfold P_X4_tightens_B77
    rw [if_pos (by decide)]) 100000 (by decide)
  rw [h0] at h
  exact h
theorem q_tightens {K : Nat} (hK : mlen K = 16) (S : MS) (d : ZS) : P_X4_tightens K (0 : Int32) (setA S K d) = some (mv (mt d 4) 4, setA S K (mt d 4)) := by
  unfold P_X4_tightens
  rw [q_tall hK, bind_some9, q_diag hK S (mt d 4) (mv (mt d 4)) rfl (fun j => rfl), bind_some9]
  have h : okZ (mv (mt d 4) 4) = some () := by unfold okZ; rw [if_pos (mv_01 _ 4)]
  rw [h]
  rfl
