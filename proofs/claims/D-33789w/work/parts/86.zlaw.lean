/-! closed forms: loops that count; the sixteen bounds of a zone -/
theorem lp_for {σ ρ : Type} {B : σ → Option (σ ⊕ ρ)} {r : ρ} (st : Nat → σ) : ∀ (n k fuel : Nat), (∀ j, k ≤ j → j < k + n → B (st j) = some (.inl (st (j + 1)))) → B (st (k + n)) = some (.inr r) → n < fuel → lp B fuel (st k) = some r
  | 0, k, 0, _, _, h => absurd h (Nat.not_lt_zero _)
  | 0, k, f + 1, _, he, _ => by
    unfold lp
    rw [Nat.add_zero] at he
    rw [he]
  | n + 1, k, 0, _, _, h => absurd h (Nat.not_lt_zero _)
  | n + 1, k, f + 1, hs, he, h => by
    unfold lp
    rw [hs k (Nat.le_refl _) (by omega)]
    exact lp_for st n (k + 1) f (fun j h1 h2 => hs j (by omega) (by omega)) (by rw [show k + 1 + n = k + (n + 1) by omega]; exact he) (by omega)
theorem lp_for0 {σ ρ : Type} {B : σ → Option (σ ⊕ ρ)} {r : ρ} (st : Nat → σ) (n : Nat) (hs : ∀ j, j < n → B (st j) = some (.inl (st (j + 1)))) (he : B (st n) = some (.inr r)) (fuel : Nat) (hf : n < fuel) : lp B fuel (st 0) = some r :=
  lp_for st n 0 fuel (fun j _ h => hs j (by omega)) (by rw [Nat.zero_add]; exact he) hf
abbrev I32 (n : Nat) : Int32 := Int32.ofNat n
theorem zi1 : ∀ i, i < 4 → ∀ j, j < 4 → ¬ ((4 : Int32) * I32 i + I32 j < 0 ∨ 16 ≤ ((4 : Int32) * I32 i + I32 j).toNatClampNeg) := by decide
theorem zi2 : ∀ i, i < 4 → ∀ j, j < 4 → ((4 : Int32) * I32 i + I32 j).toNatClampNeg = 4 * i + j := by decide
theorem zi3 : ∀ i, i < 4 → ¬ (4 : Int32) ≤ I32 i := by decide
theorem zi4 : ∀ i, i < 4 → I32 i + (1 : Int32) = I32 (i + 1) := by decide
theorem p_at {i j : Nat} (hi : i < 4) (hj : j < 4) (d : ZS) : P_X3_at (I32 i) (I32 j) d = some (d (4 * i + j)) := by
  unfold P_X3_at rdZ
  rw [if_neg (zi1 i hi j hj), zi2 i hi j hj]
  rfl
theorem p_sets {i j : Nat} (hi : i < 4) (hj : j < 4) (x : Int32) (d : ZS) : P_X3_sets (I32 i) (I32 j) x d = some (upd d (4 * i + j) x) := by
  unfold P_X3_sets wrZ
  rw [if_neg (zi1 i hi j hj), zi2 i hi j hj]
  rfl
theorem p_tells {i j : Nat} (hi : i < 4) (hj : j < 4) (x : Int32) (d : ZS) : P_X3_tells (I32 i) (I32 j) x d = some (upd d (4 * i + j) (F_J11_min (d (4 * i + j)) x)) := by
  unfold P_X3_tells
  rw [p_at hi hj, bind_some9, p_sets hi hj]
  rfl
def zstep (k i j : Nat) (d : ZS) : ZS := upd d (4 * i + j) (F_J11_min (d (4 * i + j)) (F_X3_sum (d (4 * i + k)) (d (4 * k + j))))
def zr (k i : Nat) (d : ZS) : Nat → ZS
  | 0 => d
  | j + 1 => zstep k i j (zr k i d j)
def zb (k : Nat) (d : ZS) : Nat → ZS
  | 0 => d
  | i + 1 => zr k i (zb k d i) 4
def zt (d : ZS) : Nat → ZS
  | 0 => d
  | k + 1 => zb k (zt d k) 4
theorem p_tr {k i : Nat} (hk : k < 4) (hi : i < 4) (d : ZS) : lp (fun z => P_X3_tightens_B16 (I32 k) (I32 i) z.1 z.2) 100000 ((0 : Int32), d) = some (zr k i d 4) := by
  refine lp_for0 (fun j => (I32 j, zr k i d j)) 4 (fun j hj => ?_) ?_ 100000 (by decide)
  · show P_X3_tightens_B16 (I32 k) (I32 i) (I32 j) (zr k i d j) = _
    unfold P_X3_tightens_B16
    rw [if_neg (zi3 j hj), p_at hi hk, bind_some9, p_at hk hj, bind_some9, p_tells hi hj, bind_some9, zi4 j hj]
    rfl
  · show P_X3_tightens_B16 (I32 k) (I32 i) (I32 4) (zr k i d 4) = _
    unfold P_X3_tightens_B16
    rw [if_pos (by decide)]
theorem p_tb {k : Nat} (hk : k < 4) (d : ZS) : lp (fun z => P_X3_tightens_B9 (I32 k) z.1 z.2) 100000 ((0 : Int32), d) = some (zb k d 4) := by
  refine lp_for0 (fun i => (I32 i, zb k d i)) 4 (fun i hi => ?_) ?_ 100000 (by decide)
  · show P_X3_tightens_B9 (I32 k) (I32 i) (zb k d i) = _
    unfold P_X3_tightens_B9
    rw [if_neg (zi3 i hi), p_tr hk hi, bind_some9, zi4 i hi]
    rfl
  · show P_X3_tightens_B9 (I32 k) (I32 4) (zb k d 4) = _
    unfold P_X3_tightens_B9
    rw [if_pos (by decide)]
theorem p_tightens (d : ZS) : P_X3_tightens d = some (zt d 4) := by
  unfold P_X3_tightens
  rw [show lp (fun z => P_X3_tightens_B2 z.1 z.2) 100000 ((0 : Int32), d) = some (zt d 4) from ?_]
  · rfl
  refine lp_for0 (fun k => (I32 k, zt d k)) 4 (fun k hk => ?_) ?_ 100000 (by decide)
  · show P_X3_tightens_B2 (I32 k) (zt d k) = _
    unfold P_X3_tightens_B2
    rw [if_neg (zi3 k hk), p_tb hk, bind_some9, zi4 k hk]
    rfl
  · show P_X3_tightens_B2 (I32 4) (zt d 4) = _
    unfold P_X3_tightens_B2
    rw [if_pos (by decide)]
