/-! bounds from below in a round of tightening: six times as low at most -/
def fac (k i : Nat) : Nat := if i = 5 * k then 2 else if i / 4 = k ∨ i % 4 = k then 3 else 6
def facAt (k c i : Nat) : Nat := if i < c then fac k i else 1
theorem fac_sum : ∀ k, k < 4 → ∀ c, c < 16 → facAt k c (4 * (c / 4) + k) + facAt k c (4 * k + c % 4) ≤ fac k c := by decide
theorem fac_pos : ∀ k, k < 4 → ∀ c, c < 16 → 1 ≤ fac k c ∧ fac k c ≤ 6 := by decide
def LoI (m : Int) (k c : Nat) (D : OD) : Prop := ∀ i, i < 16 → ∀ t, D i = some t → (facAt k c i : Int) * m ≤ t
theorem mul_le_np {a b : Nat} {m : Int} (h : a ≤ b) (hm : m ≤ 0) : (b : Int) * m ≤ (a : Int) * m := Int.mul_le_mul_of_nonpos_right (by omega) hm
theorem LoI_step {m : Int} (hm : m ≤ 0) {k c : Nat} (hk : k < 4) (hc : c < 16) {D : OD} (h : LoI m k c D) : LoI m k (c + 1) (ost k c D) := by
  intro i hi t ht
  by_cases e : i = c
  · subst e
    have e2 : ost k i D i = omin (D i) (oadd (D (4 * (i / 4) + k)) (D (4 * k + i % 4))) := by simp [ost, va_up]
    rw [e2] at ht
    have hfi : facAt k (i + 1) i = fac k i := by unfold facAt; rw [if_pos (Nat.lt_succ_self i)]
    rw [hfi]
    have p1 : ∀ x, D i = some x → (fac k i : Int) * m ≤ x := fun x hx => by
      have h1 := h i hi x hx
      have h2 : facAt k i i = 1 := by unfold facAt; rw [if_neg (Nat.lt_irrefl i)]
      rw [h2] at h1
      exact Int.le_trans (mul_le_np (fac_pos k hk i hc).1 hm) h1
    have p2 : ∀ x y, D (4 * (i / 4) + k) = some x → D (4 * k + i % 4) = some y → (fac k i : Int) * m ≤ x + y := fun x y hx hy => by
      have h1 := h _ (by omega) x hx
      have h2 := h _ (by omega) y hy
      have h3 := mul_le_np (fac_sum k hk i hc) hm
      rw [Int.natCast_add, Int.add_mul] at h3
      omega
    cases hA : D i with
    | none =>
      rw [hA] at ht
      cases hX : D (4 * (i / 4) + k) with
      | none => rw [hX] at ht; cases ht
      | some x =>
        cases hY : D (4 * k + i % 4) with
        | none => rw [hX, hY] at ht; cases ht
        | some y =>
          rw [hX, hY] at ht
          have ht : some (x + y) = some t := ht
          cases ht
          exact p2 x y hX hY
    | some a =>
      rw [hA] at ht
      cases hX : D (4 * (i / 4) + k) with
      | none =>
        rw [hX] at ht
        have ht : some a = some t := ht
        cases ht
        exact p1 _ hA
      | some x =>
        cases hY : D (4 * k + i % 4) with
        | none =>
          rw [hX, hY] at ht
          have ht : some a = some t := ht
          cases ht
          exact p1 _ hA
        | some y =>
          rw [hX, hY] at ht
          have ht : some (if x + y < a then x + y else a) = some t := ht
          have ht := Option.some.inj ht
          rw [← ht]
          split
          · exact p2 x y hX hY
          · exact p1 _ hA
  · have e2 : ost k c D i = D i := by simp [ost, va_up, e]
    rw [e2] at ht
    have h1 := h i hi t ht
    have h2 : facAt k (c + 1) i = facAt k c i := by
      unfold facAt
      by_cases hl : i < c
      · rw [if_pos hl, if_pos (by omega)]
      · rw [if_neg hl, if_neg (by omega)]
    rw [h2]
    exact h1
theorem LoI_row {m : Int} (hm : m ≤ 0) {k : Nat} (hk : k < 4) {D : OD} (h : ∀ i, i < 16 → ∀ t, D i = some t → m ≤ t) : ∀ c, c ≤ 16 → LoI m k c (orow k D c)
  | 0, _ => fun i hi t ht => by
    have h1 := h i hi t ht
    have h2 : facAt k 0 i = 1 := by unfold facAt; rw [if_neg (Nat.not_lt_zero i)]
    rw [h2]
    omega
  | c + 1, hc => LoI_step hm hk (by omega) (LoI_row hm hk h c (by omega))
theorem lo_row {m : Int} (hm : m ≤ 0) {k : Nat} (hk : k < 4) {D : OD} (h : ∀ i, i < 16 → ∀ t, D i = some t → m ≤ t) {c : Nat} (hc : c ≤ 16) : ∀ i, i < 16 → ∀ t, orow k D c i = some t → 6 * m ≤ t := fun i hi t ht => by
  have h1 := LoI_row hm hk h c hc i hi t ht
  have h2 : facAt k c i ≤ 6 := by
    unfold facAt
    split
    · exact (fac_pos k hk i hi).2
    · omega
  exact Int.le_trans (mul_le_np h2 hm) h1
/-- all bounds of all rounds, from below -/
theorem lo_all {m : Int} (hm : m ≤ 0) {D : OD} (h : ∀ i, i < 16 → ∀ t, D i = some t → m ≤ t) : ∀ k, k ≤ 4 → ∀ i, i < 16 → ∀ t, otl D k i = some t → 6 ^ k * m ≤ t
  | 0, _ => fun i hi t ht => by
    have := h i hi t ht
    omega
  | k + 1, hk => fun i hi t ht => by
    have h1 := lo_row (m := 6 ^ k * m) (Int.mul_nonpos_of_nonneg_of_nonpos (Int.pow_nonneg (by decide)) hm) (k := k) (by omega) (lo_all hm h k (by omega)) (c := 16) (Nat.le_refl _) i hi t ht
    rw [Int.pow_succ, Int.mul_comm (6 ^ k) 6, Int.mul_assoc]
    exact h1
