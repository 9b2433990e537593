/-! ferries: resets to zero keep what a row must be -/
theorem or0 (D : OD) (c m : Nat) : oreset D c 0 m = if m / 4 = c ∧ m % 4 ≠ c then D (12 + m % 4) else if m % 4 = c ∧ m / 4 ≠ c then D (4 * (m / 4) + 3) else D m := by
  unfold oreset
  by_cases h1 : m / 4 = c ∧ m % 4 ≠ c
  · rw [if_pos h1, if_pos h1, oadd_comm, oadd_zero]
  · rw [if_neg h1, if_neg h1]
    by_cases h2 : m % 4 = c ∧ m / 4 ≠ c
    · rw [if_pos h2, if_pos h2, Int.neg_zero, oadd_zero]
    · rw [if_neg h2, if_neg h2]
theorem EC_reset0 {D : OD} (h : EC D) {c : Nat} (hc : c < 3) : EC (oreset D c 0) := by
  refine ⟨fun k hk => ?_, fun j hj => ?_, fun m hm t ht => ?_⟩
  · rw [or0, if_neg (by omega), if_neg (by omega)]
    exact h.1 k hk
  · rw [or0, if_neg (by omega)]
    by_cases q : j = c
    · rw [if_pos (by omega), show 4 * ((12 + j) / 4) + 3 = 5 * 3 by omega, h.1 3 (by decide)]
      exact ⟨0, rfl, Int.le_refl _⟩
    · rw [if_neg (by omega)]
      exact h.2.1 j hj
  · rw [or0] at ht
    by_cases h1 : m / 4 = c ∧ m % 4 ≠ c
    · rw [if_pos h1] at ht
      exact h.2.2 _ (by omega) t ht
    · rw [if_neg h1] at ht
      by_cases h2 : m % 4 = c ∧ m / 4 ≠ c
      · rw [if_pos h2] at ht
        exact h.2.2 _ (by omega) t ht
      · rw [if_neg h2] at ht
        exact h.2.2 _ hm t ht
/-- the resets of a line, one clock after the other -/
def orst (bits : Nat → Bool) (D : OD) : Nat → OD
  | 0 => D
  | j + 1 => if bits j then oreset (orst bits D j) j 0 else orst bits D j
theorem EC_orst {D : OD} (h : EC D) (bits : Nat → Bool) : ∀ j, j ≤ 3 → EC (orst bits D j)
  | 0, _ => h
  | j + 1, hj => by
    show EC (if bits j then _ else _)
    split
    · exact EC_reset0 (EC_orst h bits j (by omega)) (by omega)
    · exact EC_orst h bits j (by omega)
theorem EC.nn {D : OD} (h : EC D) : nn D := dg0_nn h.1
