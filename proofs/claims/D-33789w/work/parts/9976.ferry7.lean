/-! ferries: needs keep EC -/
theorem EC_ond {D : OD} (h : EC D) (le mo : Nat → Int32) (hl : ∀ c, c < 3 → isC 9 (le c)) (hm : ∀ c, c < 3 → isC 10 (mo c)) : EC (ond 3 le mo D) := by
  unfold ond
  refine ⟨fun k hk => ?_, fun j hj => ?_, fun m hm' t ht => ?_⟩
  · show (if _ then _ else (if _ then _ else _)) = _
    rw [if_neg (by omega), if_neg (by omega)]
    exact h.1 k hk
  · obtain ⟨t, ht, h0⟩ := h.2.1 j hj
    obtain ⟨n, hn, en⟩ := hl j hj
    have e : omin (D (12 + j)) (some (-(le j).toInt)) = some (if -(le j).toInt < t then -(le j).toInt else t) := by
      rw [ht]
      rfl
    refine ⟨if -(le j).toInt < t then -(le j).toInt else t, ?_, ?_⟩
    · show (if _ then _ else (if _ then _ else _)) = _
      rw [if_neg (by omega), if_pos (by omega), Nat.add_sub_cancel_left]
      exact e
    · split
      · omega
      · exact h0
  · have ht : (if m % 4 = 3 ∧ m / 4 < 3 then omin (D m) (if mo (m / 4) = 10 then none else some (mo (m / 4)).toInt) else if 12 ≤ m ∧ m < 12 + 3 then omin (D m) (some (-(le (m - 12)).toInt)) else D m) = some t := ht
    by_cases q : m % 4 = 3 ∧ m / 4 < 3
    · rw [if_pos q] at ht
      rcases omin_some ht with w | w
      · exact h.2.2 m hm' t w
      · by_cases q2 : mo (m / 4) = 10
        · rw [if_pos q2] at w
          cases w
        · rw [if_neg q2] at w
          cases w
          obtain ⟨n, hn, en⟩ := hm (m / 4) q.2
          rw [en, big_t (by omega)]
          omega
    · rw [if_neg q] at ht
      by_cases q3 : 12 ≤ m ∧ m < 12 + 3
      · rw [if_pos q3] at ht
        rcases omin_some ht with w | w
        · exact h.2.2 m hm' t w
        · cases w
          obtain ⟨n, hn, en⟩ := hl (m - 12) (by omega)
          rw [en, big_t (by omega)]
          omega
      · rw [if_neg q3] at ht
        exact h.2.2 m hm' t ht
