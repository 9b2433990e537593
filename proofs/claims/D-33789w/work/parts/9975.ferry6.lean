/-! ferries: stays and needs keep EC -/
theorem EC_okp {D : OD} (h : EC D) (u : Nat → Int32) (hu : ∀ c, c < 3 → isC 10 (u c)) : EC (okp 3 u D) := by
  unfold okp
  refine ⟨fun k hk => ?_, fun j hj => ?_, fun m hm t ht => ?_⟩
  · show (if _ then _ else _) = _
    rw [if_neg (by omega)]
    exact h.1 k hk
  · obtain ⟨t, ht, h0⟩ := h.2.1 j hj
    refine ⟨t, ?_, h0⟩
    show (if _ then _ else _) = _
    rw [if_neg (by omega)]
    exact ht
  · have ht : (if m % 4 = 3 ∧ m / 4 < 3 then omin (D m) (if u (m / 4) = 10 then none else some (u (m / 4)).toInt) else D m) = some t := ht
    by_cases q : m % 4 = 3 ∧ m / 4 < 3
    · rw [if_pos q] at ht
      rcases omin_some ht with w | w
      · exact h.2.2 m hm t w
      · by_cases q2 : u (m / 4) = 10
        · rw [if_pos q2] at w
          cases w
        · rw [if_neg q2] at w
          cases w
          obtain ⟨n, hn, en⟩ := hu (m / 4) q.2
          rw [en, big_t (by omega)]
          omega
    · rw [if_neg q] at ht
      exact h.2.2 m hm t ht
