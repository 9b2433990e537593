/-! the law's start: the invariant holds -/
section E6
theorem st_lo {i : Nat} (h : i < 16) : st1 18 i = if i / 4 = i % 4 ∨ i / 4 = 3 then (0 : Int32) else 100000 := by
  unfold st1
  rw [if_neg (by omega), fr16_at, if_pos h]
theorem st_hi {i : Nat} (h : 16 ≤ i) (h2 : i < 84 ∨ 102 ≤ i) : st1 18 i = 0 := by
  unfold st1
  rw [if_neg (by omega), fr16_at, if_neg (by omega)]
theorem st_10 {i : Nat} (h : 84 ≤ i) (h2 : i < 102) : st1 18 i = 10 := if_pos ⟨h, by omega⟩
theorem st_Zs : ∀ i, i < 16 → oplain i = Zs (st1 18) 0 i := fun i hi => by
  unfold Zs oplain
  rw [Nat.zero_add, st_lo hi]
  by_cases c : i / 4 = i % 4 ∨ i / 4 = 3
  · rw [if_pos c, if_pos c, if_neg (by decide)]
    rfl
  · rw [if_neg c, if_neg c, if_pos rfl]
theorem st_rep : rep 100000 (sub (st1 18) 0) (Zs (st1 18) 0) := fun i hi => by
  unfold sub Zs
  rw [Nat.zero_add, st_lo hi]
  by_cases c : i / 4 = i % 4 ∨ i / 4 = 3
  · rw [if_pos c, if_neg (by decide)]
    exact ⟨rfl, by decide⟩
  · rw [if_neg c, if_pos rfl]
    rfl
theorem st_Good : GoodS (st1 18) := ⟨st_rep, GZ_plain.congr st_Zs, fun k hk => Or.inl (st_hi (by omega) (by omega)), fun i hi => ⟨10, Nat.le_refl _, st_10 (by omega) (by omega)⟩, 0, by decide, st_hi (by decide) (Or.inr (by decide)), fun l hl => absurd hl (Nat.not_lt_zero l), fun l _ hl => ⟨fun c hc => st_hi (by omega) (Or.inr (by omega)), st_hi (by omega) (Or.inr (by omega))⟩⟩
def hStart (h0 : HH) (d : ZS) : HH := hpush (pu (hSz h0 + 11) (adM (hSz h0)) (S10 18) (LH h0 (LM h0 d) 19720)) (.inl (4, 1, .inr (.inl fun _ => 0))) 1
variable {h0 : HH} {d : ZS} {b L : Nat} {xs : Nat → Int32}
theorem EntryHH.eh (E : EntryHH h0 b L xs) : EH h0 := ⟨E.2.2.1, E.2.1, E.2.2.2.1⟩
theorem start_LW (E : EntryHH h0 b L xs) (rd : rep 9999 d oplain) : LW (hSz h0) L b xs (hStart h0 d) (S10 18) := by
  obtain ⟨E1, E2, E3, E4, E5, E6, ⟨v5, w1, w2⟩, ⟨v6, w3, w4⟩, E9⟩ := id E
  have W : WFM (hSz h0 + 11) (adM (hSz h0)) (LH h0 (LM h0 d) 19720) := WF (B := hSz h0) E4
  have sz : hSz (pu (hSz h0 + 11) (adM (hSz h0)) (S10 18) (LH h0 (LM h0 d) 19720)) = hSz h0 + 24 := rfl
  have up : ∀ k, k ≤ 10 → hF (hStart h0 d) (hSz h0 + k) = (LM h0 d)[k]? := fun k hk => by
    unfold hStart
    rw [hF_push_ne _ _ _ (by rw [sz]; omega), hF_pu_out (by omega) (fun K hK => by have := adM_rg K hK (hSz h0); omega)]
    exact lm_F
  have low : ∀ a ec, hF h0 a = some ec → hF (hStart h0 d) a = some ec := fun a ec ha => by
    have la := E9 a ec ha
    unfold hStart
    rw [hF_push_ne _ _ _ (by rw [sz]; omega), hF_pu_out (by omega) (fun K hK => by have := adM_rg K hK (hSz h0); omega)]
    exact (lh_low la).trans ha
  have hBe : hB (hStart h0 d) = hSz h0 := E4
  have hSze : hSz (hStart h0 d) = hSz h0 + 25 := rfl
  have s0 : (S10 18).1 0 = st1 18 := setA_get _ _ _
  have s193 : st1 18 193 = 0 := st_hi (by decide) (Or.inr (by decide))
  have s102 : st1 18 102 = 0 := st_hi (by decide) (Or.inr (by decide))
  refine ⟨hBe, ⟨⟨fun a ha => ?_, by rw [hBe, hSze]; exact Nat.le_refl _⟩, by rw [hBe, hSze]; omega⟩, low _ _ E6, ⟨⟨v5, low _ _ w1, low _ _ w2⟩, ⟨v6, low _ _ w3, low _ _ w4⟩⟩, ⟨hSz h0 + 1, .null, hSz h0 + 7, hSz h0 + 9, up 0 (by decide), by rw [hBe]; exact Nat.le_refl _, ?_, by rw [s0]; exact st_Good, Or.inl ⟨rfl, rfl⟩, ⟨hSz h0 + 8, 0, 0, fun _ => none, up 7 (by decide), up 8 (by decide), by rw [hBe]; omega, by rw [hBe]; omega, by decide, by decide, rfl, fun i hi => absurd hi (Nat.not_lt_zero i)⟩, ⟨hSz h0 + 10, 16, 0, 0, fun _ => 0, up 9 (by decide), up 10 (by decide), by rw [hBe]; omega, by rw [hBe]; omega, by decide, by decide, by decide, rfl, fun i hi => absurd hi (Nat.not_lt_zero i)⟩⟩, ?_, ⟨fun _ => 0, hF_push_eq _ _ _⟩, low _ _ E5, E9 _ _ E5⟩
  · have ha : hSz h0 + 25 ≤ a := ha
    unfold hStart
    rw [hF_push_ne _ _ _ (by rw [sz]; omega), hF_pu_out (by omega) (fun K hK => by have := adM_rg K hK (hSz h0); omega)]
    have e : a = hSz h0 + (a - hSz h0) := by omega
    rw [e]
    have := lm_F (h0 := h0) (d := d) (j := a - hSz h0)
    rw [this]
    exact List.getElem?_eq_none (show (24 : Nat) ≤ a - hSz h0 by omega)
  · rw [s0]
    refine ⟨hSz h0 + 6, hSz h0 + 2, hSz h0 + 3, hSz h0 + 4, ⟨by rw [s193]; exact up 1 (by decide), by rw [hBe]; omega⟩, Nat.zero_le _, ⟨hSz h0 + 5, d, ⟨up 4 (by decide), up 5 (by decide), ⟨by rw [hBe]; omega, Or.inl (by rw [hBe]; omega)⟩, by rw [hBe]; omega⟩, rep_congr rd st_Zs⟩, ⟨fil 18, up 6 (by decide), by rw [hBe]; omega, Nat.zero_le _, fun i hi => ?_⟩, ⟨fun _ => none, up 3 (by decide), by rw [hBe]; omega, Nat.zero_le _, fun k hk => Or.inl ⟨rfl, st_hi (by omega) (by omega)⟩⟩, ⟨0, hSa h0 0, 0, fun _ => none, fun _ => 0, fun _ => 0, fun _ => 0, s102, by decide, ⟨⟨0, up 2 (by decide)⟩, by rw [hBe]; omega, low _ _ E6, Nat.le_refl _, by decide, fun _ => rfl, fun z => absurd rfl z, fun i hi => absurd hi (Nat.not_lt_zero i)⟩, fun l hl => absurd hl (Nat.not_lt_zero l), fun l hl => absurd hl (Nat.not_lt_zero l), fun l hl => absurd hl (Nat.not_lt_zero l), Nat.zero_le _, fun z => absurd rfl z, fun l hl => absurd hl (Nat.not_lt_zero l)⟩⟩
    rw [st_10 (by omega) (by omega)]
    exact if_pos hi
  · refine pu_of (WF hBe) ?_ (fun K hK => ?_)
    · unfold hStart
      rw [hF_push_ne _ _ _ (by rw [sz]; omega), hF_pu_m]
    · have := adM_rg K hK (hSz h0)
      unfold hStart
      rw [hF_push_ne _ _ _ (by rw [sz]; omega), hF_pu_a W _ hK]
theorem lh_0 (E : EntryHH h0 b L xs) : h0 = LH h0 [] 0 := by
  obtain ⟨E1, E2, E3, E4, E5, E6, _, _, E9⟩ := E
  refine Prod.ext rfl (Prod.ext rfl (Prod.ext E1 ?_))
  funext a
  show hF h0 a = if a < hSz h0 then hF h0 a else ([] : List AC)[a - hSz h0]?
  by_cases h : a < hSz h0
  · rw [if_pos h]
  · rw [if_neg h]
    cases q : hF h0 a with
    | none => rfl
    | some e => exact absurd (E9 a e q) h
/-- the law from its start: what is left is the loop -/
theorem law_start (E : EntryHH h0 b L xs) : ∃ d, rep 9999 d oplain ∧ F_L_law (some b) h0 = Option.bind (lp (fun z => F_L_law_B23 (some b) (some (hSz h0)) (some (hSz h0 + 11)) (some (hSz h0 + 24)) z.1 z.2) 100000 ((0 : Int32), hStart h0 d)) fun h724 => some h724 := by
  have H := E.eh
  have e0 : newO h0 0 4 [.null, .null, .null, .null] = some (LH h0 [cC .null .null .null .null] 4) := (congrArg (fun X => newO X 0 4 [.null, .null, .null, .null]) (lh_0 E)).trans (lh_newO H (show (0 : Nat) < 1000000 by decide) (by decide))
  obtain ⟨d, e1, rd⟩ := e_comp H
  have e2 : newO (LH h0 (Lc h0 d) 91) 1 29 [.null, .null, .null, .int 0, .null, .int 0, .null, .int 0, .int 0, .null, .null, .int 0, .long 0, .null, .null, .null, .int 0, .null, .null, .int 0, .int 0, .int 0, .int 0, .int 0, .int 0, .int 0, .int 0, .int 0, .int 0] = some (LH h0 (Lc h0 d ++ [.inr (1, [.null, .null, .null, .int 0, .null, .int 0, .null, .int 0, .int 0, .null, .null, .int 0, .long 0, .null, .null, .null, .int 0, .null, .null, .int 0, .int 0, .int 0, .int 0, .int 0, .int 0, .int 0, .int 0, .int 0, .int 0])]) 120) := lh_newO H (show (11 : Nat) < 1000000 by decide) (by decide)
  have e3 := e_fin (d := d) H
  have e4 : newA (pu (hSz h0 + 11) (adM (hSz h0)) (S10 18) (LH h0 (LM h0 d) 19720)) 4 (1 : Int32) = some (hStart h0 d) := v_newA (t := 4) (n := 1) (by decide) (by decide) (by decide) ⟨show hSz h0 + 24 + 1 ≤ hLim h0 by have := H.1; omega, show 19720 + 1 ≤ hSlim h0 by have := H.2.1; omega⟩
  refine ⟨d, rd, ?_⟩
  unfold F_L_law
  rw [e0, bind_some9, show nnl (some (hSz h0)) = some (hSz h0) from rfl, bind_some9, e1, bind_some9, e2, bind_some9, show nnl (some (hSz (LH h0 (Lc h0 d) 91))) = some (hSz h0 + 11) from rfl, bind_some9, e3, bind_some9, e4, bind_some9]
  rfl
theorem start_Rm (E : EntryHH h0 b L xs) : Rm (50000 * 24) (228000 * 24) (hStart h0 d) := ⟨show hSz h0 + 25 + 50000 * 24 ≤ hLim h0 by have := E.2.2.1; omega, show 19721 + 228000 * 24 ≤ hSlim h0 by have := E.2.1; omega⟩
end E6
