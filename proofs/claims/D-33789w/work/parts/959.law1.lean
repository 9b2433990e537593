/-! the law's world: script, component, model, the array of answers -/
def adM (B K : Nat) : Nat := B + (if K = 0 then 12 else if K = 1 then 13 else if K = 2 then 14 else if K = 4 then 15 else if K = 6 then 16 else if K = 9 then 17 else if K = 10 then 18 else if K = 13 then 19 else if K = 14 then 20 else if K = 15 then 21 else if K = 17 then 22 else 23)
theorem mvl_or {K : Nat} (h : K ∈ mvl) : K = 0 ∨ K = 1 ∨ K = 2 ∨ K = 4 ∨ K = 6 ∨ K = 9 ∨ K = 10 ∨ K = 13 ∨ K = 14 ∨ K = 15 ∨ K = 17 ∨ K = 18 := by
  unfold mvl at h
  simpa using h
theorem adM_rg : ∀ K ∈ mvl, ∀ B, B + 12 ≤ adM B K ∧ adM B K < B + 24 := by
  intro K hK B
  rcases mvl_or hK with rfl | rfl | rfl | rfl | rfl | rfl | rfl | rfl | rfl | rfl | rfl | rfl <;> exact ⟨Nat.add_le_add_left (by decide) B, Nat.add_lt_add_left (by decide) B⟩
theorem adM_inj : ∀ K ∈ mvl, ∀ K' ∈ mvl, ∀ B, adM B K = adM B K' → K = K' := by
  intro K hK K' hK' B h
  have h := Nat.add_left_cancel h
  have : ∀ K ∈ mvl, ∀ K' ∈ mvl, (if K = 0 then 12 else if K = 1 then 13 else if K = 2 then 14 else if K = 4 then 15 else if K = 6 then 16 else if K = 9 then 17 else if K = 10 then 18 else if K = 13 then 19 else if K = 14 then 20 else if K = 15 then 21 else if K = 17 then 22 else 23) = (if K' = 0 then 12 else if K' = 1 then 13 else if K' = 2 then 14 else if K' = 4 then 15 else if K' = 6 then 16 else if K' = 9 then 17 else if K' = 10 then 18 else if K' = 13 then 19 else if K' = 14 then 20 else if K' = 15 then 21 else if K' = 17 then 22 else 23) → K = K' := by decide
  exact this K hK K' hK' h
theorem WF {B : Nat} {h : HH} (e : hB h = B) : WFM (B + 11) (adM B) h := ⟨fun K hK => by
  have := adM_rg K hK B
  exact ⟨by omega, by omega⟩, fun K hK K' hK' q => adM_inj K hK K' hK' B q, by omega⟩
def StB (h : HH) : Prop := (∃ v, hF h (hSa h 5) = some (.inr (11, [va_rf (some v), .int 0])) ∧ hF h v = some (.inl (1, 3, .inl mlrB))) ∧ (∃ v, hF h (hSa h 6) = some (.inr (11, [va_rf (some v), .int 0])) ∧ hF h v = some (.inl (1, 2, .inl wtB)))
def outA (h : HH) (B : Nat) (g : Nat → Int64) : Prop := hF h (B + 24) = some (.inl (4, 1, .inr (.inl g)))
def LW (B L b : Nat) (xs : Nat → Int32) (h : HH) (S : MS) : Prop := hB h = B ∧ OKH h ∧ hz0 h ∧ StB h ∧ CX h B S ∧ h = pu (B + 11) (adM B) S h ∧ (∃ g, outA h B g) ∧ hF h b = some (.inl (0, L, .inl xs)) ∧ b < B
def XW : Nat × Nat → Prop := fun k => XC k ∨ k = (5, 1)
theorem xw_ne {k : Nat × Nat} (h1 : k.1 = 1 ∨ k = (0, 1) ∨ k = (3, 0) ∨ k = (0, 11) ∨ k = (2, 3) ∨ k = (2, 2)) : ¬ XW k := fun h => by
  rcases h with h | h
  · rcases h with rfl | rfl | rfl | rfl | ⟨n, hn, rfl⟩
    · rcases h1 with h | h | h | h | h | h <;> cases h
    · rcases h1 with h | h | h | h | h | h <;> cases h
    · rcases h1 with h | h | h | h | h | h <;> cases h
    · rcases h1 with h | h | h | h | h | h <;> cases h
    · rcases h1 with h | h | h | h | h | h
      · cases h
      · cases h
      · cases h
      · cases h
      · cases h
        exact absurd hn (by decide)
      · cases h
        exact absurd hn (by decide)
  · subst h
    rcases h1 with h | h | h | h | h | h <;> cases h
section LA1
variable {B L b : Nat} {xs : Nat → Int32} {h h' : HH} {S S' : MS}
theorem hF_pu_out {m : Nat} {ad : Nat → Nat} {a : Nat} (n1 : a ≠ m) (n2 : ∀ K ∈ mvl, ad K ≠ a) (S : MS) (h : HH) : hF (pu m ad S h) a = hF h a := by
  show (if a = m then _ else match mvl.find? (fun K => ad K == a) with | some K => some (.inl (0, mlen K, .inl (S.1 K))) | none => h.2.2.2 a) = h.2.2.2 a
  rw [if_neg n1]
  have : mvl.find? (fun K => ad K == a) = none := List.find?_eq_none.mpr (fun K hK => by simp [n2 K hK])
  rw [this]
/-- the model's cells in a heap where they are kept -/
theorem pu_keep (e : hB h = B) (hpu : h = pu (B + 11) (adM B) S h) (k : KeepX XW h h') : h' = pu (B + 11) (adM B) S h' := by
  have W := WF e
  have hm : hF h' (B + 11) = some (.inr (1, objM (adM B) S)) := k.2.1 _ _ (by rw [hpu]; exact hF_pu_m S) (xw_ne (Or.inr (Or.inl rfl)))
  have ha : ∀ K ∈ mvl, hF h' (adM B K) = some (.inl (0, mlen K, .inl (S.1 K))) := fun K hK => k.2.1 _ _ (by rw [hpu]; exact hF_pu_a W S hK) (xw_ne (Or.inl rfl))
  have hf : h'.2.2.2 = (pu (B + 11) (adM B) S h').2.2.2 := by
    funext a
    show hF h' a = hF (pu (B + 11) (adM B) S h') a
    by_cases h1 : a = B + 11
    · subst h1
      rw [hF_pu_m, hm]
    · by_cases h2 : ∃ K ∈ mvl, adM B K = a
      · obtain ⟨K, hK, rfl⟩ := h2
        rw [hF_pu_a (WF (hB_of k.1 |>.trans e)) S hK, ha K hK]
      · exact (hF_pu_out h1 (fun K hK z => h2 ⟨K, hK, z⟩) S h').symm
  exact Prod.ext rfl (Prod.ext rfl (Prod.ext rfl hf))
theorem pu_KeepM (e : hB h = B) (hpu : h = pu (B + 11) (adM B) S h) (S' : MS) : KeepM h (pu (B + 11) (adM B) S' h) := by
  have W := WF e
  have out : ∀ a ec, hF h a = some ec → (∀ K ∈ mvl, adM B K ≠ a) → a ≠ B + 11 → hF (pu (B + 11) (adM B) S' h) a = some ec := fun a ec ha n1 n2 => by
    rw [hF_pu_out n2 n1]
    exact ha
  have atm : hF h (B + 11) = some (.inr (1, objM (adM B) S)) := by
    rw [hpu]
    exact hF_pu_m S
  have ata : ∀ K ∈ mvl, hF h (adM B K) = some (.inl (0, mlen K, .inl (S.1 K))) := fun K hK => by
    have := hF_pu_a W S hK
    rw [← hpu] at this
    exact this
  refine ⟨⟨rfl, fun a ec ha hx => out a ec ha (fun K hK z => ?_) (fun z => ?_), fun a c fs ha => ?_⟩, fun a ec ha hr => out a ec ha (fun K hK z => ?_) (fun z => ?_)⟩
  · subst z
    rw [ata K hK] at ha
    cases ha
    have : ∀ K ∈ mvl, ((1, mlen K) : Nat × Nat) ∈ MKl := by decide
    exact hx (this K hK)
  · subst z
    rw [atm] at ha
    cases ha
    exact hx (show ((0, 1) : Nat × Nat) ∈ MKl by decide)
  · by_cases z : a = B + 11
    · subst z
      rw [atm] at ha
      cases ha
      exact ⟨_, hF_pu_m S'⟩
    · refine ⟨fs, out a _ ha (fun K hK z2 => ?_) z⟩
      subst z2
      rw [ata K hK] at ha
      cases ha
  · subst z
    have := adM_rg K hK B
    omega
  · subst z
    omega
theorem OKH.pu (e : hB h = B) (o : OKH h) (S' : MS) : OKH (pu (B + 11) (adM B) S' h) := ⟨⟨fun a ha => by
  have ha : hSz h ≤ a := ha
  have h25 := o.1.2
  rw [hF_pu_out (by omega) (fun K hK => by have := adM_rg K hK B; omega)]
  exact o.1.1 a ha, o.1.2⟩, o.2⟩
/-- behind a call on both sides -/
theorem LW.step (I : LW B L b xs h S) {c s : Nat} (g : Gr (fun _ => False) c s h h') (k : KeepX XW h h') (R : CX h' B S') (og : ∃ g, outA h' B g) : LW B L b xs (pu (B + 11) (adM B) S' h') S' := by
  obtain ⟨e, o, z, ⟨⟨v5, s1, s2⟩, ⟨v6, s3, s4⟩⟩, R0, hpu, og0, sc, hb⟩ := I
  have e' : hB h' = B := (hB_of g.1).trans e
  have hpu' := pu_keep e hpu k
  have km := pu_KeepM e' hpu' S'
  have low : ∀ a ec, hF h a = some ec → a < B → ¬ XW (kd ec) → hF (pu (B + 11) (adM B) S' h') a = some ec := fun a ec ha hl hx => km.2 _ _ (k.2.1 _ _ ha hx) (Or.inl (by omega))
  have gen : ∀ a ec, hF h a = some ec → ¬ XW (kd ec) → kd ec ∉ MKl → hF (pu (B + 11) (adM B) S' h') a = some ec := fun a ec ha hx hm => km.1.2.1 _ _ (k.2.1 _ _ ha hx) hm
  have esa : hSa (pu (B + 11) (adM B) S' h') = hSa h := hSa_of (h := h) (h' := pu (B + 11) (adM B) S' h') g.1
  refine ⟨e', OKH.pu e' g.ok S', ?_, ⟨⟨v5, ?_, ?_⟩, ⟨v6, ?_, ?_⟩⟩, R.keepM km, ?_, ?_, ?_, hb⟩
  · unfold hz0
    rw [esa]
    exact gen _ _ z (xw_ne (by decide)) (by decide)
  · rw [esa]
    exact gen _ _ s1 (xw_ne (Or.inr (Or.inr (Or.inr (Or.inl rfl))))) (show ((0, 11) : Nat × Nat) ∉ MKl by decide)
  · exact gen _ _ s2 (xw_ne (Or.inr (Or.inr (Or.inr (Or.inr (Or.inl rfl)))))) (show ((2, 3) : Nat × Nat) ∉ MKl by decide)
  · rw [esa]
    exact gen _ _ s3 (xw_ne (Or.inr (Or.inr (Or.inr (Or.inl rfl))))) (show ((0, 11) : Nat × Nat) ∉ MKl by decide)
  · exact gen _ _ s4 (xw_ne (Or.inr (Or.inr (Or.inr (Or.inr (Or.inr rfl)))))) (show ((2, 2) : Nat × Nat) ∉ MKl by decide)
  · have : ∀ (H : HH), pu (B + 11) (adM B) S' (pu (B + 11) (adM B) S' H) = pu (B + 11) (adM B) S' H := fun H => by
      unfold pu
      simp only
      congr 3
      funext a
      by_cases h1 : a = B + 11
      · rw [if_pos h1, if_pos h1]
      · rw [if_neg h1, if_neg h1]
        cases mvl.find? (fun K => adM B K == a) <;> rfl
    exact (this h').symm
  · obtain ⟨g1, hg⟩ := og
    exact ⟨g1, km.1.2.1 _ _ hg (show ((5, 1) : Nat × Nat) ∉ MKl by decide)⟩
  · exact low _ _ sc hb (xw_ne (Or.inl rfl))
/-- what a call of the component through its wrapper leaves -/
def XR (B : Nat) (h h' : HH) (S' : MS) (k : Int32) (x : Int64) : Prop := Gr (fun _ => False) 50000 228000 h h' ∧ KeepX XW h h' ∧ CX h' B S' ∧ S'.2.1 8 = k ∧ ∃ g, outA h' B g ∧ (k = 0 → g 0 = x)
theorem ix1 {i k L : Nat} (hi : i + k < L) (hL : L ≤ 120) (hk : k ≤ 5) : ix (I32 i + I32 k) (i + k) L := by
  rw [i32add (by omega)]
  exact ix_of _ _ hi (by omega)
theorem m_thrown (S : MS) : P_X4_thrown S = some (S.2.1 8) := rfl
end LA1
