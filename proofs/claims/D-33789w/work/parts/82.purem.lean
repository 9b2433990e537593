/-! the model's object and its arrays, laid into a heap; what the instructions do on them -/
abbrev MS : Type := (Nat → Nat → Int32) × (Nat → Int32) × Int64
/-- the fields that are arrays, and how long these are -/
def mlen (K : Nat) : Nat := if K = 0 ∨ K = 1 ∨ K = 2 then 194 else if K = 4 then 776 else if K = 6 then 60 else if K = 9 ∨ K = 10 then 16 else if K = 13 then 1936 else if K = 14 ∨ K = 15 then 121 else if K = 17 ∨ K = 18 then 7986 else 0
def mvl : List Nat := [0, 1, 2, 4, 6, 9, 10, 13, 14, 15, 17, 18]
def objM (ad : Nat → Nat) (S : MS) : List Value := [.ref (ad 0), .ref (ad 1), .ref (ad 2), .int (S.2.1 3), .ref (ad 4), .int (S.2.1 5), .ref (ad 6), .int (S.2.1 7), .int (S.2.1 8), .ref (ad 9), .ref (ad 10), .int (S.2.1 11), .long S.2.2, .ref (ad 13), .ref (ad 14), .ref (ad 15), .int (S.2.1 16), .ref (ad 17), .ref (ad 18), .int (S.2.1 19), .int (S.2.1 20), .int (S.2.1 21), .int (S.2.1 22), .int (S.2.1 23), .int (S.2.1 24), .int (S.2.1 25), .int (S.2.1 26), .int (S.2.1 27), .int (S.2.1 28)]
def pu (m : Nat) (ad : Nat → Nat) (S : MS) (h : HH) : HH := (h.1, h.2.1, h.2.2.1, fun a => if a = m then some (.inr (1, objM ad S)) else match mvl.find? (fun K => ad K == a) with
  | some K => some (.inl (0, mlen K, .inl (S.1 K)))
  | none => h.2.2.2 a)
/-- the model's cells are apart, and may be written -/
def WFM (m : Nat) (ad : Nat → Nat) (h : HH) : Prop := (∀ K ∈ mvl, ad K ≠ m ∧ hB h ≤ ad K) ∧ (∀ K ∈ mvl, ∀ K' ∈ mvl, ad K = ad K' → K = K') ∧ hB h ≤ m
def rd (S : MS) (K : Nat) (i : Int32) : Option Int32 := if i < 0 ∨ mlen K ≤ i.toNatClampNeg then none else some (S.1 K i.toNatClampNeg)
def wr (S : MS) (K : Nat) (i x : Int32) : Option MS := if i < 0 ∨ mlen K ≤ i.toNatClampNeg then none else some (va_up S.1 K (upd (S.1 K) i.toNatClampNeg x), S.2)
def pgI (S : MS) (K : Nat) : Option Int32 := some (S.2.1 K)
def pgJ (S : MS) : Option Int64 := some S.2.2
def piI (S : MS) (K : Nat) (x : Int32) : Option MS := some (S.1, va_up S.2.1 K x, S.2.2)
def piJ (S : MS) (x : Int64) : Option MS := some (S.1, S.2.1, x)
def pb2 {α β σ : Type} (x : Option (α × σ)) (f : α → σ → Option β) : Option β := match x with
  | some (v, h) => f v h
  | none => none
theorem bind_map9 {α β γ : Type} (g : α → β) (x : Option α) (f : β → Option γ) : Option.bind (Option.map g x) f = Option.bind x fun a => f (g a) := by cases x <;> rfl
theorem b2_map9 {α β σ : Type} (g : σ → HH) (x : Option (α × σ)) (f : α → HH → Option β) : b2 (Option.map (fun q => (q.1, g q.2)) x) f = pb2 x fun v S => f v (g S) := by cases x <;> rfl
theorem map_bind9 {α β γ : Type} (g : β → γ) (x : Option α) (f : α → Option β) : Option.map g (Option.bind x f) = Option.bind x fun a => Option.map g (f a) := by cases x <;> rfl
theorem map_pb29 {α β γ σ : Type} (g : β → γ) (x : Option (α × σ)) (f : α → σ → Option β) : Option.map g (pb2 x f) = pb2 x fun v S => Option.map g (f v S) := by cases x <;> rfl
theorem map_ite9 {α β : Type} {c : Prop} [Decidable c] (g : α → β) (x y : Option α) : Option.map g (if c then x else y) = if c then Option.map g x else Option.map g y := by split <;> rfl
theorem bind_some9 {α β : Type} (x : α) (f : α → Option β) : Option.bind (some x) f = f x := rfl
theorem map_some9 {α β : Type} (g : α → β) (x : α) : Option.map g (some x) = some (g x) := rfl
theorem map_none9 {α β : Type} (g : α → β) : Option.map g none = none := rfl
theorem lp_map9 {σ σ' ρ ρ' : Type} {B : σ → Option (σ ⊕ ρ)} {B' : σ' → Option (σ' ⊕ ρ')} (e : σ' → σ) (r : ρ' → ρ) (hb : ∀ z, B (e z) = Option.map (Sum.map e r) (B' z)) : ∀ (n : Nat) (z : σ'), lp B n (e z) = Option.map r (lp B' n z)
  | 0, _ => rfl
  | n + 1, z => by
    unfold lp
    rw [hb z]
    cases B' z with
    | none => rfl
    | some o => cases o with
      | inl y => exact lp_map9 e r hb n y
      | inr y => rfl
section PM
variable {m : Nat} {ad : Nat → Nat} {h : HH}
theorem hF_pu_m (S : MS) : hF (pu m ad S h) m = some (.inr (1, objM ad S)) := by show (if m = m then _ else _) = _; rw [if_pos rfl]
theorem find_ad (W : WFM m ad h) {K : Nat} (hK : K ∈ mvl) : mvl.find? (fun K' => ad K' == ad K) = some K := by
  cases hf : mvl.find? (fun K' => ad K' == ad K) with
  | none => exact absurd (by simp) (List.find?_eq_none.mp hf K hK)
  | some K' =>
    have h1 : ad K' = ad K := by simpa using List.find?_some hf
    rw [W.2.1 K' (List.mem_of_find?_eq_some hf) K hK h1]
theorem hF_pu_a (W : WFM m ad h) (S : MS) {K : Nat} (hK : K ∈ mvl) : hF (pu m ad S h) (ad K) = some (.inl (0, mlen K, .inl (S.1 K))) := by
  show (if ad K = m then _ else _) = _
  rw [if_neg (W.1 K hK).1]
  simp only [find_ad W hK]
theorem hB_pu (S : MS) : hB (pu m ad S h) = hB h := rfl
theorem r_isO (S : MS) : isO (pu m ad S h) 1 (some m) = some m := by
  unfold isO
  simp only [hF_pu_m]
  rfl
theorem r_getV (S : MS) (K : Nat) : getV (pu m ad S h) 1 K (some m) = (objM ad S)[K]? := by
  unfold getV
  simp only [hF_pu_m]
  rfl
theorem r_getR0 (S : MS) : getR (pu m ad S h) 1 0 (some m) = some (some (ad 0)) := by unfold getR; rw [r_getV]; rfl
theorem r_getR1 (S : MS) : getR (pu m ad S h) 1 1 (some m) = some (some (ad 1)) := by unfold getR; rw [r_getV]; rfl
theorem r_getR2 (S : MS) : getR (pu m ad S h) 1 2 (some m) = some (some (ad 2)) := by unfold getR; rw [r_getV]; rfl
theorem r_getI3 (S : MS) : getI (pu m ad S h) 1 3 (some m) = pgI S 3 := by unfold getI; rw [r_getV]; rfl
theorem r_getR4 (S : MS) : getR (pu m ad S h) 1 4 (some m) = some (some (ad 4)) := by unfold getR; rw [r_getV]; rfl
theorem r_getI5 (S : MS) : getI (pu m ad S h) 1 5 (some m) = pgI S 5 := by unfold getI; rw [r_getV]; rfl
theorem r_getR6 (S : MS) : getR (pu m ad S h) 1 6 (some m) = some (some (ad 6)) := by unfold getR; rw [r_getV]; rfl
theorem r_getI7 (S : MS) : getI (pu m ad S h) 1 7 (some m) = pgI S 7 := by unfold getI; rw [r_getV]; rfl
theorem r_getI8 (S : MS) : getI (pu m ad S h) 1 8 (some m) = pgI S 8 := by unfold getI; rw [r_getV]; rfl
theorem r_getR9 (S : MS) : getR (pu m ad S h) 1 9 (some m) = some (some (ad 9)) := by unfold getR; rw [r_getV]; rfl
theorem r_getR10 (S : MS) : getR (pu m ad S h) 1 10 (some m) = some (some (ad 10)) := by unfold getR; rw [r_getV]; rfl
theorem r_getI11 (S : MS) : getI (pu m ad S h) 1 11 (some m) = pgI S 11 := by unfold getI; rw [r_getV]; rfl
theorem r_getJ (S : MS) : getJ (pu m ad S h) 1 12 (some m) = pgJ S := by unfold getJ; rw [r_getV]; rfl
theorem r_getR13 (S : MS) : getR (pu m ad S h) 1 13 (some m) = some (some (ad 13)) := by unfold getR; rw [r_getV]; rfl
theorem r_getR14 (S : MS) : getR (pu m ad S h) 1 14 (some m) = some (some (ad 14)) := by unfold getR; rw [r_getV]; rfl
theorem r_getR15 (S : MS) : getR (pu m ad S h) 1 15 (some m) = some (some (ad 15)) := by unfold getR; rw [r_getV]; rfl
theorem r_getI16 (S : MS) : getI (pu m ad S h) 1 16 (some m) = pgI S 16 := by unfold getI; rw [r_getV]; rfl
theorem r_getR17 (S : MS) : getR (pu m ad S h) 1 17 (some m) = some (some (ad 17)) := by unfold getR; rw [r_getV]; rfl
theorem r_getR18 (S : MS) : getR (pu m ad S h) 1 18 (some m) = some (some (ad 18)) := by unfold getR; rw [r_getV]; rfl
theorem r_getI19 (S : MS) : getI (pu m ad S h) 1 19 (some m) = pgI S 19 := by unfold getI; rw [r_getV]; rfl
theorem r_getI20 (S : MS) : getI (pu m ad S h) 1 20 (some m) = pgI S 20 := by unfold getI; rw [r_getV]; rfl
theorem r_getI21 (S : MS) : getI (pu m ad S h) 1 21 (some m) = pgI S 21 := by unfold getI; rw [r_getV]; rfl
theorem r_getI22 (S : MS) : getI (pu m ad S h) 1 22 (some m) = pgI S 22 := by unfold getI; rw [r_getV]; rfl
theorem r_getI23 (S : MS) : getI (pu m ad S h) 1 23 (some m) = pgI S 23 := by unfold getI; rw [r_getV]; rfl
theorem r_getI24 (S : MS) : getI (pu m ad S h) 1 24 (some m) = pgI S 24 := by unfold getI; rw [r_getV]; rfl
theorem r_getI25 (S : MS) : getI (pu m ad S h) 1 25 (some m) = pgI S 25 := by unfold getI; rw [r_getV]; rfl
theorem r_getI26 (S : MS) : getI (pu m ad S h) 1 26 (some m) = pgI S 26 := by unfold getI; rw [r_getV]; rfl
theorem r_getI27 (S : MS) : getI (pu m ad S h) 1 27 (some m) = pgI S 27 := by unfold getI; rw [r_getV]; rfl
theorem r_getI28 (S : MS) : getI (pu m ad S h) 1 28 (some m) = pgI S 28 := by unfold getI; rw [r_getV]; rfl
theorem r_putV (W : WFM m ad h) (S : MS) (K : Nat) (v : Value) (hK : K < 29) : putV (pu m ad S h) 1 K (some m) v = some (hset (pu m ad S h) m (.inr (1, (objM ad S).set K v))) := by
  unfold putV
  simp only [hF_pu_m]
  exact if_pos ⟨trivial, hK, W.2.2⟩
theorem pu_set_m (S : MS) (fs : List Value) (S' : MS) (h1 : S'.1 = S.1) (h2 : fs = objM ad S') : hset (pu m ad S h) m (.inr (1, fs)) = pu m ad S' h := by
  unfold hset pu
  simp only
  congr 3
  funext a
  simp only [va_up]
  by_cases ha : a = m
  · simp [ha, h2]
  · simp [ha, h1]
theorem r_putI3 (W : WFM m ad h) (S : MS) (x : Int32) : putV (pu m ad S h) 1 3 (some m) (.int x) = Option.map (fun S' => pu m ad S' h) (piI S 3 x) := by rw [r_putV W S 3 _ (by decide)]; exact congrArg some (pu_set_m S _ (S.1, va_up S.2.1 3 x, S.2.2) rfl rfl)
theorem r_putI5 (W : WFM m ad h) (S : MS) (x : Int32) : putV (pu m ad S h) 1 5 (some m) (.int x) = Option.map (fun S' => pu m ad S' h) (piI S 5 x) := by rw [r_putV W S 5 _ (by decide)]; exact congrArg some (pu_set_m S _ (S.1, va_up S.2.1 5 x, S.2.2) rfl rfl)
theorem r_putI7 (W : WFM m ad h) (S : MS) (x : Int32) : putV (pu m ad S h) 1 7 (some m) (.int x) = Option.map (fun S' => pu m ad S' h) (piI S 7 x) := by rw [r_putV W S 7 _ (by decide)]; exact congrArg some (pu_set_m S _ (S.1, va_up S.2.1 7 x, S.2.2) rfl rfl)
theorem r_putI8 (W : WFM m ad h) (S : MS) (x : Int32) : putV (pu m ad S h) 1 8 (some m) (.int x) = Option.map (fun S' => pu m ad S' h) (piI S 8 x) := by rw [r_putV W S 8 _ (by decide)]; exact congrArg some (pu_set_m S _ (S.1, va_up S.2.1 8 x, S.2.2) rfl rfl)
theorem r_putI11 (W : WFM m ad h) (S : MS) (x : Int32) : putV (pu m ad S h) 1 11 (some m) (.int x) = Option.map (fun S' => pu m ad S' h) (piI S 11 x) := by rw [r_putV W S 11 _ (by decide)]; exact congrArg some (pu_set_m S _ (S.1, va_up S.2.1 11 x, S.2.2) rfl rfl)
theorem r_putJ (W : WFM m ad h) (S : MS) (x : Int64) : putV (pu m ad S h) 1 12 (some m) (.long x) = Option.map (fun S' => pu m ad S' h) (piJ S x) := by rw [r_putV W S 12 _ (by decide)]; exact congrArg some (pu_set_m S _ (S.1, S.2.1, x) rfl rfl)
theorem r_putI16 (W : WFM m ad h) (S : MS) (x : Int32) : putV (pu m ad S h) 1 16 (some m) (.int x) = Option.map (fun S' => pu m ad S' h) (piI S 16 x) := by rw [r_putV W S 16 _ (by decide)]; exact congrArg some (pu_set_m S _ (S.1, va_up S.2.1 16 x, S.2.2) rfl rfl)
theorem r_putI19 (W : WFM m ad h) (S : MS) (x : Int32) : putV (pu m ad S h) 1 19 (some m) (.int x) = Option.map (fun S' => pu m ad S' h) (piI S 19 x) := by rw [r_putV W S 19 _ (by decide)]; exact congrArg some (pu_set_m S _ (S.1, va_up S.2.1 19 x, S.2.2) rfl rfl)
theorem r_putI20 (W : WFM m ad h) (S : MS) (x : Int32) : putV (pu m ad S h) 1 20 (some m) (.int x) = Option.map (fun S' => pu m ad S' h) (piI S 20 x) := by rw [r_putV W S 20 _ (by decide)]; exact congrArg some (pu_set_m S _ (S.1, va_up S.2.1 20 x, S.2.2) rfl rfl)
theorem r_putI21 (W : WFM m ad h) (S : MS) (x : Int32) : putV (pu m ad S h) 1 21 (some m) (.int x) = Option.map (fun S' => pu m ad S' h) (piI S 21 x) := by rw [r_putV W S 21 _ (by decide)]; exact congrArg some (pu_set_m S _ (S.1, va_up S.2.1 21 x, S.2.2) rfl rfl)
theorem r_putI22 (W : WFM m ad h) (S : MS) (x : Int32) : putV (pu m ad S h) 1 22 (some m) (.int x) = Option.map (fun S' => pu m ad S' h) (piI S 22 x) := by rw [r_putV W S 22 _ (by decide)]; exact congrArg some (pu_set_m S _ (S.1, va_up S.2.1 22 x, S.2.2) rfl rfl)
theorem r_putI23 (W : WFM m ad h) (S : MS) (x : Int32) : putV (pu m ad S h) 1 23 (some m) (.int x) = Option.map (fun S' => pu m ad S' h) (piI S 23 x) := by rw [r_putV W S 23 _ (by decide)]; exact congrArg some (pu_set_m S _ (S.1, va_up S.2.1 23 x, S.2.2) rfl rfl)
theorem r_putI24 (W : WFM m ad h) (S : MS) (x : Int32) : putV (pu m ad S h) 1 24 (some m) (.int x) = Option.map (fun S' => pu m ad S' h) (piI S 24 x) := by rw [r_putV W S 24 _ (by decide)]; exact congrArg some (pu_set_m S _ (S.1, va_up S.2.1 24 x, S.2.2) rfl rfl)
theorem r_putI25 (W : WFM m ad h) (S : MS) (x : Int32) : putV (pu m ad S h) 1 25 (some m) (.int x) = Option.map (fun S' => pu m ad S' h) (piI S 25 x) := by rw [r_putV W S 25 _ (by decide)]; exact congrArg some (pu_set_m S _ (S.1, va_up S.2.1 25 x, S.2.2) rfl rfl)
theorem r_putI26 (W : WFM m ad h) (S : MS) (x : Int32) : putV (pu m ad S h) 1 26 (some m) (.int x) = Option.map (fun S' => pu m ad S' h) (piI S 26 x) := by rw [r_putV W S 26 _ (by decide)]; exact congrArg some (pu_set_m S _ (S.1, va_up S.2.1 26 x, S.2.2) rfl rfl)
theorem r_putI27 (W : WFM m ad h) (S : MS) (x : Int32) : putV (pu m ad S h) 1 27 (some m) (.int x) = Option.map (fun S' => pu m ad S' h) (piI S 27 x) := by rw [r_putV W S 27 _ (by decide)]; exact congrArg some (pu_set_m S _ (S.1, va_up S.2.1 27 x, S.2.2) rfl rfl)
theorem r_putI28 (W : WFM m ad h) (S : MS) (x : Int32) : putV (pu m ad S h) 1 28 (some m) (.int x) = Option.map (fun S' => pu m ad S' h) (piI S 28 x) := by rw [r_putV W S 28 _ (by decide)]; exact congrArg some (pu_set_m S _ (S.1, va_up S.2.1 28 x, S.2.2) rfl rfl)
theorem r_aldI (W : WFM m ad h) (S : MS) {K : Nat} (hK : K ∈ mvl) (i : Int32) : aldI (pu m ad S h) 0 (some (ad K)) i = rd S K i := by
  unfold aldI aget rd
  simp only [hF_pu_a W S hK]
  by_cases hi : i < 0 ∨ mlen K ≤ i.toNatClampNeg
  · simp [hi]
  · simp [hi]
theorem r_astI (W : WFM m ad h) (S : MS) {K : Nat} (hK : K ∈ mvl) (i x : Int32) : astI (pu m ad S h) (some (ad K)) i x = Option.map (fun S' => pu m ad S' h) (wr S K i x) := by
  unfold astI aget wr
  simp only [hF_pu_a W S hK]
  by_cases hi : i < 0 ∨ mlen K ≤ i.toNatClampNeg
  · simp [hi]
  · have hb : hB (pu m ad S h) ≤ ad K := (W.1 K hK).2
    simp [hi, hb]
    unfold hset pu
    simp only
    congr 3
    funext a
    simp only [va_up]
    by_cases ha : a = ad K
    · subst ha
      simp [(W.1 K hK).1, find_ad W hK]
    · by_cases hm : a = m
      · simp [hm, ha, Ne.symm (W.1 K hK).1, objM]
      · simp only [ha, hm, if_false]
        cases hf : mvl.find? (fun K' => ad K' == a) with
        | none => rfl
        | some K' =>
          have h7 : ad K' = a := by simpa using List.find?_some hf
          have hne : K' ≠ K := fun e => ha (by rw [← e]; exact h7.symm)
          simp [hne]
end PM
