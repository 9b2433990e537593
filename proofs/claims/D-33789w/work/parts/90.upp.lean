/-! bounds from above: U for each told bound on a way, of which there are three at most -/
def ladd (a b : Nat) : Nat := if a = 9 ∨ b = 9 then 9 else a + b
def lmin (a b : Nat) : Nat := if b < a then b else a
def lst (k c : Nat) (L : List Nat) : List Nat := L.set c (lmin (L.getD c 9) (ladd (L.getD (4 * (c / 4) + k) 9) (L.getD (4 * k + c % 4) 9)))
def lok (L : List Nat) : Bool := L.all fun x => decide (x ≤ 3 ∨ x = 9)
def lgo : List (Nat × Nat) → List Nat → Bool
  | [], _ => true
  | q :: r, L => let L' := lst q.1 q.2 L; lok L' && lgo r L'
def stpR (k c : Nat) : List (Nat × Nat) := (List.range c).map fun j => (k, j)
def stpA : Nat → List (Nat × Nat)
  | 0 => []
  | k + 1 => stpA k ++ stpR k 16
def ofold (l : List (Nat × Nat)) (D : OD) : OD := l.foldl (fun D q => ost q.1 q.2 D) D
def lfold (l : List (Nat × Nat)) (L : List Nat) : List Nat := l.foldl (fun L q => lst q.1 q.2 L) L
theorem orow_fold (k : Nat) (D : OD) : ∀ c, orow k D c = ofold (stpR k c) D
  | 0 => rfl
  | c + 1 => by
    unfold orow stpR ofold
    rw [orow_fold k D c, List.range_succ, List.map_append, List.foldl_append]
    rfl
theorem otl_fold (D : OD) : ∀ k, otl D k = ofold (stpA k) D
  | 0 => rfl
  | k + 1 => by
    unfold otl stpA ofold
    rw [otl_fold D k, orow_fold, List.foldl_append]
    rfl
def UB (U : Int) (D : OD) (L : List Nat) : Prop := L.length = 16 ∧ ∀ i, i < 16 → (D i = none → L.getD i 9 = 9) ∧ ∀ t, D i = some t → L.getD i 9 ≤ 3 ∧ t ≤ U * (L.getD i 9 : Int)
theorem lok_get {L : List Nat} (h : lok L = true) {i : Nat} (hi : i < L.length) : L.getD i 9 ≤ 3 ∨ L.getD i 9 = 9 := by
  have h1 := List.all_eq_true.mp h (L[i]) (List.getElem_mem hi)
  have h2 : L.getD i 9 = L[i] := by simp [List.getD, hi]
  rw [h2]
  simpa using h1
theorem UB_step {U : Int} {D : OD} {L : List Nat} (h : UB U D L) {k c : Nat} (hk : k < 4) (hc : c < 16) (ho : lok (lst k c L) = true) : UB U (ost k c D) (lst k c L) := by
  obtain ⟨hl, h⟩ := h
  have hl' : (lst k c L).length = 16 := by unfold lst; rw [List.length_set]; exact hl
  refine ⟨hl', fun i hi => ?_⟩
  by_cases e : i = c
  · subst e
    have e2 : ost k i D i = omin (D i) (oadd (D (4 * (i / 4) + k)) (D (4 * k + i % 4))) := by simp [ost, va_up]
    have e3 : (lst k i L).getD i 9 = lmin (L.getD i 9) (ladd (L.getD (4 * (i / 4) + k) 9) (L.getD (4 * k + i % 4) 9)) := by
      unfold lst
      simp [List.getD, hl, hi]
    have hok := lok_get ho (i := i) (by rw [hl']; exact hi)
    obtain ⟨i1, i2⟩ := h i hi
    obtain ⟨a1, a2⟩ := h (4 * (i / 4) + k) (by omega)
    obtain ⟨b1, b2'⟩ := h (4 * k + i % 4) (by omega)
    rw [e2]
    rw [e3] at hok ⊢
    generalize L.getD i 9 = x at *
    generalize L.getD (4 * (i / 4) + k) 9 = y at *
    generalize L.getD (4 * k + i % 4) 9 = z at *
    cases hA : D i with
    | none =>
      have x9 := i1 hA
      subst x9
      cases hX : D (4 * (i / 4) + k) with
      | none =>
        have y9 := a1 hX
        subst y9
        exact ⟨fun _ => by simp [ladd, lmin], fun t ht => by cases ht⟩
      | some p =>
        cases hY : D (4 * k + i % 4) with
        | none =>
          have z9 := b1 hY
          subst z9
          exact ⟨fun _ => by simp [ladd, lmin], fun t ht => by cases ht⟩
        | some q =>
          obtain ⟨y3, yt⟩ := a2 p hX
          obtain ⟨z3, zt⟩ := b2' q hY
          have e5 : ladd y z = y + z := by unfold ladd; rw [if_neg (by omega)]
          have e4 : lmin 9 (ladd y z) = y + z := by rw [e5]; unfold lmin; rw [if_pos (by omega)]
          rw [e4] at hok ⊢
          refine ⟨fun hn => (by cases hn), fun t ht => ?_⟩
          have ht : some (p + q) = some t := ht
          cases ht
          exact ⟨by omega, by rw [Int.natCast_add, Int.mul_add]; omega⟩
    | some a =>
      obtain ⟨x3, xt⟩ := i2 a hA
      cases hX : D (4 * (i / 4) + k) with
      | none =>
        have y9 := a1 hX
        subst y9
        have e4 : lmin x (ladd 9 z) = x := by rw [show ladd 9 z = 9 by simp [ladd]]; unfold lmin; rw [if_neg (by omega)]
        rw [e4]
        refine ⟨fun hn => (by cases hn), fun t ht => ?_⟩
        have ht : some a = some t := ht
        cases ht
        exact ⟨x3, xt⟩
      | some p =>
        cases hY : D (4 * k + i % 4) with
        | none =>
          have z9 := b1 hY
          subst z9
          have e4 : lmin x (ladd y 9) = x := by rw [show ladd y 9 = 9 by simp [ladd]]; unfold lmin; rw [if_neg (by omega)]
          rw [e4]
          refine ⟨fun hn => (by cases hn), fun t ht => ?_⟩
          have ht : some a = some t := ht
          cases ht
          exact ⟨x3, xt⟩
        | some q =>
          obtain ⟨y3, yt⟩ := a2 p hX
          obtain ⟨z3, zt⟩ := b2' q hY
          refine ⟨fun hn => (by cases hn), fun t ht => ?_⟩
          have ht : some (if p + q < a then p + q else a) = some t := ht
          have ht := Option.some.inj ht
          have hle1 : t ≤ a := by rw [← ht]; split <;> omega
          have hle2 : t ≤ p + q := by rw [← ht]; split <;> omega
          have e5 : ladd y z = y + z := by unfold ladd; rw [if_neg (by omega)]
          rw [e5]
          unfold lmin
          split
          · exact ⟨by omega, by rw [Int.natCast_add, Int.mul_add]; omega⟩
          · exact ⟨x3, by omega⟩
  · have e2 : ost k c D i = D i := by simp [ost, va_up, e]
    have e3 : (lst k c L).getD i 9 = L.getD i 9 := by
      unfold lst
      simp [List.getD, List.getElem?_set, Ne.symm e]
    rw [e2, e3]
    exact h i hi
theorem UB_fold {U : Int} : ∀ (l : List (Nat × Nat)) (D : OD) (L : List Nat), (∀ q ∈ l, q.1 < 4 ∧ q.2 < 16) → UB U D L → lgo l L = true → UB U (ofold l D) (lfold l L)
  | [], _, _, _, h, _ => h
  | q :: r, D, L, hq, h, hg => by
    have hg : (lok (lst q.1 q.2 L) && lgo r (lst q.1 q.2 L)) = true := hg
    obtain ⟨g1, g2⟩ := Bool.and_eq_true_iff.mp hg
    obtain ⟨q1, q2⟩ := hq q List.mem_cons_self
    exact UB_fold r _ _ (fun x hx => hq x (List.mem_cons_of_mem _ hx)) (UB_step h q1 q2 g1) g2
theorem lgo_pre : ∀ (l1 l2 : List (Nat × Nat)) (L : List Nat), lgo (l1 ++ l2) L = true → lgo l1 L = true
  | [], _, _, _ => rfl
  | q :: r, l2, L, h => by
    have h : (lok (lst q.1 q.2 L) && lgo (r ++ l2) (lst q.1 q.2 L)) = true := h
    obtain ⟨g1, g2⟩ := Bool.and_eq_true_iff.mp h
    show (lok (lst q.1 q.2 L) && lgo r (lst q.1 q.2 L)) = true
    rw [g1, lgo_pre r l2 _ g2]
    rfl
def lw9 (b : Bool) : Nat := if b then 1 else 9
def pat (D : OD) : List Nat := [0, lw9 (D 1).isSome, lw9 (D 2).isSome, lw9 (D 3).isSome, lw9 (D 4).isSome, 0, lw9 (D 6).isSome, lw9 (D 7).isSome, lw9 (D 8).isSome, lw9 (D 9).isSome, 0, lw9 (D 11).isSome, 1, 1, 1, 0]
