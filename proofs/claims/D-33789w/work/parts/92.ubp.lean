/-! a told row of bounds at the start -/
theorem ub_w {U : Int} {x : Option Int} (hu : ∀ t, x = some t → t ≤ U) : (x = none → lw9 x.isSome = 9) ∧ ∀ t, x = some t → lw9 x.isSome ≤ 3 ∧ t ≤ U * (lw9 x.isSome : Int) := by
  cases x with
  | none => exact ⟨fun _ => rfl, fun t h => by cases h⟩
  | some s =>
    refine ⟨fun h => (by cases h), fun t h => ⟨show (1 : Nat) ≤ 3 by decide, ?_⟩⟩
    have := hu t h
    show t ≤ U * ((1 : Nat) : Int)
    omega
theorem ub_0 {U : Int} {x : Option Int} (h0 : x = some 0) : (x = none → (0 : Nat) = 9) ∧ ∀ t, x = some t → (0 : Nat) ≤ 3 ∧ t ≤ U * ((0 : Nat) : Int) := by
  subst h0
  exact ⟨fun h => (by cases h), fun t h => ⟨by decide, by cases h; show (0 : Int) ≤ U * 0; rw [Int.mul_zero]; exact Int.le_refl 0⟩⟩
theorem ub_1 {U : Int} {x : Option Int} (h0 : ∃ t, x = some t) (hu : ∀ t, x = some t → t ≤ U) : (x = none → (1 : Nat) = 9) ∧ ∀ t, x = some t → (1 : Nat) ≤ 3 ∧ t ≤ U * ((1 : Nat) : Int) := by
  obtain ⟨s, rfl⟩ := h0
  exact ⟨fun h => (by cases h), fun t h => ⟨by decide, by have := hu t h; omega⟩⟩
theorem UB_pat {U : Int} {D : OD} (hd : ∀ k, k < 4 → D (5 * k) = some 0) (h3 : ∀ j, j < 3 → ∃ t, D (12 + j) = some t) (hu : ∀ i, i < 16 → ∀ t, D i = some t → t ≤ U) : UB U D (pat D) := by
  refine ⟨rfl, fun i hi => ?_⟩
  match i, hi with
  | 0, _ => exact ub_0 (hd 0 (by decide))
  | 1, _ => exact ub_w (hu 1 (by decide))
  | 2, _ => exact ub_w (hu 2 (by decide))
  | 3, _ => exact ub_w (hu 3 (by decide))
  | 4, _ => exact ub_w (hu 4 (by decide))
  | 5, _ => exact ub_0 (hd 1 (by decide))
  | 6, _ => exact ub_w (hu 6 (by decide))
  | 7, _ => exact ub_w (hu 7 (by decide))
  | 8, _ => exact ub_w (hu 8 (by decide))
  | 9, _ => exact ub_w (hu 9 (by decide))
  | 10, _ => exact ub_0 (hd 2 (by decide))
  | 11, _ => exact ub_w (hu 11 (by decide))
  | 12, _ => exact ub_1 (h3 0 (by decide)) (hu 12 (by decide))
  | 13, _ => exact ub_1 (h3 1 (by decide)) (hu 13 (by decide))
  | 14, _ => exact ub_1 (h3 2 (by decide)) (hu 14 (by decide))
  | 15, _ => exact ub_0 (hd 3 (by decide))
  | n + 16, h => exact absurd h (by omega)

/-! tightening keeps what both sides' rows stand for -/
theorem stp_take : ∀ k, k < 4 → ∀ c, c < 17 → stpA k ++ stpR k c = (stpA 4).take (16 * k + c) := by decide +kernel
theorem stp_in : ∀ q ∈ stpA 4, q.1 < 4 ∧ q.2 < 16 := by decide +kernel
theorem orow_up {U : Int} (hU : 0 ≤ U) {D : OD} (hd : ∀ k, k < 4 → D (5 * k) = some 0) (h3 : ∀ j, j < 3 → ∃ t, D (12 + j) = some t) (hu : ∀ i, i < 16 → ∀ t, D i = some t → t ≤ U) {k c : Nat} (hk : k < 4) (hc : c < 17) : ∀ i, i < 16 → ∀ t, orow k (otl D k) c i = some t → t ≤ 3 * U := by
  have e : orow k (otl D k) c = ofold (stpA k ++ stpR k c) D := by
    rw [orow_fold, otl_fold]
    unfold ofold
    rw [List.foldl_append]
  have g1 := lgo_pre (stpA k ++ stpR k c) ((stpA 4).drop (16 * k + c)) (pat D) (by rw [stp_take k hk c hc, List.take_append_drop]; exact pat_ok D)
  have g2 := UB_fold (stpA k ++ stpR k c) D (pat D) (fun q hq => by rw [stp_take k hk c hc] at hq; exact stp_in q (List.mem_of_mem_take hq)) (UB_pat hd h3 hu) g1
  intro i hi t ht
  rw [e] at ht
  obtain ⟨h1, h2⟩ := (g2.2 i hi).2 t ht
  generalize (lfold (stpA k ++ stpR k c) (pat D)).getD i 9 = n at h1 h2
  have h4 : U * (n : Int) ≤ U * 3 := Int.mul_le_mul_of_nonneg_left (by omega) hU
  omega
theorem otl_up {U : Int} (hU : 0 ≤ U) {D : OD} (hd : ∀ k, k < 4 → D (5 * k) = some 0) (h3 : ∀ j, j < 3 → ∃ t, D (12 + j) = some t) (hu : ∀ i, i < 16 → ∀ t, D i = some t → t ≤ U) : ∀ i, i < 16 → ∀ t, otl D 4 i = some t → t ≤ 3 * U :=
  orow_up hU hd h3 hu (k := 3) (c := 16) (by decide) (by decide)
theorem pow6 : ∀ k, k < 4 → (6 : Int) ^ k ≤ 216 := by decide
theorem rep_gtl {N : Int32} (hN : 9999 ≤ N.toInt) {d : ZS} {D : OD} (h : rep N d D) (hd : ∀ k, k < 4 → D (5 * k) = some 0) (h3 : ∀ j, j < 3 → ∃ t, D (12 + j) = some t) (hu : ∀ i, i < 16 → ∀ t, D i = some t → -70000 ≤ t ∧ t ≤ 3300) : rep N (gtl N d 4) (otl D 4) := by
  have up := fun k (hk : k < 4) c (hc : c < 17) => orow_up (U := 3300) (by decide) hd h3 (fun i hi t ht => (hu i hi t ht).2) hk hc
  have lo := fun k (hk : k ≤ 4) => lo_all (m := -70000) (by decide) (fun i hi t ht => (hu i hi t ht).1) k hk
  have inner : ∀ k, k < 4 → rep N (gtl N d k) (otl D k) → ∀ c, c ≤ 16 → rep N (grow N k (gtl N d k) c) (orow k (otl D k) c) := fun k hk h0 c => by
    induction c with
    | zero => exact fun _ => h0
    | succ c ih =>
      intro hc
      refine rep_gst hN (ih (by omega)) hk (by omega) (fun i hi t ht => ?_) (fun t ht => ?_)
      · have h1 := lo_row (m := 6 ^ k * -70000) (by
          have : (0 : Int) ≤ 6 ^ k := Int.pow_nonneg (by decide)
          omega) hk (lo k (by omega)) (c := c) (by omega) i hi t ht
        have h2 := pow6 k hk
        omega
      · have := up k hk (c + 1) (by omega) c (by omega) t ht
        omega
  have all : ∀ k, k ≤ 4 → rep N (gtl N d k) (otl D k) := fun k => by
    induction k with
    | zero => exact fun _ => h
    | succ k ih => exact fun hk => inner k (by omega) (ih (by omega)) 16 (Nat.le_refl _)
  exact all 4 (Nat.le_refl _)
