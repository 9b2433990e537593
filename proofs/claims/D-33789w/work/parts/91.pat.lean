/-! the check over all patterns of bounds that are there, evaluated strictly -/
def frc (n : Nat) (f : Nat → Bool) : Bool := match n with
  | 0 => f 0
  | m + 1 => f (m + 1)
theorem frc_eq (n : Nat) (f : Nat → Bool) : frc n f = f n := by cases n <;> rfl
def frcL : List Nat → (List Nat → Bool) → Bool
  | [], f => f []
  | x :: r, f => frc x fun x' => frcL r fun r' => f (x' :: r')
theorem frcL_eq : ∀ (L : List Nat) (f : List Nat → Bool), frcL L f = f L
  | [], _ => rfl
  | x :: r, f => by
    unfold frcL
    rw [frc_eq, frcL_eq r]
def lgoS : List (Nat × Nat) → List Nat → Bool
  | [], _ => true
  | q :: r, L => frcL (lst q.1 q.2 L) fun L' => lok L' && lgoS r L'
theorem lgoS_eq : ∀ (l : List (Nat × Nat)) (L : List Nat), lgoS l L = lgo l L
  | [], _ => rfl
  | q :: r, L => by
    unfold lgoS lgo
    rw [frcL_eq, lgoS_eq r]
theorem lgo_q0 : ∀ b6 b7 b8 b9 : Bool, lgoS (stpA 4) [0, lw9 false, lw9 false, lw9 false, lw9 false, 0, lw9 false, lw9 b6, lw9 b7, lw9 b8, 0, lw9 b9, 1, 1, 1, 0] = true := by decide +kernel
theorem lgo_q1 : ∀ b6 b7 b8 b9 : Bool, lgoS (stpA 4) [0, lw9 true, lw9 false, lw9 false, lw9 false, 0, lw9 false, lw9 b6, lw9 b7, lw9 b8, 0, lw9 b9, 1, 1, 1, 0] = true := by decide +kernel
theorem lgo_q2 : ∀ b6 b7 b8 b9 : Bool, lgoS (stpA 4) [0, lw9 false, lw9 true, lw9 false, lw9 false, 0, lw9 false, lw9 b6, lw9 b7, lw9 b8, 0, lw9 b9, 1, 1, 1, 0] = true := by decide +kernel
theorem lgo_q3 : ∀ b6 b7 b8 b9 : Bool, lgoS (stpA 4) [0, lw9 true, lw9 true, lw9 false, lw9 false, 0, lw9 false, lw9 b6, lw9 b7, lw9 b8, 0, lw9 b9, 1, 1, 1, 0] = true := by decide +kernel
theorem lgo_q4 : ∀ b6 b7 b8 b9 : Bool, lgoS (stpA 4) [0, lw9 false, lw9 false, lw9 true, lw9 false, 0, lw9 false, lw9 b6, lw9 b7, lw9 b8, 0, lw9 b9, 1, 1, 1, 0] = true := by decide +kernel
theorem lgo_q5 : ∀ b6 b7 b8 b9 : Bool, lgoS (stpA 4) [0, lw9 true, lw9 false, lw9 true, lw9 false, 0, lw9 false, lw9 b6, lw9 b7, lw9 b8, 0, lw9 b9, 1, 1, 1, 0] = true := by decide +kernel
theorem lgo_q6 : ∀ b6 b7 b8 b9 : Bool, lgoS (stpA 4) [0, lw9 false, lw9 true, lw9 true, lw9 false, 0, lw9 false, lw9 b6, lw9 b7, lw9 b8, 0, lw9 b9, 1, 1, 1, 0] = true := by decide +kernel
theorem lgo_q7 : ∀ b6 b7 b8 b9 : Bool, lgoS (stpA 4) [0, lw9 true, lw9 true, lw9 true, lw9 false, 0, lw9 false, lw9 b6, lw9 b7, lw9 b8, 0, lw9 b9, 1, 1, 1, 0] = true := by decide +kernel
theorem lgo_q8 : ∀ b6 b7 b8 b9 : Bool, lgoS (stpA 4) [0, lw9 false, lw9 false, lw9 false, lw9 true, 0, lw9 false, lw9 b6, lw9 b7, lw9 b8, 0, lw9 b9, 1, 1, 1, 0] = true := by decide +kernel
theorem lgo_q9 : ∀ b6 b7 b8 b9 : Bool, lgoS (stpA 4) [0, lw9 true, lw9 false, lw9 false, lw9 true, 0, lw9 false, lw9 b6, lw9 b7, lw9 b8, 0, lw9 b9, 1, 1, 1, 0] = true := by decide +kernel
theorem lgo_q10 : ∀ b6 b7 b8 b9 : Bool, lgoS (stpA 4) [0, lw9 false, lw9 true, lw9 false, lw9 true, 0, lw9 false, lw9 b6, lw9 b7, lw9 b8, 0, lw9 b9, 1, 1, 1, 0] = true := by decide +kernel
theorem lgo_q11 : ∀ b6 b7 b8 b9 : Bool, lgoS (stpA 4) [0, lw9 true, lw9 true, lw9 false, lw9 true, 0, lw9 false, lw9 b6, lw9 b7, lw9 b8, 0, lw9 b9, 1, 1, 1, 0] = true := by decide +kernel
theorem lgo_q12 : ∀ b6 b7 b8 b9 : Bool, lgoS (stpA 4) [0, lw9 false, lw9 false, lw9 true, lw9 true, 0, lw9 false, lw9 b6, lw9 b7, lw9 b8, 0, lw9 b9, 1, 1, 1, 0] = true := by decide +kernel
theorem lgo_q13 : ∀ b6 b7 b8 b9 : Bool, lgoS (stpA 4) [0, lw9 true, lw9 false, lw9 true, lw9 true, 0, lw9 false, lw9 b6, lw9 b7, lw9 b8, 0, lw9 b9, 1, 1, 1, 0] = true := by decide +kernel
theorem lgo_q14 : ∀ b6 b7 b8 b9 : Bool, lgoS (stpA 4) [0, lw9 false, lw9 true, lw9 true, lw9 true, 0, lw9 false, lw9 b6, lw9 b7, lw9 b8, 0, lw9 b9, 1, 1, 1, 0] = true := by decide +kernel
theorem lgo_q15 : ∀ b6 b7 b8 b9 : Bool, lgoS (stpA 4) [0, lw9 true, lw9 true, lw9 true, lw9 true, 0, lw9 false, lw9 b6, lw9 b7, lw9 b8, 0, lw9 b9, 1, 1, 1, 0] = true := by decide +kernel
theorem lgo_q16 : ∀ b6 b7 b8 b9 : Bool, lgoS (stpA 4) [0, lw9 false, lw9 false, lw9 false, lw9 false, 0, lw9 true, lw9 b6, lw9 b7, lw9 b8, 0, lw9 b9, 1, 1, 1, 0] = true := by decide +kernel
theorem lgo_q17 : ∀ b6 b7 b8 b9 : Bool, lgoS (stpA 4) [0, lw9 true, lw9 false, lw9 false, lw9 false, 0, lw9 true, lw9 b6, lw9 b7, lw9 b8, 0, lw9 b9, 1, 1, 1, 0] = true := by decide +kernel
theorem lgo_q18 : ∀ b6 b7 b8 b9 : Bool, lgoS (stpA 4) [0, lw9 false, lw9 true, lw9 false, lw9 false, 0, lw9 true, lw9 b6, lw9 b7, lw9 b8, 0, lw9 b9, 1, 1, 1, 0] = true := by decide +kernel
theorem lgo_q19 : ∀ b6 b7 b8 b9 : Bool, lgoS (stpA 4) [0, lw9 true, lw9 true, lw9 false, lw9 false, 0, lw9 true, lw9 b6, lw9 b7, lw9 b8, 0, lw9 b9, 1, 1, 1, 0] = true := by decide +kernel
theorem lgo_q20 : ∀ b6 b7 b8 b9 : Bool, lgoS (stpA 4) [0, lw9 false, lw9 false, lw9 true, lw9 false, 0, lw9 true, lw9 b6, lw9 b7, lw9 b8, 0, lw9 b9, 1, 1, 1, 0] = true := by decide +kernel
theorem lgo_q21 : ∀ b6 b7 b8 b9 : Bool, lgoS (stpA 4) [0, lw9 true, lw9 false, lw9 true, lw9 false, 0, lw9 true, lw9 b6, lw9 b7, lw9 b8, 0, lw9 b9, 1, 1, 1, 0] = true := by decide +kernel
theorem lgo_q22 : ∀ b6 b7 b8 b9 : Bool, lgoS (stpA 4) [0, lw9 false, lw9 true, lw9 true, lw9 false, 0, lw9 true, lw9 b6, lw9 b7, lw9 b8, 0, lw9 b9, 1, 1, 1, 0] = true := by decide +kernel
theorem lgo_q23 : ∀ b6 b7 b8 b9 : Bool, lgoS (stpA 4) [0, lw9 true, lw9 true, lw9 true, lw9 false, 0, lw9 true, lw9 b6, lw9 b7, lw9 b8, 0, lw9 b9, 1, 1, 1, 0] = true := by decide +kernel
theorem lgo_q24 : ∀ b6 b7 b8 b9 : Bool, lgoS (stpA 4) [0, lw9 false, lw9 false, lw9 false, lw9 true, 0, lw9 true, lw9 b6, lw9 b7, lw9 b8, 0, lw9 b9, 1, 1, 1, 0] = true := by decide +kernel
theorem lgo_q25 : ∀ b6 b7 b8 b9 : Bool, lgoS (stpA 4) [0, lw9 true, lw9 false, lw9 false, lw9 true, 0, lw9 true, lw9 b6, lw9 b7, lw9 b8, 0, lw9 b9, 1, 1, 1, 0] = true := by decide +kernel
theorem lgo_q26 : ∀ b6 b7 b8 b9 : Bool, lgoS (stpA 4) [0, lw9 false, lw9 true, lw9 false, lw9 true, 0, lw9 true, lw9 b6, lw9 b7, lw9 b8, 0, lw9 b9, 1, 1, 1, 0] = true := by decide +kernel
theorem lgo_q27 : ∀ b6 b7 b8 b9 : Bool, lgoS (stpA 4) [0, lw9 true, lw9 true, lw9 false, lw9 true, 0, lw9 true, lw9 b6, lw9 b7, lw9 b8, 0, lw9 b9, 1, 1, 1, 0] = true := by decide +kernel
theorem lgo_q28 : ∀ b6 b7 b8 b9 : Bool, lgoS (stpA 4) [0, lw9 false, lw9 false, lw9 true, lw9 true, 0, lw9 true, lw9 b6, lw9 b7, lw9 b8, 0, lw9 b9, 1, 1, 1, 0] = true := by decide +kernel
theorem lgo_q29 : ∀ b6 b7 b8 b9 : Bool, lgoS (stpA 4) [0, lw9 true, lw9 false, lw9 true, lw9 true, 0, lw9 true, lw9 b6, lw9 b7, lw9 b8, 0, lw9 b9, 1, 1, 1, 0] = true := by decide +kernel
theorem lgo_q30 : ∀ b6 b7 b8 b9 : Bool, lgoS (stpA 4) [0, lw9 false, lw9 true, lw9 true, lw9 true, 0, lw9 true, lw9 b6, lw9 b7, lw9 b8, 0, lw9 b9, 1, 1, 1, 0] = true := by decide +kernel
theorem lgo_q31 : ∀ b6 b7 b8 b9 : Bool, lgoS (stpA 4) [0, lw9 true, lw9 true, lw9 true, lw9 true, 0, lw9 true, lw9 b6, lw9 b7, lw9 b8, 0, lw9 b9, 1, 1, 1, 0] = true := by decide +kernel
theorem lgo_pat : ∀ b1 b2 b3 b4 b5 b6 b7 b8 b9 : Bool, lgoS (stpA 4) [0, lw9 b1, lw9 b2, lw9 b3, lw9 b4, 0, lw9 b5, lw9 b6, lw9 b7, lw9 b8, 0, lw9 b9, 1, 1, 1, 0] = true
  | false, false, false, false, false => lgo_q0
  | true, false, false, false, false => lgo_q1
  | false, true, false, false, false => lgo_q2
  | true, true, false, false, false => lgo_q3
  | false, false, true, false, false => lgo_q4
  | true, false, true, false, false => lgo_q5
  | false, true, true, false, false => lgo_q6
  | true, true, true, false, false => lgo_q7
  | false, false, false, true, false => lgo_q8
  | true, false, false, true, false => lgo_q9
  | false, true, false, true, false => lgo_q10
  | true, true, false, true, false => lgo_q11
  | false, false, true, true, false => lgo_q12
  | true, false, true, true, false => lgo_q13
  | false, true, true, true, false => lgo_q14
  | true, true, true, true, false => lgo_q15
  | false, false, false, false, true => lgo_q16
  | true, false, false, false, true => lgo_q17
  | false, true, false, false, true => lgo_q18
  | true, true, false, false, true => lgo_q19
  | false, false, true, false, true => lgo_q20
  | true, false, true, false, true => lgo_q21
  | false, true, true, false, true => lgo_q22
  | true, true, true, false, true => lgo_q23
  | false, false, false, true, true => lgo_q24
  | true, false, false, true, true => lgo_q25
  | false, true, false, true, true => lgo_q26
  | true, true, false, true, true => lgo_q27
  | false, false, true, true, true => lgo_q28
  | true, false, true, true, true => lgo_q29
  | false, true, true, true, true => lgo_q30
  | true, true, true, true, true => lgo_q31
theorem pat_ok (D : OD) : lgo (stpA 4) (pat D) = true := by
  rw [← lgoS_eq]
  exact lgo_pat _ _ _ _ _ _ _ _ _
