/-! the two divisions make no NaN -/
theorem f32_rr (s : Bool) (num den : Nat) (e : Int) : (∃ t, FP.Core.roundRatio FP.Core.b32 s num den e = .inf t) ∨ ∃ t c q, FP.Core.roundRatio FP.Core.b32 s num den e = .fin t c q ∧ c < 16777216 ∧ (-149 : Int) ≤ q ∧ q ≤ 104 := by
  have qm : FP.Core.b32.qmin = -149 := by decide
  have qx : FP.Core.b32.qmax = 104 := by decide
  have tl : FP.Core.b32.tails = 8388608 := by decide
  have pp : 2 ^ FP.Core.b32.p = 16777216 := by decide
  unfold FP.Core.roundRatio
  by_cases h : num = 0
  · rw [if_pos h]
    exact Or.inr ⟨s, 0, _, rfl, by decide, by rw [qm]; decide, by rw [qm]; decide⟩
  · rw [if_neg h]
    have hq : (-149 : Int) ≤ FP.Core.quantum FP.Core.b32 num den e := by
      unfold FP.Core.quantum
      rw [qm]
      exact Int.le_max_left _ _
    unfold FP.Core.roundAt FP.Core.settle FP.Core.bound
    rw [pp, qx, tl]
    split
    · split
      · rename_i h1 h2
        exact Or.inr ⟨s, _, _, rfl, h1, hq, h2⟩
      · exact Or.inl ⟨s, rfl⟩
    · split
      · rename_i h1 h2
        exact Or.inr ⟨s, _, _, rfl, by decide, by omega, h2⟩
      · exact Or.inl ⟨s, rfl⟩
theorem f32_asm (s : Bool) {E T : Nat} (h : (E < 255 ∧ T < 8388608) ∨ (E = 255 ∧ T = 0)) : FP.Core.assemble FP.Core.b32 s E T % 2147483648 ≤ 2139095040 := by
  have tl : FP.Core.b32.tails = 8388608 := by decide
  have ex : FP.Core.b32.exps = 256 := by decide
  unfold FP.Core.assemble
  rw [tl, ex]
  cases s
  · rw [show Bool.toNat false = 0 from rfl]
    omega
  · rw [show Bool.toNat true = 1 from rfl]
    omega
theorem f32_enc (d : FP.Core.Datum) (h : (∃ t, d = .inf t) ∨ ∃ t c q, d = .fin t c q ∧ c < 16777216 ∧ (-149 : Int) ≤ q ∧ q ≤ 104) : FP.Core.encode FP.Core.b32 d % 2147483648 ≤ 2139095040 := by
  have tl : FP.Core.b32.tails = 8388608 := by decide
  have ex : FP.Core.b32.exps = 256 := by decide
  have qm : FP.Core.b32.qmin = -149 := by decide
  rcases h with ⟨t, rfl⟩ | ⟨t, c, q, rfl, h1, h2, h3⟩
  · unfold FP.Core.encode
    rw [ex]
    exact f32_asm t (Or.inr ⟨rfl, rfl⟩)
  · unfold FP.Core.encode
    simp only
    rw [tl, qm]
    split
    · exact f32_asm t (Or.inl ⟨by decide, by assumption⟩)
    · exact f32_asm t (Or.inl ⟨by omega, by omega⟩)
theorem f32_dec {n : Nat} (h : n % 2147483648 ≤ 2139095040) : FP.Core.decode FP.Core.b32 n ≠ .nan := by
  have tl : FP.Core.b32.tails = 8388608 := by decide
  have ex : FP.Core.b32.exps = 256 := by decide
  unfold FP.Core.decode FP.Core.fieldE FP.Core.fieldT
  rw [tl, ex]
  split
  · split
    · exact fun q => by cases q
    · exfalso
      omega
  · split
    · exact fun q => by cases q
    · exact fun q => by cases q
theorem f32_int (i : Int) : FP.Core.fromInt FP.Core.b32 i % 2147483648 ≤ 2139095040 := f32_enc _ (f32_rr _ _ _ _)
theorem f32_and (n : Nat) (h : n % 2147483648 ≤ 2139095040) : (UInt32.ofNat n) &&& 0x7fffffff ≤ 0x7f800000 := by
  rw [UInt32.le_iff_toNat_le, UInt32.toNat_and]
  have e : (UInt32.ofNat n).toNat = n % 4294967296 := UInt32.toNat_ofNat
  rw [e, show (0x7fffffff : UInt32).toNat = 2 ^ 31 - 1 from by decide, Nat.and_two_pow_sub_one_eq_mod, show (0x7f800000 : UInt32).toNat = 2139095040 from by decide]
  omega
theorem f32_div {x y : UInt32} {t : Bool} {d : Nat} {r : Int} (hx : FP.Core.decode FP.Core.b32 x.toNat ≠ .nan) (hy : FP.Core.decode FP.Core.b32 y.toNat = .fin t d r) (hd : d ≠ 0) : fdivP x y = some (FP.fdiv x y) := by
  unfold fdivP
  rw [if_pos]
  show UInt32.ofNat (FP.Core.encode FP.Core.b32 (FP.Core.quotient FP.Core.b32 (FP.Core.decode FP.Core.b32 x.toNat) (FP.Core.decode FP.Core.b32 y.toNat))) &&& 0x7fffffff ≤ 0x7f800000
  apply f32_and
  apply f32_enc
  rw [hy]
  cases h : FP.Core.decode FP.Core.b32 x.toNat with
  | nan => exact absurd h hx
  | inf s => exact Or.inl ⟨_, rfl⟩
  | fin s c q =>
    show (∃ u, (if d = 0 then _ else _) = _) ∨ ∃ u c' q', (if d = 0 then _ else _) = _ ∧ _
    rw [if_neg hd]
    exact f32_rr _ _ _ _
theorem f32_of {i : Int} : FP.Core.decode FP.Core.b32 (UInt32.ofNat (FP.Core.fromInt FP.Core.b32 i)).toNat ≠ .nan := by
  apply f32_dec
  have e : (UInt32.ofNat (FP.Core.fromInt FP.Core.b32 i)).toNat = FP.Core.fromInt FP.Core.b32 i % 4294967296 := UInt32.toNat_ofNat
  have := f32_int i
  rw [e]
  omega

theorem f64_rr (s : Bool) (num den : Nat) (e : Int) : (∃ t, FP.Core.roundRatio FP.Core.b64 s num den e = .inf t) ∨ ∃ t c q, FP.Core.roundRatio FP.Core.b64 s num den e = .fin t c q ∧ c < 9007199254740992 ∧ (-1074 : Int) ≤ q ∧ q ≤ 971 := by
  have qm : FP.Core.b64.qmin = -1074 := by decide
  have qx : FP.Core.b64.qmax = 971 := by decide
  have tl : FP.Core.b64.tails = 4503599627370496 := by decide
  have pp : 2 ^ FP.Core.b64.p = 9007199254740992 := by decide
  unfold FP.Core.roundRatio
  by_cases h : num = 0
  · rw [if_pos h]
    exact Or.inr ⟨s, 0, _, rfl, by decide, by rw [qm]; decide, by rw [qm]; decide⟩
  · rw [if_neg h]
    have hq : (-1074 : Int) ≤ FP.Core.quantum FP.Core.b64 num den e := by
      unfold FP.Core.quantum
      rw [qm]
      exact Int.le_max_left _ _
    unfold FP.Core.roundAt FP.Core.settle FP.Core.bound
    rw [pp, qx, tl]
    split
    · split
      · rename_i h1 h2
        exact Or.inr ⟨s, _, _, rfl, h1, hq, h2⟩
      · exact Or.inl ⟨s, rfl⟩
    · split
      · rename_i h1 h2
        exact Or.inr ⟨s, _, _, rfl, by decide, by omega, h2⟩
      · exact Or.inl ⟨s, rfl⟩
theorem f64_asm (s : Bool) {E T : Nat} (h : (E < 2047 ∧ T < 4503599627370496) ∨ (E = 2047 ∧ T = 0)) : FP.Core.assemble FP.Core.b64 s E T % 9223372036854775808 ≤ 9218868437227405312 := by
  have tl : FP.Core.b64.tails = 4503599627370496 := by decide
  have ex : FP.Core.b64.exps = 2048 := by decide
  unfold FP.Core.assemble
  rw [tl, ex]
  cases s
  · rw [show Bool.toNat false = 0 from rfl]
    omega
  · rw [show Bool.toNat true = 1 from rfl]
    omega
theorem f64_enc (d : FP.Core.Datum) (h : (∃ t, d = .inf t) ∨ ∃ t c q, d = .fin t c q ∧ c < 9007199254740992 ∧ (-1074 : Int) ≤ q ∧ q ≤ 971) : FP.Core.encode FP.Core.b64 d % 9223372036854775808 ≤ 9218868437227405312 := by
  have tl : FP.Core.b64.tails = 4503599627370496 := by decide
  have ex : FP.Core.b64.exps = 2048 := by decide
  have qm : FP.Core.b64.qmin = -1074 := by decide
  rcases h with ⟨t, rfl⟩ | ⟨t, c, q, rfl, h1, h2, h3⟩
  · unfold FP.Core.encode
    rw [ex]
    exact f64_asm t (Or.inr ⟨rfl, rfl⟩)
  · unfold FP.Core.encode
    simp only
    rw [tl, qm]
    split
    · exact f64_asm t (Or.inl ⟨by decide, by assumption⟩)
    · exact f64_asm t (Or.inl ⟨by omega, by omega⟩)
theorem f64_dec {n : Nat} (h : n % 9223372036854775808 ≤ 9218868437227405312) : FP.Core.decode FP.Core.b64 n ≠ .nan := by
  have tl : FP.Core.b64.tails = 4503599627370496 := by decide
  have ex : FP.Core.b64.exps = 2048 := by decide
  unfold FP.Core.decode FP.Core.fieldE FP.Core.fieldT
  rw [tl, ex]
  split
  · split
    · exact fun q => by cases q
    · exfalso
      omega
  · split
    · exact fun q => by cases q
    · exact fun q => by cases q
theorem f64_int (i : Int) : FP.Core.fromInt FP.Core.b64 i % 9223372036854775808 ≤ 9218868437227405312 := f64_enc _ (f64_rr _ _ _ _)
theorem f64_and (n : Nat) (h : n % 9223372036854775808 ≤ 9218868437227405312) : (UInt64.ofNat n) &&& 0x7fffffffffffffff ≤ 0x7ff0000000000000 := by
  rw [UInt64.le_iff_toNat_le, UInt64.toNat_and]
  have e : (UInt64.ofNat n).toNat = n % 18446744073709551616 := UInt64.toNat_ofNat
  rw [e, show (0x7fffffffffffffff : UInt64).toNat = 2 ^ 63 - 1 from by decide, Nat.and_two_pow_sub_one_eq_mod, show (0x7ff0000000000000 : UInt64).toNat = 9218868437227405312 from by decide]
  omega
theorem f64_div {x y : UInt64} {t : Bool} {d : Nat} {r : Int} (hx : FP.Core.decode FP.Core.b64 x.toNat ≠ .nan) (hy : FP.Core.decode FP.Core.b64 y.toNat = .fin t d r) (hd : d ≠ 0) : ddivP x y = some (FP.ddiv x y) := by
  unfold ddivP
  rw [if_pos]
  show UInt64.ofNat (FP.Core.encode FP.Core.b64 (FP.Core.quotient FP.Core.b64 (FP.Core.decode FP.Core.b64 x.toNat) (FP.Core.decode FP.Core.b64 y.toNat))) &&& 0x7fffffffffffffff ≤ 0x7ff0000000000000
  apply f64_and
  apply f64_enc
  rw [hy]
  cases h : FP.Core.decode FP.Core.b64 x.toNat with
  | nan => exact absurd h hx
  | inf s => exact Or.inl ⟨_, rfl⟩
  | fin s c q =>
    show (∃ u, (if d = 0 then _ else _) = _) ∨ ∃ u c' q', (if d = 0 then _ else _) = _ ∧ _
    rw [if_neg hd]
    exact f64_rr _ _ _ _
theorem f64_of {i : Int} : FP.Core.decode FP.Core.b64 (UInt64.ofNat (FP.Core.fromInt FP.Core.b64 i)).toNat ≠ .nan := by
  apply f64_dec
  have e : (UInt64.ofNat (FP.Core.fromInt FP.Core.b64 i)).toNat = FP.Core.fromInt FP.Core.b64 i % 18446744073709551616 := UInt64.toNat_ofNat
  have := f64_int i
  rw [e]
  omega

theorem f64_one {n : Nat} (h0 : 1 ≤ n) (h1 : n ≤ 29791) : ∃ d r, FP.Core.decode FP.Core.b64 (FP.i2d (I32 n)).toNat = .fin false d r ∧ d ≠ 0 := by
  have tl : FP.Core.b64.tails = 4503599627370496 := by decide
  have ex : FP.Core.b64.exps = 2048 := by decide
  have qm : FP.Core.b64.qmin = -1074 := by decide
  have qx : FP.Core.b64.qmax = 971 := by decide
  have pp : FP.Core.b64.p = 53 := by decide
  have l1 : 2 ^ n.log2 ≤ n := Nat.log2_self_le (by omega)
  have l2 : n < 2 ^ (n.log2 + 1) := Nat.lt_log2_self
  have l3 : n.log2 < 15 := (Nat.log2_lt (by omega)).mpr (by omega)
  obtain ⟨k, hk⟩ : ∃ k, k = n.log2 := ⟨_, rfl⟩
  rw [← hk] at l1 l2 l3
  have hlead : FP.Core.leading n 1 = (k : Int) := by
    unfold FP.Core.leading
    rw [← hk, show Nat.log2 1 = 0 from by decide]
    simp only
    rw [if_pos]
    · omega
    · rw [show ((k : Int) - ((0 : Nat) : Int)).toNat = k by omega, show (-((k : Int) - ((0 : Nat) : Int))).toNat = 0 by omega]
      omega
  have hq : FP.Core.quantum FP.Core.b64 n 1 0 = (k : Int) - 52 := by
    unfold FP.Core.quantum
    rw [hlead, qm, pp, Int.max_def]
    split <;> omega
  have hp : 2 ^ k * 2 ^ (52 - k) = 4503599627370496 := by
    rw [← Nat.pow_add, show k + (52 - k) = 52 by omega]
  have hp2 : 2 ^ (k + 1) * 2 ^ (52 - k) = 9007199254740992 := by
    rw [← Nat.pow_add, show k + 1 + (52 - k) = 53 by omega]
  have c1 : 4503599627370496 ≤ n * 2 ^ (52 - k) := by
    rw [← hp]
    exact Nat.mul_le_mul_right _ l1
  have c2 : n * 2 ^ (52 - k) < 9007199254740992 := by
    rw [← hp2]
    exact Nat.mul_lt_mul_of_pos_right l2 (Nat.two_pow_pos _)
  have hr : FP.Core.round FP.Core.b64 (FP.Core.ofInt (n : Int)) = .fin false (n * 2 ^ (52 - k)) ((k : Int) - 52) := by
    unfold FP.Core.ofInt FP.Core.round
    rw [show decide ((n : Int) < 0) = false from decide_eq_false (by omega), Int.natAbs_natCast]
    show FP.Core.roundRatio FP.Core.b64 false n 1 0 = _
    unfold FP.Core.roundRatio
    rw [if_neg (by omega), hq]
    unfold FP.Core.roundAt FP.Core.unitsNum FP.Core.unitsDen FP.Core.nearest FP.Core.settle FP.Core.bound
    rw [show ((0 : Int) - ((k : Int) - 52)).toNat = 52 - k by omega, show (((k : Int) - 52) - (0 : Int)).toNat = 0 by omega, qx]
    simp only [Nat.pow_zero, Nat.mul_one, Nat.mod_one, Nat.mul_zero, Nat.div_one]
    rw [if_pos (show (0 : Nat) < 1 by decide), if_pos (show n * 2 ^ (52 - k) < 2 ^ FP.Core.b64.p by rw [show 2 ^ FP.Core.b64.p = 9007199254740992 from by decide]; exact c2), if_pos (show (k : Int) - 52 ≤ 971 by omega)]
  have he : FP.Core.fromInt FP.Core.b64 (n : Int) = (k + 1023) * 4503599627370496 + (n * 2 ^ (52 - k) - 4503599627370496) := by
    unfold FP.Core.fromInt
    rw [hr]
    unfold FP.Core.encode
    simp only
    rw [tl, qm, if_neg (by omega)]
    unfold FP.Core.assemble
    rw [tl, ex, show Bool.toNat false = 0 from rfl, show (((k : Int) - 52) - (-1074)).toNat + 1 = k + 1023 by omega]
    omega
  have hn : (FP.i2d (I32 n)).toNat = (k + 1023) * 4503599627370496 + (n * 2 ^ (52 - k) - 4503599627370496) := by
    show (UInt64.ofNat (FP.Core.fromInt FP.Core.b64 (I32 n).toInt)).toNat = _
    rw [big_t (by omega), he]
    have e : (UInt64.ofNat ((k + 1023) * 4503599627370496 + (n * 2 ^ (52 - k) - 4503599627370496))).toNat = ((k + 1023) * 4503599627370496 + (n * 2 ^ (52 - k) - 4503599627370496)) % 18446744073709551616 := UInt64.toNat_ofNat
    rw [e]
    omega
  obtain ⟨T, hT⟩ : ∃ T, T = n * 2 ^ (52 - k) - 4503599627370496 := ⟨_, rfl⟩
  have hT2 : T < 4503599627370496 := by omega
  rw [hn, ← hT]
  unfold FP.Core.decode FP.Core.fieldE FP.Core.fieldT FP.Core.fieldS
  rw [tl, ex]
  rw [if_neg (by omega), if_neg (by omega)]
  have sg : (((k + 1023) * 4503599627370496 + T) / 4503599627370496 / 2048 % 2 == 1) = false := by
    rw [show ((k + 1023) * 4503599627370496 + T) / 4503599627370496 / 2048 % 2 = 0 by omega]
    rfl
  rw [sg]
  refine ⟨_, _, rfl, ?_⟩
  omega
theorem share_ok (v : Int32) : fdivP (FP.i2f v) (1189658112 : UInt32) = some (FP.fdiv (FP.i2f v) (1189658112 : UInt32)) := f32_div (t := false) (d := 15252992) (r := -9) (f32_of (i := v.toInt)) (by decide +kernel) (by decide)
theorem mean_ok (s : Int64) {n : Nat} (h0 : 1 ≤ n) (h1 : n ≤ 29791) : ddivP (FP.l2d s) (FP.i2d (I32 n)) = some (FP.ddiv (FP.l2d s) (FP.i2d (I32 n))) := by
  obtain ⟨d, r, e, hd⟩ := f64_one h0 h1
  exact f64_div (f64_of (i := s.toInt)) e hd
