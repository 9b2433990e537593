/-! moments: what a zone holds -/
theorem big_t {n : Nat} (h : n < 2147483648) : (I32 n).toInt = (n : Int) := Int32.toInt_ofNat_of_lt (by omega)
theorem big_le {n k : Nat} (h : n < 2147483648) (h2 : k < 2147483648) : I32 n ≤ I32 k ↔ n ≤ k := by
  rw [Int32.le_iff_toInt_le, big_t h, big_t h2]
  omega
theorem big_add (a b : Nat) : I32 a + I32 b = I32 (a + b) := (Int32.ofNat_add a b).symm
theorem big_add64 (a b : Nat) : Int64.ofNat a + Int64.ofNat b = Int64.ofNat (a + b) := (Int64.ofNat_add a b).symm
theorem big_mul (a b : Nat) : I32 a * I32 b = I32 (a * b) := (Int32.ofNat_mul a b).symm
theorem big_div {n k : Nat} (h : n < 2147483648) (h2 : k < 2147483648) (h0 : 1 < k) : I32 n / I32 k = I32 (n / k) := by
  apply Int32.toInt_inj.mp
  have hd : n / k ≤ n := Nat.div_le_self n k
  rw [Int32.toInt_div_of_ne_right (I32 n) (I32 k) (fun q => by
    have := congrArg Int32.toInt q
    rw [big_t h2] at this
    have e : (-1 : Int32).toInt = -1 := by decide
    rw [e] at this
    omega), big_t h, big_t h2, big_t (by omega)]
  exact (Int.ofNat_tdiv n k).symm
theorem big_mod {n k : Nat} (h : n < 2147483648) (h2 : k < 2147483648) (h0 : 1 < k) : I32 n - I32 n / I32 k * I32 k = I32 (n % k) := by
  rw [big_div h h2 h0, big_mul]
  have e : n = n / k * k + n % k := by
    rw [Nat.mul_comm]
    exact (Nat.div_add_mod n k).symm
  have e2 : I32 n = I32 (n / k * k) + I32 (n % k) := by rw [big_add, ← e]
  rw [e2, Int32.add_comm, Int32.add_sub_cancel]
theorem sub_t {x y : Int32} (h1 : -1000000 ≤ x.toInt ∧ x.toInt ≤ 1000000) (h2 : -1000000 ≤ y.toInt ∧ y.toInt ≤ 1000000) : (x - y).toInt = x.toInt - y.toInt := by
  rw [Int32.toInt_sub]
  exact Int.bmod_eq_of_le (by omega) (by omega)
def yv (f : Nat → Int32) : Nat → Int := fun i => if i = 3 then 0 else (f i).toInt
def yI (f : Nat → Int32) : Nat → Int32 := fun i => if i = 3 then 0 else f i
theorem yI_t (f : Nat → Int32) (i : Nat) : (yI f i).toInt = yv f i := by
  unfold yI yv
  by_cases h : i = 3
  · rw [if_pos h, if_pos h]
    rfl
  · rw [if_neg h, if_neg h]
def qs (D : OD) (y : Nat → Int) (i j : Nat) : Prop := ∀ t, D (4 * i + j) = some t → y i - y j ≤ t
theorem qs_fl {N x : Int32} (hN : 9999 ≤ N.toInt) {D : OD} {f : Nat → Int32} {i j : Nat} (hi : i < 4) (hj : j < 4) (r : rep1 N x (D (4 * i + j))) (hf : ∀ c, c < 3 → -9 ≤ (f c).toInt ∧ (f c).toInt ≤ 5000) : fl (if x < yI f i - yI f j then (0 : Int32) else (1 : Int32)) (qs D (yv f) i j) := by
  have b : ∀ k, k < 4 → -9 ≤ yv f k ∧ yv f k ≤ 5000 := fun k hk => by
    unfold yv
    by_cases h : k = 3
    · rw [if_pos h]
      decide
    · rw [if_neg h]
      exact hf k (by omega)
  have bi := b i hi
  have bj := b j hj
  have es : (yI f i - yI f j).toInt = yv f i - yv f j := by
    rw [sub_t (by rw [yI_t]; omega) (by rw [yI_t]; omega), yI_t, yI_t]
  have hlt : x < yI f i - yI f j ↔ x.toInt < yv f i - yv f j := by rw [Int32.lt_iff_toInt_lt, es]
  unfold qs
  cases hD : D (4 * i + j) with
  | none =>
    rw [hD] at r
    have r : x = N := r
    rw [if_neg (by rw [hlt, r]; omega)]
    exact Or.inl ⟨rfl, fun t ht => by cases ht⟩
  | some s =>
    rw [hD] at r
    have r1 : x.toInt = s := r.1
    by_cases q : x < yI f i - yI f j
    · rw [if_pos q]
      refine Or.inr ⟨rfl, fun z => ?_⟩
      have := z s rfl
      have := hlt.mp q
      omega
    · rw [if_neg q]
      refine Or.inl ⟨rfl, fun t ht => ?_⟩
      cases ht
      have : ¬ x.toInt < yv f i - yv f j := fun z => q (hlt.mpr z)
      omega
section Q6
variable {X : HH} {z bz a : Nat} {d : ZS} {D : OD} {f : Nat → Int32}
theorem has_step {i j : Nat} (hi : i < 4) (hj : j < 4) (Z : ZA X z bz d) (A : hF X a = some (.inl (0, 3, .inl f))) (x c0 : Int32) : F_X3_has_B12 z (some a) c0 (I32 i) x (I32 j) X = some (.inl (x &&& (if d (4 * i + j) < yI f i - yI f j then (0 : Int32) else (1 : Int32)), I32 (j + 1))) := by
  have T : ∀ y0 : Int32, y0 = yI f i → F_X3_has_T30 z (some a) c0 (I32 i) x (I32 j) y0 X = some (.inl (x &&& (if d (4 * i + j) < yI f i - yI f j then (0 : Int32) else (1 : Int32)), I32 (j + 1))) := fun y0 hy => by
    unfold F_X3_has_T30
    by_cases e : j = 3
    · have ej : I32 j = (3 : Int32) := by rw [e]; rfl
      rw [if_pos ej]
      unfold F_X3_has_T44
      rw [v_isO Z.1, bind_some9, z_at hi hj Z, bind_some9, i32s j (by omega), hy, show yI f j = 0 by unfold yI; rw [if_pos e]]
    · rw [if_neg (show ¬ I32 j = (3 : Int32) from fun q => e (i32inj (b := 3) (by omega) (by decide) q)), v_aldI A (ix_of j 3 (by omega) (by decide)), bind_some9]
      unfold F_X3_has_T44
      rw [v_isO Z.1, bind_some9, z_at hi hj Z, bind_some9, i32s j (by omega), hy, show yI f j = f j by unfold yI; rw [if_neg e]]
  unfold F_X3_has_B12
  rw [if_neg (zi3 j hj)]
  by_cases e : i = 3
  · rw [if_pos (show I32 i = (3 : Int32) by rw [e]; rfl)]
    exact T 0 (by unfold yI; rw [if_pos e])
  · rw [if_neg (show ¬ I32 i = (3 : Int32) from fun q => e (i32inj (b := 3) (by omega) (by decide) q)), v_aldI A (ix_of i 3 (by omega) (by decide)), bind_some9]
    exact T (f i) (by unfold yI; rw [if_neg e])
theorem sat_q (D : OD) (y : Nat → Int) : sat D y ↔ ∀ i, i < 4 → ∀ j, j < 4 → qs D y i j := Iff.rfl
theorem z_has (Z : ZA X z bz d) (r : rep 9999 d D) (A : hF X a = some (.inl (0, 3, .inl f))) (hf : ∀ c, c < 3 → -9 ≤ (f c).toInt ∧ (f c).toInt ≤ 5000) : ∃ v, F_X3_has z (some a) X = some v ∧ fl v (sat D (yv f)) := by
  obtain ⟨v, e, hv⟩ := lp_inv0 (B := fun y => F_X3_has_B4 z (some a) y.1 y.2 X) (Q := fun v => fl v (sat D (yv f))) (fuel := 100000) (x := ((1 : Int32), (0 : Int32))) (fun i y => y.2 = I32 i ∧ fl y.1 (∀ k, k < i → ∀ j, j < 4 → qs D (yv f) k j)) 4 (fun i hi y hy => by
    obtain ⟨x, ii⟩ := y
    obtain ⟨e1, hx⟩ := hy
    have e1 : ii = I32 i := e1
    subst e1
    have hx : fl x (∀ k, k < i → ∀ j, j < 4 → qs D (yv f) k j) := hx
    obtain ⟨w, ew, hw⟩ := lp_inv0 (B := fun y => F_X3_has_B12 z (some a) x (I32 i) y.1 y.2 X) (Q := fun v => fl v ((∀ k, k < i → ∀ j, j < 4 → qs D (yv f) k j) ∧ ∀ j, j < 4 → qs D (yv f) i j)) (fuel := 100000) (x := (x, (0 : Int32))) (fun j y => y.2 = I32 j ∧ fl y.1 ((∀ k, k < i → ∀ j, j < 4 → qs D (yv f) k j) ∧ ∀ k, k < j → qs D (yv f) i k)) 4 (fun j hj y hy => by
      obtain ⟨x2, jj⟩ := y
      obtain ⟨e1, hx2⟩ := hy
      have e1 : jj = I32 j := e1
      subst e1
      refine ⟨_, has_step hi hj Z A x2 x, rfl, fl_congr (fl_and hx2 (qs_fl n9 hi hj (r (4 * i + j) (by omega)) hf)) ⟨fun q => ⟨q.1.1, fun k hk => ?_⟩, fun q => ⟨⟨q.1, fun k hk => q.2 k (by omega)⟩, q.2 j (by omega)⟩⟩⟩
      by_cases ek : k = j
      · rw [ek]
        exact q.2
      · exact q.1.2 k (by omega)) (fun y hy => by
      obtain ⟨x2, jj⟩ := y
      obtain ⟨e1, hx2⟩ := hy
      have e1 : jj = I32 4 := e1
      subst e1
      refine ⟨x2, ?_, hx2⟩
      show F_X3_has_B12 z (some a) x (I32 i) x2 (I32 4) X = _
      unfold F_X3_has_B12
      exact if_pos (by decide)) ⟨rfl, fl_congr hx ⟨fun q => ⟨q, fun k hk => absurd hk (Nat.not_lt_zero k)⟩, fun q => q.1⟩⟩ (by decide)
    refine ⟨(w, I32 (i + 1)), ?_, rfl, fl_congr hw ⟨fun q k hk => ?_, fun q => ⟨fun k hk => q k (by omega), q i (by omega)⟩⟩⟩
    · show F_X3_has_B4 z (some a) x (I32 i) X = _
      unfold F_X3_has_B4
      rw [if_neg (zi3 i hi), ew, bind_some9, i32s i (by omega)]
    · by_cases ek : k = i
      · rw [ek]
        exact q.2
      · exact q.1 k (by omega)) (fun y hy => by
    obtain ⟨x, ii⟩ := y
    obtain ⟨e1, hx⟩ := hy
    have e1 : ii = I32 4 := e1
    subst e1
    refine ⟨x, ?_, hx⟩
    show F_X3_has_B4 z (some a) x (I32 4) X = _
    unfold F_X3_has_B4
    exact if_pos (by decide)) ⟨rfl, Or.inl ⟨rfl, fun k hk => absurd hk (Nat.not_lt_zero k)⟩⟩ (by decide)
  refine ⟨v, ?_, hv⟩
  unfold F_X3_has
  rw [e, bind_some9, fl_okZ hv, bind_some9]
/-- the model's side -/
theorem m_allows {S : MS} {o : Nat} {a2 a3 a4 a5 : Int32} (hix : ∀ j, j < 16 → ix (a2 + I32 j) (o + j) (mlen 0)) (hr : rep 100000 (sub (S.1 0) o) D) (hf : ∀ x, x = a3 ∨ x = a4 ∨ x = a5 → -9 ≤ x.toInt ∧ x.toInt ≤ 5000) : ∃ v, P_X4_allows 0 a2 a3 a4 a5 S = some v ∧ fl v (sat D (yv (fun c => if c = 0 then a3 else if c = 1 then a4 else a5))) := by
  obtain ⟨v, e, hv⟩ := lp_and (Q := fun m => qs D (yv (fun c => if c = 0 then a3 else if c = 1 then a4 else a5)) (m / 4) (m % 4)) (P := True) (x0 := 1) (B := fun z => P_X4_allows_B6 0 a2 a3 a4 a5 z.1 z.2 S) 16 (by decide) (Or.inl ⟨rfl, True.intro⟩) (fun m hm x => by
    show ∃ y, P_X4_allows_B6 0 a2 a3 a4 a5 x (I32 m) S = _ ∧ _
    have hq : m = 4 * (m / 4) + m % 4 := by omega
    have hi : m / 4 < 4 := by omega
    have hj : m % 4 < 4 := by omega
    unfold P_X4_allows_B6
    rw [if_neg (n16 hm)]
    by_cases hx : x = 0
    · rw [if_pos hx, i32s m (by omega)]
      exact ⟨0, rfl, fun _ => rfl, fun q => absurd hx q⟩
    · rw [if_neg hx, rd_i (hix m hm), bind_some9, bind_some9, i32s m (by omega), (dm4 m hm).2, (dm4 m hm).1]
      have r := rep_at hr hm
      have q := qs_fl (f := fun c => if c = 0 then a3 else if c = 1 then a4 else a5) n5 hi hj (by rw [← hq]; exact r) (fun c hc => hf _ (by
        show (if c = 0 then a3 else if c = 1 then a4 else a5) = a3 ∨ _
        by_cases h0 : c = 0
        · rw [if_pos h0]
          exact Or.inl rfl
        · rw [if_neg h0]
          by_cases h1 : c = 1
          · rw [if_pos h1]
            exact Or.inr (Or.inl rfl)
          · rw [if_neg h1]
            exact Or.inr (Or.inr rfl)))
      have yy : ∀ k, k < 4 → (if I32 k = 0 then a3 else (if I32 k = (1 : Int32) then a4 else (if I32 k = (2 : Int32) then a5 else (0 : Int32)))) = yI (fun c => if c = 0 then a3 else if c = 1 then a4 else a5) k := fun k hk => by
        rcases or4 hk with rfl | rfl | rfl | rfl <;> rfl
      rw [yy _ hi, yy _ hj]
      by_cases h5 : S.1 0 (o + m) = (100000 : Int32)
      · rw [if_pos h5]
        refine ⟨1, rfl, fun z => absurd z hx, fun _ => Or.inl ⟨rfl, fun t ht => ?_⟩⟩
        rw [← hq] at ht
        rw [ht] at r
        exact absurd h5 (rep1_ne n5 r)
      · rw [if_neg h5]
        exact ⟨_, rfl, fun z => absurd z hx, fun _ => q⟩) (fun x => by
    show P_X4_allows_B6 0 a2 a3 a4 a5 x (I32 16) S = _
    unfold P_X4_allows_B6
    exact if_pos (by decide))
  refine ⟨v, ?_, fl_congr hv ⟨fun q i hi j hj => ?_, fun q => ⟨True.intro, fun m hm => q (m / 4) (by omega) (m % 4) (by omega)⟩⟩⟩
  · unfold P_X4_allows
    rw [e, bind_some9, fl_okZ hv, bind_some9]
  · have := q.2 (4 * i + j) (by omega)
    rw [(m4 hj).1, (m4 hj).2] at this
    exact this
end Q6
