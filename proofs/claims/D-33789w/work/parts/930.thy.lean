/-! the theory of bounds: order, solutions, closed rows -/
def ole : Option Int → Option Int → Prop
  | _, none => True
  | none, some _ => False
  | some a, some b => a ≤ b
theorem ole_refl (a : Option Int) : ole a a := by
  cases a with
  | none => exact True.intro
  | some x => exact Int.le_refl x
theorem ole_trans {a b c : Option Int} (h1 : ole a b) (h2 : ole b c) : ole a c := by
  cases c with
  | none => cases a <;> exact True.intro
  | some z =>
    cases b with
    | none => exact h2.elim
    | some y =>
      cases a with
      | none => exact h1.elim
      | some x => exact Int.le_trans (show x ≤ y from h1) (show y ≤ z from h2)
theorem ole_antisymm {a b : Option Int} (h1 : ole a b) (h2 : ole b a) : a = b := by
  cases a with
  | none =>
    cases b with
    | none => rfl
    | some y => exact h1.elim
  | some x =>
    cases b with
    | none => exact h2.elim
    | some y => exact congrArg some (Int.le_antisymm (show x ≤ y from h1) (show y ≤ x from h2))
theorem ole_some {a : Option Int} {t : Int} (h : ole a (some t)) : ∃ s, a = some s ∧ s ≤ t := by
  cases a with
  | none => exact h.elim
  | some s => exact ⟨s, rfl, h⟩
theorem omin_cases (a b : Option Int) : omin a b = a ∨ omin a b = b := by
  cases a with
  | none => right; cases b <;> rfl
  | some x =>
    cases b with
    | none => left; rfl
    | some y =>
      show some (if y < x then y else x) = some x ∨ some (if y < x then y else x) = some y
      by_cases h : y < x
      · right; rw [if_pos h]
      · left; rw [if_neg h]
theorem omin_le_l (a b : Option Int) : ole (omin a b) a := by
  cases a with
  | none => cases b <;> exact True.intro
  | some x =>
    cases b with
    | none => exact Int.le_refl x
    | some y =>
      show (if y < x then y else x) ≤ x
      split <;> omega
theorem omin_le_r (a b : Option Int) : ole (omin a b) b := by
  cases b with
  | none => cases a <;> exact True.intro
  | some y =>
    cases a with
    | none => exact Int.le_refl y
    | some x =>
      show (if y < x then y else x) ≤ y
      split <;> omega
theorem ole_omin {a b c : Option Int} (h1 : ole c a) (h2 : ole c b) : ole c (omin a b) := by
  rcases omin_cases a b with h | h
  · rw [h]; exact h1
  · rw [h]; exact h2
theorem omin_eq_l {a b : Option Int} (h : ole a b) : omin a b = a := by
  cases a with
  | none =>
    cases b with
    | none => rfl
    | some y => exact h.elim
  | some x =>
    cases b with
    | none => rfl
    | some y =>
      have h : x ≤ y := h
      show some (if y < x then y else x) = some x
      rw [if_neg (by omega)]
theorem omin_mono {a b a' b' : Option Int} (h1 : ole a a') (h2 : ole b b') : ole (omin a b) (omin a' b') := ole_omin (ole_trans (omin_le_l a b) h1) (ole_trans (omin_le_r a b) h2)
theorem oadd_mono {a b a' b' : Option Int} (h1 : ole a a') (h2 : ole b b') : ole (oadd a b) (oadd a' b') := by
  cases a' with
  | none => cases b' <;> (cases oadd a b <;> exact True.intro)
  | some x' =>
    cases b' with
    | none => cases oadd a b <;> exact True.intro
    | some y' =>
      obtain ⟨x, rfl, hx⟩ := ole_some h1
      obtain ⟨y, rfl, hy⟩ := ole_some h2
      show x + y ≤ x' + y'
      omega
theorem oadd_assoc (a b c : Option Int) : oadd (oadd a b) c = oadd a (oadd b c) := by
  cases a with
  | none => cases b <;> cases c <;> rfl
  | some x =>
    cases b with
    | none => cases c <;> rfl
    | some y =>
      cases c with
      | none => rfl
      | some z => exact congrArg some (Int.add_assoc x y z)
theorem oadd_comm (a b : Option Int) : oadd a b = oadd b a := by
  cases a with
  | none => cases b <;> rfl
  | some x =>
    cases b with
    | none => rfl
    | some y => exact congrArg some (Int.add_comm x y)
theorem ole_add_r {a c : Option Int} (h : ∀ t, c = some t → 0 ≤ t) : ole a (oadd a c) := by
  cases a with
  | none => cases c <;> exact True.intro
  | some x =>
    cases c with
    | none => exact True.intro
    | some t =>
      have := h t rfl
      show x ≤ x + t
      omega
theorem ole_add_l {a c : Option Int} (h : ∀ t, c = some t → 0 ≤ t) : ole a (oadd c a) := by
  rw [oadd_comm]
  exact ole_add_r h
theorem ole_oadd_omin {z a b c d : Option Int} (h1 : ole z (oadd a c)) (h2 : ole z (oadd a d)) (h3 : ole z (oadd b c)) (h4 : ole z (oadd b d)) : ole z (oadd (omin a b) (omin c d)) := by
  rcases omin_cases a b with e | e <;> rcases omin_cases c d with f | f <;> rw [e, f] <;> assumption
def dle (D E : OD) : Prop := ∀ i, i < 16 → ole (D i) (E i)
theorem dle_refl (D : OD) : dle D D := fun i _ => ole_refl (D i)
theorem dle_trans {D E F : OD} (h1 : dle D E) (h2 : dle E F) : dle D F := fun i hi => ole_trans (h1 i hi) (h2 i hi)
theorem ost_at (k c : Nat) (D : OD) : ost k c D c = omin (D c) (oadd (D (4 * (c / 4) + k)) (D (4 * k + c % 4))) := by simp [ost, va_up]
theorem ost_ne (k : Nat) {c i : Nat} (h : i ≠ c) (D : OD) : ost k c D i = D i := by simp [ost, va_up, h]
theorem ost_mono {k c : Nat} (hk : k < 4) (hc : c < 16) {D E : OD} (h : dle D E) : dle (ost k c D) (ost k c E) := fun i hi => by
  by_cases e : i = c
  · subst e
    rw [ost_at, ost_at]
    exact omin_mono (h i hi) (oadd_mono (h _ (by omega)) (h _ (by omega)))
  · rw [ost_ne k e, ost_ne k e]
    exact h i hi
theorem ost_le (k c : Nat) (D : OD) : dle (ost k c D) D := fun i _ => by
  by_cases e : i = c
  · subst e
    rw [ost_at]
    exact omin_le_l _ _
  · rw [ost_ne k e]
    exact ole_refl _
theorem orow_mono {k : Nat} (hk : k < 4) {D E : OD} (h : dle D E) : ∀ c, c ≤ 16 → dle (orow k D c) (orow k E c)
  | 0, _ => h
  | c + 1, hc => ost_mono hk (by omega) (orow_mono hk h c (by omega))
theorem orow_le (k : Nat) (D : OD) : ∀ c, dle (orow k D c) D
  | 0 => dle_refl D
  | c + 1 => dle_trans (ost_le k c _) (orow_le k D c)
theorem otl_mono {D E : OD} (h : dle D E) : ∀ k, k ≤ 4 → dle (otl D k) (otl E k)
  | 0, _ => h
  | k + 1, hk => orow_mono (by omega) (otl_mono h k (by omega)) 16 (Nat.le_refl _)
theorem otl_le (D : OD) : ∀ k, dle (otl D k) D
  | 0 => dle_refl D
  | k + 1 => dle_trans (orow_le k _ 16) (otl_le D k)
theorem otl_le2 (D : OD) (k : Nat) : ∀ n, dle (otl D (k + n)) (otl D k)
  | 0 => dle_refl _
  | n + 1 => dle_trans (orow_le (k + n) _ 16) (otl_le2 D k n)
/-- x lies within the bounds -/
def sat (D : OD) (x : Nat → Int) : Prop := ∀ i, i < 4 → ∀ j, j < 4 → ∀ t, D (4 * i + j) = some t → x i - x j ≤ t
theorem sat_mono {D E : OD} (h : dle D E) {x : Nat → Int} (hs : sat D x) : sat E x := fun i hi j hj t ht => by
  have h1 := h (4 * i + j) (by omega)
  rw [ht] at h1
  obtain ⟨s, e, hl⟩ := ole_some h1
  have := hs i hi j hj s e
  omega
theorem oadd_some {a b : Option Int} {t : Int} (h : oadd a b = some t) : ∃ x y, a = some x ∧ b = some y ∧ t = x + y := by
  cases a with
  | none => cases b <;> cases h
  | some x =>
    cases b with
    | none => cases h
    | some y =>
      have h : some (x + y) = some t := h
      exact ⟨x, y, rfl, rfl, (Option.some.inj h).symm⟩
theorem sat_ost {k c : Nat} (hk : k < 4) {D : OD} {x : Nat → Int} (hs : sat D x) : sat (ost k c D) x := fun i hi j hj t ht => by
  by_cases e : 4 * i + j = c
  · subst e
    rw [ost_at, show (4 * i + j) / 4 = i by omega, show (4 * i + j) % 4 = j by omega] at ht
    rcases omin_cases (D (4 * i + j)) (oadd (D (4 * i + k)) (D (4 * k + j))) with h | h
    · rw [h] at ht
      exact hs i hi j hj t ht
    · rw [h] at ht
      obtain ⟨a, b, ha, hb, rfl⟩ := oadd_some ht
      have h1 := hs i hi k hk a ha
      have h2 := hs k hk j hj b hb
      omega
  · rw [ost_ne k e] at ht
    exact hs i hi j hj t ht
theorem sat_orow {k : Nat} (hk : k < 4) {D : OD} {x : Nat → Int} (hs : sat D x) : ∀ c, sat (orow k D c) x
  | 0 => hs
  | c + 1 => sat_ost hk (sat_orow hk hs c)
theorem sat_otl {D : OD} {x : Nat → Int} (hs : sat D x) : ∀ k, k ≤ 4 → sat (otl D k) x
  | 0, _ => hs
  | k + 1, hk => sat_orow (by omega) (sat_otl hs k (by omega)) 16
theorem sat_iff (D : OD) (x : Nat → Int) : sat (otl D 4) x ↔ sat D x := ⟨fun h => sat_mono (otl_le D 4) h, fun h => sat_otl h 4 (Nat.le_refl _)⟩
/-- the diagonal is not negative -/
def nn (D : OD) : Prop := ∀ j, j < 4 → ∀ t, D (5 * j) = some t → 0 ≤ t
theorem nn_mono {D E : OD} (h : dle D E) (hn : nn D) : nn E := fun j hj t ht => by
  have h1 := h (5 * j) (by omega)
  rw [ht] at h1
  obtain ⟨s, e, hl⟩ := ole_some h1
  have := hn j hj s e
  omega
theorem sat_nn {D : OD} {x : Nat → Int} (hs : sat D x) : nn D := fun j hj t ht => by
  have := hs j hj j hj t (by rw [show 4 * j + j = 5 * j by omega]; exact ht)
  omega
/-- a round, where its own place of the diagonal is not negative: all at once -/
theorem orow_eq {k : Nat} (hk : k < 4) {D : OD} (h0 : ∀ t, D (5 * k) = some t → 0 ≤ t) : ∀ c, c ≤ 16 → ∀ m, m < 16 → orow k D c m = if m < c then omin (D m) (oadd (D (4 * (m / 4) + k)) (D (4 * k + m % 4))) else D m
  | 0, _, m, _ => by rw [if_neg (Nat.not_lt_zero m)]; rfl
  | c + 1, hc, m, hm => by
    have ih := orow_eq hk h0 c (by omega)
    show ost k c (orow k D c) m = _
    by_cases e : m = c
    · subst e
      rw [ost_at, if_pos (Nat.lt_succ_self m), ih m hm, if_neg (Nat.lt_irrefl m)]
      have e1 : orow k D m (4 * (m / 4) + k) = D (4 * (m / 4) + k) := by
        rw [ih _ (by omega)]
        split
        · rw [show (4 * (m / 4) + k) / 4 = m / 4 by omega, show (4 * (m / 4) + k) % 4 = k by omega, show 4 * k + k = 5 * k by omega]
          exact omin_eq_l (ole_add_r h0)
        · rfl
      have e2 : orow k D m (4 * k + m % 4) = D (4 * k + m % 4) := by
        rw [ih _ (by omega)]
        split
        · rw [show (4 * k + m % 4) / 4 = k by omega, show (4 * k + m % 4) % 4 = m % 4 by omega, show 4 * k + k = 5 * k by omega]
          exact omin_eq_l (ole_add_l h0)
        · rfl
      rw [e1, e2]
    · rw [ost_ne k e, ih m hm]
      by_cases hl : m < c
      · rw [if_pos hl, if_pos (by omega)]
      · rw [if_neg hl, if_neg (by omega)]
def tri (D : OD) (k : Nat) : Prop := ∀ i, i < 4 → ∀ j, j < 4 → ole (D (4 * i + j)) (oadd (D (4 * i + k)) (D (4 * k + j)))
theorem orow_ij {k : Nat} (hk : k < 4) {D : OD} (h0 : ∀ t, D (5 * k) = some t → 0 ≤ t) {i j : Nat} (hi : i < 4) (hj : j < 4) : orow k D 16 (4 * i + j) = omin (D (4 * i + j)) (oadd (D (4 * i + k)) (D (4 * k + j))) := by
  rw [orow_eq hk h0 16 (Nat.le_refl _) _ (by omega), if_pos (by omega), show (4 * i + j) / 4 = i by omega, show (4 * i + j) % 4 = j by omega]
theorem tri_row {k : Nat} (hk : k < 4) {D : OD} (h0 : ∀ t, D (5 * k) = some t → 0 ≤ t) (ht : ∀ q, q < k → tri D q) : ∀ q, q < k + 1 → tri (orow k D 16) q := fun q hq i hi j hj => by
  have hkk : 4 * k + k = 5 * k := by omega
  by_cases e : q = k
  · subst e
    rw [orow_ij hk h0 hi hj, orow_ij hk h0 hi hk, orow_ij hk h0 hk hj, hkk, omin_eq_l (ole_add_r h0), omin_eq_l (ole_add_l h0)]
    exact omin_le_r _ _
  · have hqk : q < k := by omega
    have hq4 : q < 4 := by omega
    have T := ht q hqk
    rw [orow_ij hk h0 hi hj, orow_ij hk h0 hi hq4, orow_ij hk h0 hq4 hj]
    have z : ole (omin (D (4 * i + j)) (oadd (D (4 * i + k)) (D (4 * k + j)))) (oadd (D (4 * i + k)) (D (4 * k + j))) := omin_le_r _ _
    refine ole_oadd_omin ?_ ?_ ?_ ?_
    · exact ole_trans (omin_le_l _ _) (T i hi j hj)
    · rw [← oadd_assoc]
      exact ole_trans z (oadd_mono (T i hi k hk) (ole_refl _))
    · rw [oadd_assoc]
      exact ole_trans z (oadd_mono (ole_refl _) (T k hk j hj))
    · have h1 : ole (D (4 * k + j)) (oadd (D (5 * k)) (D (4 * k + j))) := ole_add_l h0
      have h2 := T k hk k hk
      rw [hkk] at h2
      have h3 : ole (D (4 * k + j)) (oadd (oadd (D (4 * k + q)) (D (4 * q + k))) (D (4 * k + j))) := ole_trans h1 (oadd_mono h2 (ole_refl _))
      have h4 := ole_trans z (oadd_mono (ole_refl (D (4 * i + k))) h3)
      rw [oadd_assoc] at h4 ⊢
      exact h4
def clo (D : OD) : Prop := ∀ k, k < 4 → tri D k
theorem tri_otl {D : OD} (hn : nn (otl D 4)) : ∀ k, k ≤ 4 → ∀ q, q < k → tri (otl D k) q
  | 0, _ => fun q hq => absurd hq (Nat.not_lt_zero q)
  | k + 1, hk => tri_row (by omega) (fun t ht => by
      have h1 : nn (otl D k) := nn_mono (by
        have := otl_le2 D k (4 - k)
        rw [show k + (4 - k) = 4 by omega] at this
        exact this) hn
      exact h1 k (by omega) t ht) (tri_otl hn k (by omega))
theorem clo_otl {D : OD} (hn : nn (otl D 4)) : clo (otl D 4) := fun k hk => tri_otl hn 4 (Nat.le_refl _) k hk
theorem ost_clo {D : OD} (h : clo D) {k c : Nat} (hk : k < 4) (hc : c < 16) : ost k c D = D := by
  funext i
  by_cases e : i = c
  · subst e
    rw [ost_at]
    have h1 := h k hk (i / 4) (by omega) (i % 4) (by omega)
    rw [show 4 * (i / 4) + i % 4 = i by omega] at h1
    exact omin_eq_l h1
  · exact ost_ne k e D
theorem orow_clo {D : OD} (h : clo D) {k : Nat} (hk : k < 4) : ∀ c, c ≤ 16 → orow k D c = D
  | 0, _ => rfl
  | c + 1, hc => by
    unfold orow
    rw [orow_clo h hk c (by omega), ost_clo h hk (by omega)]
theorem otl_clo {D : OD} (h : clo D) : ∀ k, k ≤ 4 → otl D k = D
  | 0, _ => rfl
  | k + 1, hk => by
    unfold otl
    rw [otl_clo h k (by omega), orow_clo h (by omega) 16 (Nat.le_refl _)]
theorem otl_idem {D : OD} (hn : nn (otl D 4)) : otl (otl D 4) 4 = otl D 4 := otl_clo (clo_otl hn) 4 (Nat.le_refl _)
/-- the least moment of a closed row -/
def mx (D : OD) (i : Nat) : Int := -((D (12 + i)).getD 0)
theorem sat_mx {D : OD} (h : clo D) (hz : ∀ i, i < 4 → ∃ t, D (12 + i) = some t) : sat D (mx D) := fun i hi j hj t ht => by
  obtain ⟨a, ha⟩ := hz i hi
  obtain ⟨b, hb⟩ := hz j hj
  have h1 := h i hi 3 (by decide) j hj
  rw [show 4 * 3 + j = 12 + j by omega, show 4 * 3 + i = 12 + i by omega, ha, hb, ht] at h1
  have h1 : b ≤ a + t := h1
  unfold mx
  rw [ha, hb]
  show -a - -b ≤ t
  omega
/-- the ZERO row is there -/
def zr0 (D : OD) : Prop := ∀ i, i < 4 → ∃ t, D (12 + i) = some t
theorem zr0_le {D E : OD} (h : dle D E) (hz : zr0 E) : zr0 D := fun i hi => by
  obtain ⟨t, ht⟩ := hz i hi
  have h1 := h (12 + i) (by omega)
  rw [ht] at h1
  obtain ⟨s, e, _⟩ := ole_some h1
  exact ⟨s, e⟩
theorem nn_sat {D : OD} (hz : zr0 D) (hn : nn (otl D 4)) : sat D (mx (otl D 4)) := (sat_iff D _).mp (sat_mx (clo_otl hn) (zr0_le (otl_le D 4) hz))
theorem sat_nn4 {D : OD} {x : Nat → Int} (hs : sat D x) : nn (otl D 4) := sat_nn (sat_otl hs 4 (Nat.le_refl _))
theorem otl_least {D E : OD} (h : dle E D) (hc : clo E) : dle E (otl D 4) := by
  have h1 := otl_mono h 4 (Nat.le_refl _)
  rw [otl_clo hc 4 (Nat.le_refl _)] at h1
  exact h1
/-! bounds from below of a closed row -/
theorem lo2_row {m : Int} (hm : m ≤ 0) {k : Nat} (hk : k < 4) {D : OD} (h0 : ∀ t, D (5 * k) = some t → 0 ≤ t) (h : ∀ i, i < 16 → ∀ t, D i = some t → m ≤ t) : ∀ i, i < 16 → ∀ t, orow k D 16 i = some t → 2 * m ≤ t := fun i hi t ht => by
  rw [orow_eq hk h0 16 (Nat.le_refl _) i hi, if_pos hi] at ht
  rcases omin_cases (D i) (oadd (D (4 * (i / 4) + k)) (D (4 * k + i % 4))) with e | e
  · rw [e] at ht
    have := h i hi t ht
    omega
  · rw [e] at ht
    obtain ⟨a, b, ha, hb, rfl⟩ := oadd_some ht
    have h1 := h _ (by omega) a ha
    have h2 := h _ (by omega) b hb
    omega
theorem lo16 {m : Int} (hm : m ≤ 0) {D : OD} (hn : nn (otl D 4)) (h : ∀ i, i < 16 → ∀ t, D i = some t → m ≤ t) : ∀ i, i < 16 → ∀ t, otl D 4 i = some t → 16 * m ≤ t := by
  have N : ∀ k, k < 4 → ∀ t, otl D k (5 * k) = some t → 0 ≤ t := fun k hk t ht => by
    have h1 : nn (otl D k) := nn_mono (by
      have := otl_le2 D k (4 - k)
      rw [show k + (4 - k) = 4 by omega] at this
      exact this) hn
    exact h1 k hk t ht
  have h1 := lo2_row hm (k := 0) (by decide) (N 0 (by decide)) h
  have h2 := lo2_row (m := 2 * m) (by omega) (k := 1) (by decide) (N 1 (by decide)) h1
  have h3 := lo2_row (m := 2 * (2 * m)) (by omega) (k := 2) (by decide) (N 2 (by decide)) h2
  have h4 := lo2_row (m := 2 * (2 * (2 * m))) (by omega) (k := 3) (by decide) (N 3 (by decide)) h3
  intro i hi t ht
  have := h4 i hi t ht
  omega
