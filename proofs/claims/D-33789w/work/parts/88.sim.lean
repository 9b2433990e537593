/-! bounds as whole numbers or none; what both sides' rows of bounds stand for -/
def gmin (a b : Int32) : Int32 := if b < a then b else a
def gsum (N a b : Int32) : Int32 := if a = N then N else if b = N then N else a + b
def gst (N : Int32) (k c : Nat) (d : ZS) : ZS := upd d c (gmin (d c) (gsum N (d (4 * (c / 4) + k)) (d (4 * k + c % 4))))
def grow (N : Int32) (k : Nat) (d : ZS) : Nat → ZS
  | 0 => d
  | c + 1 => gst N k c (grow N k d c)
def gtl (N : Int32) (d : ZS) : Nat → ZS
  | 0 => d
  | k + 1 => grow N k (gtl N d k) 16
theorem less_min (a b : Int32) : F_X4_less a b = gmin a b := by
  unfold F_X4_less gmin
  by_cases h : b < a
  · rw [if_pos h, if_pos (Int32.le_of_lt h)]
  · rw [if_neg h]
    split
    · rename_i h2
      exact Int32.le_antisymm h2 (Int32.not_lt.mp h)
    · rfl
theorem mstep_g (k c : Nat) (d : ZS) : mstep k c d = gst 100000 k c d := by
  unfold mstep gst
  rw [less_min]
  rfl
theorem mrow_g (k : Nat) (d : ZS) : ∀ c, mrow k d c = grow 100000 k d c
  | 0 => rfl
  | c + 1 => by
    unfold mrow grow
    rw [mrow_g k d c, mstep_g]
theorem mt_g (d : ZS) : ∀ k, mt d k = gtl 100000 d k
  | 0 => rfl
  | k + 1 => by
    unfold mt gtl
    rw [mt_g d k, mrow_g]
theorem zstep_g (k i j : Nat) (hj : j < 4) (d : ZS) : zstep k i j d = gst 9999 k (4 * i + j) d := by
  unfold zstep gst
  rw [show (4 * i + j) / 4 = i by omega, show (4 * i + j) % 4 = j by omega]
  rfl
theorem zr_g (k i : Nat) (d : ZS) {d' : ZS} (hd : d = grow 9999 k d' (4 * i)) : ∀ j, j ≤ 4 → zr k i d j = grow 9999 k d' (4 * i + j)
  | 0, _ => hd
  | j + 1, h => by
    unfold zr
    rw [zr_g k i d hd j (by omega), zstep_g k i j (by omega)]
    rfl
theorem zb_g (k : Nat) (d : ZS) : ∀ i, zb k d i = grow 9999 k d (4 * i)
  | 0 => rfl
  | i + 1 => by
    unfold zb
    rw [zr_g k i (zb k d i) (zb_g k d i) 4 (Nat.le_refl _)]
    rfl
theorem zt_g (d : ZS) : ∀ k, zt d k = gtl 9999 d k
  | 0 => rfl
  | k + 1 => by
    unfold zt gtl
    rw [zt_g d k, zb_g]
abbrev OD : Type := Nat → Option Int
def omin : Option Int → Option Int → Option Int
  | none, y => y
  | x, none => x
  | some a, some b => some (if b < a then b else a)
def oadd : Option Int → Option Int → Option Int
  | some a, some b => some (a + b)
  | _, _ => none
def ost (k c : Nat) (D : OD) : OD := va_up D c (omin (D c) (oadd (D (4 * (c / 4) + k)) (D (4 * k + c % 4))))
def orow (k : Nat) (D : OD) : Nat → OD
  | 0 => D
  | c + 1 => ost k c (orow k D c)
def otl (D : OD) : Nat → OD
  | 0 => D
  | k + 1 => orow k (otl D k) 16
/-- a row of bounds stands for D -/
def rep1 (N : Int32) (x : Int32) : Option Int → Prop
  | none => x = N
  | some t => x.toInt = t ∧ t < 9999
def rep (N : Int32) (d : ZS) (D : OD) : Prop := ∀ i, i < 16 → rep1 N (d i) (D i)
theorem rep1_add {N x y : Int32} (hN : 9999 ≤ N.toInt) {a b : Option Int} (h1 : rep1 N x a) (h2 : rep1 N y b) (ba : ∀ t, a = some t → -100000000 ≤ t) (bb : ∀ t, b = some t → -100000000 ≤ t) : (oadd a b = none ∧ gsum N x y = N) ∨ ∃ t, oadd a b = some t ∧ (gsum N x y).toInt = t := by
  unfold gsum
  cases a with
  | none =>
    left
    have h1 : x = N := h1
    exact ⟨by cases b <;> rfl, by rw [if_pos h1]⟩
  | some s =>
    obtain ⟨h1, h1'⟩ := h1
    have n1 : x ≠ N := fun e => by rw [e] at h1; omega
    rw [if_neg n1]
    cases b with
    | none =>
      left
      have h2 : y = N := h2
      exact ⟨rfl, by rw [if_pos h2]⟩
    | some t =>
      obtain ⟨h2, h2'⟩ := h2
      have n2 : y ≠ N := fun e => by rw [e] at h2; omega
      rw [if_neg n2]
      right
      refine ⟨s + t, rfl, ?_⟩
      have b1 := ba s rfl
      have b2' := bb t rfl
      rw [Int32.toInt_add, h1, h2]
      exact Int.bmod_eq_of_le (by omega) (by omega)
theorem rep1_min {N x y : Int32} (hN : 9999 ≤ N.toInt) {a b : Option Int} (h1 : rep1 N x a) (h2 : (b = none ∧ y = N) ∨ ∃ t, b = some t ∧ y.toInt = t) (hr : ∀ t, omin a b = some t → t < 9999) : rep1 N (gmin x y) (omin a b) := by
  unfold gmin
  rcases h2 with ⟨rfl, rfl⟩ | ⟨t, rfl, h2⟩
  · cases a with
    | none =>
      have h1 : x = y := h1
      subst h1
      show (if x < x then x else x) = x
      split <;> rfl
    | some s =>
      obtain ⟨h1, h1'⟩ := h1
      have : ¬ y < x := fun h => by
        have := Int32.lt_iff_toInt_lt.mp h
        omega
      rw [if_neg this]
      exact ⟨h1, h1'⟩
  · cases a with
    | none =>
      have h1 : x = N := h1
      have hb := hr t rfl
      have : y < x := Int32.lt_iff_toInt_lt.mpr (by rw [h1, h2]; omega)
      rw [if_pos this]
      exact ⟨h2, hb⟩
    | some s =>
      obtain ⟨h1, h1'⟩ := h1
      have hb := hr _ rfl
      by_cases h : y < x
      · have h3 := Int32.lt_iff_toInt_lt.mp h
        rw [if_pos h]
        show rep1 N y (some (if t < s then t else s))
        rw [if_pos (by omega)]
        exact ⟨h2, by rw [if_pos (by omega)] at hb; exact hb⟩
      · have h3 : ¬ y.toInt < x.toInt := fun q => h (Int32.lt_iff_toInt_lt.mpr q)
        rw [if_neg h]
        show rep1 N x (some (if t < s then t else s))
        rw [if_neg (by omega)]
        exact ⟨h1, h1'⟩
theorem rep_gst {N : Int32} (hN : 9999 ≤ N.toInt) {d : ZS} {D : OD} (h : rep N d D) {k c : Nat} (hk : k < 4) (hc : c < 16) (lo : ∀ i, i < 16 → ∀ t, D i = some t → -100000000 ≤ t) (hr : ∀ t, ost k c D c = some t → t < 9999) : rep N (gst N k c d) (ost k c D) := by
  intro i hi
  by_cases e : i = c
  · subst e
    have e1 : gst N k i d i = gmin (d i) (gsum N (d (4 * (i / 4) + k)) (d (4 * k + i % 4))) := by simp [gst, upd]
    have e2 : ost k i D i = omin (D i) (oadd (D (4 * (i / 4) + k)) (D (4 * k + i % 4))) := by simp [ost, va_up]
    rw [e2] at hr
    rw [e1, e2]
    exact rep1_min hN (h i hi) (rep1_add hN (h _ (by omega)) (h _ (by omega)) (lo _ (by omega)) (lo _ (by omega))) hr
  · have e1 : gst N k c d i = d i := by simp [gst, upd, e]
    have e2 : ost k c D i = D i := by simp [ost, va_up, e]
    rw [e1, e2]
    exact h i hi
