/-! what the acts do to bounds -/
def oset (D : OD) (m : Nat) (x : Option Int) : OD := fun i => if i = m then x else D i
def oreset (D : OD) (c : Nat) (v : Int) : OD := fun m => if m / 4 = c ∧ m % 4 ≠ c then oadd (some v) (D (12 + m % 4)) else if m % 4 = c ∧ m / 4 ≠ c then oadd (D (4 * (m / 4) + 3)) (some (-v)) else D m
def odelay (D : OD) : OD := fun m => if m % 4 = 3 ∧ m / 4 < 3 then none else D m
def oback (D : OD) : OD := fun m => if m / 4 = 3 ∧ m % 4 < 3 then omin (omin (omin (some 0) (D (m % 4))) (D (4 + m % 4))) (D (8 + m % 4)) else D m
def ofree (D : OD) (c : Nat) : OD := fun m => if m / 4 = c ∧ m % 4 ≠ c then none else if m % 4 = c ∧ m / 4 ≠ c then D (4 * (m / 4) + 3) else D m
def ocopy (D : OD) (c f : Nat) : OD := fun m => if m / 4 = c ∧ m % 4 ≠ c then D (4 * f + m % 4) else if m % 4 = c ∧ m / 4 ≠ c then D (4 * (m / 4) + f) else D m
def oshift (D : OD) (c : Nat) (b : Int) : OD := fun m => if m / 4 = c ∧ m % 4 ≠ c then oadd (D m) (some b) else if m % 4 = c ∧ m / 4 ≠ c then oadd (D m) (some (-b)) else D m
def owid1 : Option Int → Option Int
  | none => none
  | some t => if 9 < t then none else some (if t < -10 then -10 else t)
def owiden (D : OD) : OD := fun m => owid1 (D m)
def omax : Option Int → Option Int → Option Int
  | some a, some b => some (if a < b then b else a)
  | _, _ => none
def omeet (D E : OD) : OD := fun m => omin (D m) (E m)
def owrap (D E : OD) : OD := fun m => omax (D m) (E m)
/-- upper bounds of the clocks, lower bounds of them -/
def okeep (D : OD) (u : Nat → Option Int) : OD := fun m => if m % 4 = 3 ∧ m / 4 < 3 then omin (D m) (u (m / 4)) else D m
def olow (D : OD) (l : Nat → Int) : OD := fun m => if m / 4 = 3 ∧ m % 4 < 3 then omin (D m) (some (-(l (m % 4)))) else D m
theorem m4 {i j : Nat} (hj : j < 4) : (4 * i + j) / 4 = i ∧ (4 * i + j) % 4 = j := ⟨by omega, by omega⟩
/-- the diagonal is nought -/
def dg0 (D : OD) : Prop := ∀ k, k < 4 → D (5 * k) = some 0
theorem dg0_nn {D : OD} (h : dg0 D) : nn D := fun j hj t ht => by
  rw [h j hj] at ht
  cases ht
  exact Int.le_refl 0
theorem dg0_otl {D : OD} (h : dg0 D) (hn : nn (otl D 4)) : dg0 (otl D 4) := fun k hk => by
  have h1 := otl_le D 4 (5 * k) (by omega)
  rw [h k hk] at h1
  obtain ⟨s, e, hs⟩ := ole_some h1
  have := hn k hk s e
  rw [e, show s = 0 by omega]
theorem sat_reset {D : OD} {c : Nat} {v : Int} (hc : c < 3) (hd : dg0 D) {x : Nat → Int} (hs : sat D x) : sat (oreset D c v) (fun i => if i = c then x 3 + v else x i) := fun i hi j hj t ht => by
  unfold oreset at ht
  rw [(m4 hj).1, (m4 hj).2] at ht
  show (if i = c then x 3 + v else x i) - (if j = c then x 3 + v else x j) ≤ t
  by_cases h1 : i = c ∧ j ≠ c
  · rw [if_pos h1] at ht
    obtain ⟨a, b, ha, hb, rfl⟩ := oadd_some ht
    cases ha
    have := hs 3 (by decide) j hj b hb
    rw [if_pos h1.1, if_neg h1.2]
    omega
  · rw [if_neg h1] at ht
    by_cases h2 : j = c ∧ i ≠ c
    · rw [if_pos h2] at ht
      obtain ⟨a, b, ha, hb, rfl⟩ := oadd_some ht
      cases hb
      have := hs i hi 3 (by decide) a ha
      rw [if_pos h2.1, if_neg h2.2]
      omega
    · rw [if_neg h2] at ht
      by_cases hi2 : i = c
      · have hj2 : j = c := Classical.byContradiction fun q => h1 ⟨hi2, q⟩
        subst hi2
        subst hj2
        have := hs j hi j hj t ht
        rw [if_pos rfl]
        omega
      · have hj2 : j ≠ c := fun q => h2 ⟨q, hi2⟩
        rw [if_neg hi2, if_neg hj2]
        exact hs i hi j hj t ht
theorem dle_delay (D : OD) : dle D (odelay D) := fun m _ => by
  unfold odelay
  split
  · cases D m <;> exact True.intro
  · exact ole_refl _
theorem sat_free {D : OD} {c : Nat} (hc : c < 3) {x : Nat → Int} (hs : sat D x) : sat (ofree D c) (fun i => if i = c then x 3 else x i) := fun i hi j hj t ht => by
  unfold ofree at ht
  rw [(m4 hj).1, (m4 hj).2] at ht
  show (if i = c then x 3 else x i) - (if j = c then x 3 else x j) ≤ t
  by_cases h1 : i = c ∧ j ≠ c
  · rw [if_pos h1] at ht
    cases ht
  · rw [if_neg h1] at ht
    by_cases h2 : j = c ∧ i ≠ c
    · rw [if_pos h2] at ht
      have := hs i hi 3 (by decide) t ht
      rw [if_pos h2.1, if_neg h2.2]
      omega
    · rw [if_neg h2] at ht
      by_cases hi2 : i = c
      · have hj2 : j = c := Classical.byContradiction fun q => h1 ⟨hi2, q⟩
        subst hi2
        subst hj2
        have := hs j hi j hj t ht
        rw [if_pos rfl]
        omega
      · have hj2 : j ≠ c := fun q => h2 ⟨q, hi2⟩
        rw [if_neg hi2, if_neg hj2]
        exact hs i hi j hj t ht
theorem back_at {D : OD} {c : Nat} (hc : c < 3) : oback D (12 + c) = omin (omin (omin (some 0) (D c)) (D (4 + c))) (D (8 + c)) := by
  unfold oback
  rw [show (12 + c) / 4 = 3 by omega, show (12 + c) % 4 = c by omega, if_pos ⟨rfl, hc⟩]
theorem back_ne {D : OD} {m : Nat} (h : m < 12 ∨ m = 15) : oback D m = D m := by
  unfold oback
  rw [if_neg (by omega)]
theorem back_le {D : OD} {c : Nat} (hc : c < 3) : ole (oback D (12 + c)) (some 0) := by
  rw [back_at hc]
  exact ole_trans (omin_le_l _ _) (ole_trans (omin_le_l _ _) (omin_le_l _ _))
theorem omin_some {a b : Option Int} {t : Int} (h : omin a b = some t) : a = some t ∨ b = some t := by
  rcases omin_cases a b with e | e <;> rw [e] at h
  · exact Or.inl h
  · exact Or.inr h
theorem back_some {D : OD} {c : Nat} (hc : c < 3) {t : Int} (h : oback D (12 + c) = some t) : t = 0 ∨ ∃ i, i < 3 ∧ D (4 * i + c) = some t := by
  rw [back_at hc] at h
  rcases omin_some h with h | h
  · rcases omin_some h with h | h
    · rcases omin_some h with h | h
      · cases h
        exact Or.inl rfl
      · exact Or.inr ⟨0, by decide, by rw [show 4 * 0 + c = c by omega]; exact h⟩
    · exact Or.inr ⟨1, by decide, h⟩
  · exact Or.inr ⟨2, by decide, h⟩
theorem exists_min3 (x : Nat → Int) : ∃ v, v ≤ x 0 ∧ v ≤ x 1 ∧ v ≤ x 2 ∧ (v = x 0 ∨ v = x 1 ∨ v = x 2) := by
  by_cases h : x 0 ≤ x 1
  · by_cases h2 : x 0 ≤ x 2
    · exact ⟨x 0, by omega, by omega, by omega, Or.inl rfl⟩
    · exact ⟨x 2, by omega, by omega, by omega, Or.inr (Or.inr rfl)⟩
  · by_cases h2 : x 1 ≤ x 2
    · exact ⟨x 1, by omega, by omega, by omega, Or.inr (Or.inl rfl)⟩
    · exact ⟨x 2, by omega, by omega, by omega, Or.inr (Or.inr rfl)⟩
theorem sat_back {D : OD} (hd : dg0 D) (hz : ∀ j, j < 3 → ∃ t, D (12 + j) = some t ∧ t ≤ 0) {x : Nat → Int} (hs : sat D x) : ∃ y, sat (oback D) y := by
  obtain ⟨v, v0, v1, v2, ve⟩ := exists_min3 x
  have xg : ∀ c, c < 3 → x 3 ≤ x c := fun c hc => by
    obtain ⟨t, ht, h0⟩ := hz c hc
    have := hs 3 (by decide) c (by omega) t ht
    omega
  have vx : x 3 ≤ v := by
    have a := xg 0 (by decide)
    have b := xg 1 (by decide)
    have c := xg 2 (by decide)
    omega
  have vc : ∀ c, c < 3 → v ≤ x c := fun c hc => by
    match c, hc with
    | 0, _ => exact v0
    | 1, _ => exact v1
    | 2, _ => exact v2
  refine ⟨fun i => if i = 3 then v else x i, fun i hi j hj t ht => ?_⟩
  show (if i = 3 then v else x i) - (if j = 3 then v else x j) ≤ t
  by_cases h3 : i = 3
  · subst h3
    rw [if_pos rfl]
    by_cases j3 : j = 3
    · subst j3
      rw [back_ne (by omega)] at ht
      rw [show 4 * 3 + 3 = 5 * 3 by omega, hd 3 (by decide)] at ht
      cases ht
      rw [if_pos rfl]
      omega
    · rw [if_neg j3]
      have hj3 : j < 3 := by omega
      rw [show 4 * 3 + j = 12 + j by omega] at ht
      have := vc j hj3
      rcases back_some hj3 ht with rfl | ⟨i, hi3, e⟩
      · omega
      · have h1 := hs i (by omega) j hj t e
        have h2 := vc i hi3
        omega
  · rw [if_neg h3]
    rw [back_ne (by omega)] at ht
    have h1 := hs i hi j hj t ht
    by_cases j3 : j = 3
    · subst j3
      rw [if_pos rfl]
      omega
    · rw [if_neg j3]
      exact h1
/-- rows that are another row by the names of their clocks, or shifted: closed like it -/
theorem clo_of {D E : OD} (g : Nat → Nat) (w : Nat → Int) (hg : ∀ i, i < 4 → g i < 4) (he : ∀ i, i < 4 → ∀ j, j < 4 → E (4 * i + j) = oadd (D (4 * g i + g j)) (some (w i - w j))) (hc : clo D) : clo E := fun k hk i hi j hj => by
  rw [he i hi j hj, he i hi k hk, he k hk j hj]
  have h := hc (g k) (hg k hk) (g i) (hg i hi) (g j) (hg j hj)
  cases hb : oadd (oadd (D (4 * g i + g k)) (some (w i - w k))) (oadd (D (4 * g k + g j)) (some (w k - w j))) with
  | none => exact (by cases oadd (D (4 * g i + g j)) (some (w i - w j)) <;> exact True.intro)
  | some t =>
    obtain ⟨p, q, hp, hq, rfl⟩ := oadd_some hb
    obtain ⟨a, a', ha, ha', rfl⟩ := oadd_some hp
    obtain ⟨b, b', hb1, hb2, rfl⟩ := oadd_some hq
    cases ha'
    cases hb2
    rw [ha, hb1] at h
    obtain ⟨s, e, hl⟩ := ole_some (show ole (D (4 * g i + g j)) (some (a + b)) from h)
    rw [e]
    show s + (w i - w j) ≤ a + (w i - w k) + (b + (w k - w j))
    omega
theorem oadd_zero (a : Option Int) : oadd a (some 0) = a := by
  cases a with
  | none => rfl
  | some x => exact congrArg some (Int.add_zero x)
theorem copy_at {D : OD} {c f : Nat} (hd : dg0 D) (hc : c < 4) (hf : f < 4) {i j : Nat} (hi : i < 4) (hj : j < 4) : ocopy D c f (4 * i + j) = D (4 * (if i = c then f else i) + (if j = c then f else j)) := by
  unfold ocopy
  rw [(m4 hj).1, (m4 hj).2]
  by_cases h1 : i = c
  · subst h1
    by_cases h2 : j = i
    · subst h2
      rw [if_neg (by omega), if_neg (by omega), if_pos rfl, show 4 * j + j = 5 * j by omega, show 4 * f + f = 5 * f by omega, hd j hj, hd f hf]
    · rw [if_pos ⟨rfl, h2⟩, if_pos rfl, if_neg h2]
  · rw [if_neg (by omega), if_neg h1]
    by_cases h2 : j = c
    · rw [if_pos ⟨h2, h1⟩, if_pos h2]
    · rw [if_neg (by omega), if_neg h2]
theorem clo_copy {D : OD} {c f : Nat} (hd : dg0 D) (hc : c < 4) (hf : f < 4) (h : clo D) : clo (ocopy D c f) := clo_of (fun i => if i = c then f else i) (fun _ => 0) (fun i hi => by show (if i = c then f else i) < 4; split <;> omega) (fun i hi j hj => by
  rw [copy_at hd hc hf hi hj]
  exact (oadd_zero _).symm) h
theorem shift_at {D : OD} {c : Nat} {b : Int} (hc : c < 4) {i j : Nat} (hi : i < 4) (hj : j < 4) : oshift D c b (4 * i + j) = oadd (D (4 * i + j)) (some ((if i = c then b else 0) - (if j = c then b else 0))) := by
  unfold oshift
  rw [(m4 hj).1, (m4 hj).2]
  by_cases h1 : i = c
  · by_cases h2 : j = c
    · rw [if_neg (by omega), if_neg (by omega), if_pos h1, if_pos h2, Int.sub_self, oadd_zero]
    · rw [if_pos ⟨h1, h2⟩, if_pos h1, if_neg h2, Int.sub_zero]
  · rw [if_neg (by omega), if_neg h1]
    by_cases h2 : j = c
    · rw [if_pos ⟨h2, h1⟩, if_pos h2, Int.zero_sub]
    · rw [if_neg (by omega), if_neg h2, Int.sub_self, oadd_zero]
theorem clo_shift {D : OD} {c : Nat} {b : Int} (hc : c < 4) (h : clo D) : clo (oshift D c b) := clo_of (fun i => i) (fun i => if i = c then b else 0) (fun i hi => hi) (fun i hi j hj => shift_at hc hi hj) h
theorem omax_le {a b c : Option Int} (h1 : ole a c) (h2 : ole b c) : ole (omax a b) c := by
  cases c with
  | none => cases omax a b <;> exact True.intro
  | some z =>
    obtain ⟨x, rfl, hx⟩ := ole_some h1
    obtain ⟨y, rfl, hy⟩ := ole_some h2
    show (if x < y then y else x) ≤ z
    split <;> omega
theorem le_omax_l (a b : Option Int) : ole a (omax a b) := by
  cases a with
  | none => exact True.intro
  | some x =>
    cases b with
    | none => exact True.intro
    | some y =>
      show x ≤ (if x < y then y else x)
      split <;> omega
theorem le_omax_r (a b : Option Int) : ole b (omax a b) := by
  cases a with
  | none => cases b <;> exact True.intro
  | some x =>
    cases b with
    | none => exact True.intro
    | some y =>
      show y ≤ (if x < y then y else x)
      split <;> omega
theorem clo_wrap {D E : OD} (h1 : clo D) (h2 : clo E) : clo (owrap D E) := fun k hk i hi j hj =>
  omax_le (ole_trans (h1 k hk i hi j hj) (oadd_mono (le_omax_l _ _) (le_omax_l _ _))) (ole_trans (h2 k hk i hi j hj) (oadd_mono (le_omax_r _ _) (le_omax_r _ _)))
/-! told rows: what holds of every desk's zone and shelves -/
def LateF (D : OD) : Prop := ∀ c, c < 3 → ∀ t, D (12 + c) = some t → -30 ≤ t
def GZ (D : OD) : Prop := dg0 D ∧ (∀ j, j < 3 → ∃ t, D (12 + j) = some t ∧ t ≤ 0) ∧ (∀ i, i < 16 → ∀ t, D i = some t → -30 ≤ t ∧ t ≤ 999) ∧ (nn (otl D 4) → LateF (otl D 4))
theorem zr_of {D : OD} (hd : dg0 D) (hz : ∀ j, j < 3 → ∃ t, D (12 + j) = some t ∧ t ≤ 0) : zr0 D := fun i hi => by
  match i, hi with
  | 0, _ => exact (hz 0 (by decide)).elim fun t h => ⟨t, h.1⟩
  | 1, _ => exact (hz 1 (by decide)).elim fun t h => ⟨t, h.1⟩
  | 2, _ => exact (hz 2 (by decide)).elim fun t h => ⟨t, h.1⟩
  | 3, _ => exact ⟨0, hd 3 (by decide)⟩
theorem GZ.zr {D : OD} (h : GZ D) : zr0 D := zr_of h.1 h.2.1
theorem GZ.z3 {D : OD} (h : GZ D) : ∀ j, j < 3 → ∃ t, D (12 + j) = some t := fun j hj => (h.2.1 j hj).elim fun t q => ⟨t, q.1⟩
theorem GZ.rep {N : Int32} (hN : 9999 ≤ N.toInt) {d : ZS} {D : OD} (h : GZ D) (hr : rep N d D) : rep N (gtl N d 4) (otl D 4) :=
  rep_gtl hN hr h.1 h.z3 (fun i hi t ht => by have := h.2.2.1 i hi t ht; omega)
/-- closed, not too late: no bound below -30 -/
theorem lo30 {D : OD} (hc : clo D) (hd : dg0 D) (hz : ∀ j, j < 3 → ∃ t, D (12 + j) = some t ∧ t ≤ 0) (hl : LateF D) : ∀ i, i < 16 → ∀ t, D i = some t → -30 ≤ t := fun i hi t ht => by
  have hs := sat_mx hc (zr_of hd hz)
  have h1 := hs (i / 4) (by omega) (i % 4) (by omega) t (by rw [show 4 * (i / 4) + i % 4 = i by omega]; exact ht)
  have hb : ∀ c, c < 4 → 0 ≤ mx D c ∧ mx D c ≤ 30 := fun c hc => by
    by_cases h3 : c = 3
    · subst h3
      unfold mx
      rw [show 12 + 3 = 5 * 3 by omega, hd 3 (by decide)]
      decide
    · obtain ⟨s, e, h0⟩ := hz c (by omega)
      have := hl c (by omega) s e
      unfold mx
      rw [e]
      show 0 ≤ -s ∧ -s ≤ 30
      omega
  have := hb (i / 4) (by omega)
  have := hb (i % 4) (by omega)
  omega
/-- a closed row as a told one -/
theorem GZ_clo {D : OD} (hc : clo D) (hd : dg0 D) (hz : ∀ j, j < 3 → ∃ t, D (12 + j) = some t ∧ t ≤ 0) (hl : LateF D) (hu : ∀ i, i < 16 → ∀ t, D i = some t → t ≤ 999) : GZ D :=
  ⟨hd, hz, fun i hi t ht => ⟨lo30 hc hd hz hl i hi t ht, hu i hi t ht⟩, fun _ => by rw [otl_clo hc 4 (Nat.le_refl _)]; exact hl⟩
theorem zneg_le {D E : OD} (h : dle D E) (hz : ∀ j, j < 3 → ∃ t, E (12 + j) = some t ∧ t ≤ 0) : ∀ j, j < 3 → ∃ t, D (12 + j) = some t ∧ t ≤ 0 := fun j hj => by
  obtain ⟨t, e, h0⟩ := hz j hj
  have h1 := h (12 + j) (by omega)
  rw [e] at h1
  obtain ⟨s, e2, hs⟩ := ole_some h1
  exact ⟨s, e2, by omega⟩
/-- the tight row of a told one that has moments -/
theorem GZ.tight {D : OD} (h : GZ D) (hn : nn (otl D 4)) : clo (otl D 4) ∧ dg0 (otl D 4) ∧ (∀ j, j < 3 → ∃ t, otl D 4 (12 + j) = some t ∧ t ≤ 0) ∧ LateF (otl D 4) ∧ ∀ i, i < 16 → ∀ t, otl D 4 i = some t → -30 ≤ t ∧ t ≤ 2997 := by
  have a := clo_otl hn
  have b := dg0_otl h.1 hn
  have c := zneg_le (otl_le D 4) h.2.1
  have d := h.2.2.2 hn
  refine ⟨a, b, c, d, fun i hi t ht => ⟨lo30 a b c d i hi t ht, ?_⟩⟩
  exact otl_up (U := 999) (by decide) h.1 h.z3 (fun i hi t ht => (h.2.2.1 i hi t ht).2) i hi t ht
