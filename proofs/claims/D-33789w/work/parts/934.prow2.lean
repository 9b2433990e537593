/-! the component's rows: resets, delays, frees and their like, by stages -/
def ors1 (c : Nat) (v : Int) (j : Nat) (E : OD) : OD := oset (oset E (4 * c + j) (oadd (some v) (E (12 + j)))) (4 * j + c) (oadd (oset E (4 * c + j) (oadd (some v) (E (12 + j))) (4 * j + 3)) (some (-v)))
def ors (c : Nat) (v : Int) (D : OD) : Nat → OD
  | 0 => D
  | j + 1 => if j = c then ors c v D j else ors1 c v j (ors c v D j)
def odl (D : OD) : Nat → OD
  | 0 => D
  | j + 1 => oset (odl D j) (4 * j + 3) none
def obk (D : OD) : Nat → OD
  | 0 => D
  | j + 1 => oset (obk D j) (12 + j) (omin (omin (omin (some 0) (obk D j j)) (obk D j (4 + j))) (obk D j (8 + j)))
def ofr1 (c j : Nat) (E : OD) : OD := oset (oset E (4 * c + j) none) (4 * j + c) (oset E (4 * c + j) none (4 * j + 3))
def ofr (c : Nat) (D : OD) : Nat → OD
  | 0 => D
  | j + 1 => if j = c then ofr c D j else ofr1 c j (ofr c D j)
def ocp1 (c f j : Nat) (E : OD) : OD := oset (oset E (4 * c + j) (E (4 * f + j))) (4 * j + c) (oset E (4 * c + j) (E (4 * f + j)) (4 * j + f))
def ocp (c f : Nat) (D : OD) : Nat → OD
  | 0 => D
  | j + 1 => if j = c then ocp c f D j else ocp1 c f j (ocp c f D j)
def osh1 (c : Nat) (b : Int) (j : Nat) (E : OD) : OD := oset (oset E (4 * c + j) (oadd (E (4 * c + j)) (some b))) (4 * j + c) (oadd (oset E (4 * c + j) (oadd (E (4 * c + j)) (some b)) (4 * j + c)) (some (-b)))
def osh (c : Nat) (b : Int) (D : OD) : Nat → OD
  | 0 => D
  | j + 1 => if j = c then osh c b D j else osh1 c b j (osh c b D j)
theorem or16 {m : Nat} (h : m < 16) : m = 0 ∨ m = 1 ∨ m = 2 ∨ m = 3 ∨ m = 4 ∨ m = 5 ∨ m = 6 ∨ m = 7 ∨ m = 8 ∨ m = 9 ∨ m = 10 ∨ m = 11 ∨ m = 12 ∨ m = 13 ∨ m = 14 ∨ m = 15 := by omega
theorem or3 {c : Nat} (h : c < 3) : c = 0 ∨ c = 1 ∨ c = 2 := by omega
theorem or4 {c : Nat} (h : c < 4) : c = 0 ∨ c = 1 ∨ c = 2 ∨ c = 3 := by omega
theorem ors_eq {c : Nat} (hc : c < 3) (v : Int) (D : OD) : ∀ m, m < 16 → ors c v D 4 m = oreset D c v m := fun m hm => by
  rcases or3 hc with rfl | rfl | rfl <;> rcases or16 hm with rfl | rfl | rfl | rfl | rfl | rfl | rfl | rfl | rfl | rfl | rfl | rfl | rfl | rfl | rfl | rfl <;> rfl
theorem odl_eq (D : OD) : ∀ m, m < 16 → odl D 3 m = odelay D m := fun m hm => by
  rcases or16 hm with rfl | rfl | rfl | rfl | rfl | rfl | rfl | rfl | rfl | rfl | rfl | rfl | rfl | rfl | rfl | rfl <;> rfl
theorem obk_eq (D : OD) : ∀ m, m < 16 → obk D 3 m = oback D m := fun m hm => by
  rcases or16 hm with rfl | rfl | rfl | rfl | rfl | rfl | rfl | rfl | rfl | rfl | rfl | rfl | rfl | rfl | rfl | rfl <;> rfl
theorem ofr_eq {c : Nat} (hc : c < 3) (D : OD) : ∀ m, m < 16 → ofr c D 4 m = ofree D c m := fun m hm => by
  rcases or3 hc with rfl | rfl | rfl <;> rcases or16 hm with rfl | rfl | rfl | rfl | rfl | rfl | rfl | rfl | rfl | rfl | rfl | rfl | rfl | rfl | rfl | rfl <;> rfl
theorem ocp_eq {c f : Nat} (hc : c < 3) (hf : f < 3) (hn : c ≠ f) (D : OD) : ∀ m, m < 16 → ocp c f D 4 m = ocopy D c f m := fun m hm => by
  rcases or3 hc with rfl | rfl | rfl <;> rcases or3 hf with rfl | rfl | rfl <;> first
    | exact absurd rfl hn
    | (rcases or16 hm with rfl | rfl | rfl | rfl | rfl | rfl | rfl | rfl | rfl | rfl | rfl | rfl | rfl | rfl | rfl | rfl <;> rfl)
theorem osh_eq {c : Nat} (hc : c < 3) (b : Int) (D : OD) : ∀ m, m < 16 → osh c b D 4 m = oshift D c b m := fun m hm => by
  rcases or3 hc with rfl | rfl | rfl <;> rcases or16 hm with rfl | rfl | rfl | rfl | rfl | rfl | rfl | rfl | rfl | rfl | rfl | rfl | rfl | rfl | rfl | rfl <;> rfl
theorem i32inj {a b : Nat} (ha : a ≤ 20000) (hb : b ≤ 20000) (h : I32 a = I32 b) : a = b := by
  have h1 := (i32le ha hb).mp (by rw [h]; exact Int32.le_refl _)
  have h2 := (i32le hb ha).mp (by rw [h]; exact Int32.le_refl _)
  omega
theorem oadd_bd {a b : Option Int} {lo hi lo' hi' : Int} (h1 : ∀ t, a = some t → lo ≤ t ∧ t ≤ hi) (h2 : ∀ t, b = some t → lo' ≤ t ∧ t ≤ hi') : ∀ t, oadd a b = some t → lo + lo' ≤ t ∧ t ≤ hi + hi' := fun t ht => by
  obtain ⟨x, y, hx, hy, rfl⟩ := oadd_some ht
  have := h1 x hx
  have := h2 y hy
  omega
/-- one addition within a row -/
theorem rep1_s2 {N x y : Int32} (hN : 9999 ≤ N.toInt) {a b : Option Int} (h1 : rep1 N x a) (h2 : rep1 N y b) {lo hi lo' hi' : Int} (b1 : ∀ t, a = some t → lo ≤ t ∧ t ≤ hi) (b2 : ∀ t, b = some t → lo' ≤ t ∧ t ≤ hi') (hl : -90000 ≤ lo) (hh : hi ≤ 9500) (hl' : -90000 ≤ lo') (hh' : hi' ≤ 100) : rep1 N (gsum N x y) (oadd a b) :=
  rep1_sum hN h1 h2 (fun t ht => by have := b1 t ht; omega) (fun t ht => by have := b2 t ht; omega) (fun t ht => by have := oadd_bd b1 b2 t ht; omega)
theorem gsum_comm (N x y : Int32) : gsum N x y = gsum N y x := by
  unfold gsum
  by_cases h1 : x = N
  · rw [if_pos h1]
    split <;> rfl
  · rw [if_neg h1]
    by_cases h2 : y = N
    · rw [if_pos h2, if_pos h2]
    · rw [if_neg h2, if_neg h2, if_neg h1, Int32.add_comm]
theorem p_resets {c : Nat} (hc : c < 3) {v : Int32} {w : Int} (hv : v.toInt = w) (hw : 0 ≤ w ∧ w ≤ 9) {d : ZS} {D : OD} (hr : rep 9999 d D) (hb : bd (-70000) 9000 D) : ∃ d', P_X3_resets (I32 c) v d = some d' ∧ rep 9999 d' (oreset D c w) := by
  have rv : rep1 9999 v (some w) := ⟨hv, by omega⟩
  have rn : rep1 9999 (-v) (some (-w)) := ⟨by rw [toInt_negS (by omega), hv], by omega⟩
  have bv : ∀ t, (some w : Option Int) = some t → 0 ≤ t ∧ t ≤ 9 := fun t ht => by cases ht; exact hw
  have bn : ∀ t, (some (-w) : Option Int) = some t → -9 ≤ t ∧ t ≤ 0 := fun t ht => by cases ht; omega
  have L : ∃ d', lp (fun z => P_X3_resets_B2 (I32 c) v z.1 z.2) 100000 ((0 : Int32), d) = some d' ∧ rep 9999 d' (oreset D c w) := by
    refine lp_inv0 (fun j y => y.1 = I32 j ∧ rep 9999 y.2 (ors c w D j) ∧ bd (-70000 - 18 * j) (9000 + 18 * j) (ors c w D j)) 4 (fun j hj y hy => ?_) (fun y hy => ?_) ⟨rfl, hr, hb.mono (by omega) (by omega)⟩ (by decide)
    · obtain ⟨i, x⟩ := y
      obtain ⟨rfl, hx, hbx⟩ := hy
      show ∃ z, P_X3_resets_B2 (I32 c) v (I32 j) x = _ ∧ _
      unfold P_X3_resets_B2
      rw [if_neg (zi3 j hj)]
      by_cases e : j = c
      · subst e
        rw [if_pos rfl, zi4 j hj]
        refine ⟨_, rfl, rfl, ?_, ?_⟩
        · show rep 9999 x (if j = j then ors j w D j else _)
          rw [if_pos rfl]
          exact hx
        · show bd _ _ (if j = j then ors j w D j else _)
          rw [if_pos rfl]
          exact hbx.mono (by omega) (by omega)
      · rw [if_neg (fun q => e (i32inj (by omega) (by omega) q)), c3, p_at (i := 3) (by decide) hj, bind_some9, p_sets (by omega) hj, bind_some9, p_at (j := 3) hj (by decide), bind_some9, p_sets hj (by omega), bind_some9, zi4 j hj]
        have s1 : rep 9999 (upd x (4 * c + j) (F_X3_sum v (x (4 * 3 + j)))) (oset (ors c w D j) (4 * c + j) (oadd (some w) (ors c w D j (12 + j)))) := rep_set hx _ (by
          rw [sum_g, gsum_comm, oadd_comm]
          exact rep1_s2 n9 (hx (12 + j) (by omega)) rv (hbx (12 + j) (by omega)) bv (by omega) (by omega) (by omega) (by omega))
        have t1 : bd (-70000 - 18 * j) (9000 + 18 * j + 9) (oset (ors c w D j) (4 * c + j) (oadd (some w) (ors c w D j (12 + j)))) := bd_set (hbx.mono (by omega) (by omega)) _ (fun t ht => by
          rw [oadd_comm] at ht
          have := oadd_bd (hbx (12 + j) (by omega)) bv t ht
          omega)
        have eq : ors c w D (j + 1) = ors1 c w j (ors c w D j) := if_neg e
        refine ⟨_, rfl, rfl, ?_, ?_⟩
        · rw [eq]
          exact rep_set s1 _ (by
            rw [sum_g]
            exact rep1_s2 n9 (s1 (4 * j + 3) (by omega)) rn (t1 (4 * j + 3) (by omega)) bn (by omega) (by omega) (by omega) (by omega))
        · rw [eq]
          exact bd_set (t1.mono (by omega) (by omega)) _ (fun t ht => by
            have := oadd_bd (t1 (4 * j + 3) (by omega)) bn t ht
            omega)
    · obtain ⟨i, x⟩ := y
      obtain ⟨rfl, hx, hbx⟩ := hy
      exact ⟨x, by
        show P_X3_resets_B2 (I32 c) v (I32 4) x = _
        unfold P_X3_resets_B2
        rw [if_pos (by decide)], rep_congr hx (ors_eq hc w D)⟩
  obtain ⟨d', e, h⟩ := L
  refine ⟨d', ?_, h⟩
  unfold P_X3_resets
  rw [e]
  rfl
/-- how many clocks have an upper bound -/
def c01 : Option Int → Int32
  | none => 0
  | some _ => 1
def ocnt (D : OD) : Nat → Int32
  | 0 => 0
  | j + 1 => ocnt D j + c01 (D (4 * j + 3))
theorem cnt_ite {N x : Int32} (hN : 9999 ≤ N.toInt) {a : Option Int} (h : rep1 N x a) : (if x = N then (0 : Int32) else (1 : Int32)) = c01 a := by
  cases a with
  | none =>
    have h : x = N := h
    rw [if_pos h]
    rfl
  | some t =>
    obtain ⟨h1, h2⟩ := h
    rw [if_neg (fun e => by rw [e] at h1; omega)]
    rfl
theorem odl_up (D : OD) : ∀ j, ∀ i, j ≤ i → odl D j (4 * i + 3) = D (4 * i + 3)
  | 0, _, _ => rfl
  | j + 1, i, h => by
    show oset (odl D j) (4 * j + 3) none (4 * i + 3) = _
    unfold oset
    rw [if_neg (by omega), odl_up D j i (by omega)]
theorem p_delays {d : ZS} {D : OD} (hr : rep 9999 d D) : ∃ d', P_X3_delays d = some (ocnt D 3, d') ∧ rep 9999 d' (odelay D) := by
  have L : ∃ r, lp (fun z => P_X3_delays_B4 z.1 z.2.1 z.2.2) 100000 ((0 : Int32), (0 : Int32), d) = some r ∧ (r.1 = ocnt D 3 ∧ rep 9999 r.2 (odelay D)) := by
    refine lp_inv0 (fun j y => y.1 = ocnt D j ∧ y.2.1 = I32 j ∧ rep 9999 y.2.2 (odl D j)) 3 (fun j hj y hy => ?_) (fun y hy => ?_) ⟨rfl, rfl, hr⟩ (by decide)
    · obtain ⟨k, i, x⟩ := y
      obtain ⟨rfl, rfl, hx⟩ := hy
      have h3 : ¬ (3 : Int32) ≤ I32 j := fun q => by
        rw [c3, i32le (by decide) (by omega)] at q
        omega
      show ∃ z, P_X3_delays_B4 (ocnt D j) (I32 j) x = _ ∧ _
      unfold P_X3_delays_B4
      rw [if_neg h3, c3, p_at (j := 3) (by omega) (by decide), bind_some9, p_sets (j := 3) (by omega) (by decide), bind_some9, zi4 j (by omega)]
      refine ⟨_, rfl, ?_, rfl, rep_set hx _ rfl⟩
      have h1 := hx (4 * j + 3) (by omega)
      rw [odl_up D j j (Nat.le_refl _)] at h1
      show ocnt D j + (if x (4 * j + 3) = 9999 then (0 : Int32) else (1 : Int32)) = ocnt D (j + 1)
      rw [cnt_ite n9 h1]
      rfl
    · obtain ⟨k, i, x⟩ := y
      obtain ⟨rfl, rfl, hx⟩ := hy
      exact ⟨(ocnt D 3, x), by
        show P_X3_delays_B4 (ocnt D 3) (I32 3) x = _
        unfold P_X3_delays_B4
        rw [if_pos (by decide)], rfl, rep_congr hx (odl_eq D)⟩
  obtain ⟨⟨k, d'⟩, e, rfl, h⟩ := L
  refine ⟨d', ?_, h⟩
  unfold P_X3_delays
  rw [e]
  rfl
theorem p_goesBack {d : ZS} {D : OD} (hr : rep 9999 d D) : ∃ d', P_X3_goesBack d = some d' ∧ rep 9999 d' (oback D) := by
  have L : ∃ r, lp (fun z => P_X3_goesBack_B2 z.1 z.2) 100000 ((0 : Int32), d) = some r ∧ rep 9999 r (oback D) := by
    refine lp_inv0 (fun j y => y.1 = I32 j ∧ rep 9999 y.2 (obk D j)) 3 (fun j hj y hy => ?_) (fun y hy => ?_) ⟨rfl, hr⟩ (by decide)
    · obtain ⟨i, x⟩ := y
      obtain ⟨rfl, hx⟩ := hy
      have h3 : ¬ (3 : Int32) ≤ I32 j := fun q => by
        rw [c3, i32le (by decide) (by omega)] at q
        omega
      have I : lp (fun z => P_X3_goesBack_B11 (I32 j) z.1 z.2 x) 100000 ((0 : Int32), (0 : Int32)) = some (gmin (gmin (gmin 0 (x j)) (x (4 + j))) (x (8 + j))) := by
        have h := lp_for0 (B := fun z => P_X3_goesBack_B11 (I32 j) z.1 z.2 x) (r := gmin (gmin (gmin 0 (x j)) (x (4 + j))) (x (8 + j))) (fun k => ((match k with | 0 => 0 | 1 => gmin 0 (x j) | 2 => gmin (gmin 0 (x j)) (x (4 + j)) | _ => gmin (gmin (gmin 0 (x j)) (x (4 + j))) (x (8 + j)) : Int32), I32 k)) 3 (fun k hk => by
          have h3 : ¬ (3 : Int32) ≤ I32 k := fun q => by
            rw [c3, i32le (by decide) (by omega)] at q
            omega
          show P_X3_goesBack_B11 (I32 j) _ (I32 k) x = _
          unfold P_X3_goesBack_B11
          rw [if_neg h3, p_at (by omega) (by omega), bind_some9, zi4 k (by omega)]
          rcases or3 hk with rfl | rfl | rfl
          · rw [show 4 * 0 + j = j by omega]; rfl
          · rfl
          · rfl) (by
          show P_X3_goesBack_B11 (I32 j) _ (I32 3) x = _
          unfold P_X3_goesBack_B11
          rw [if_pos (by decide)]
          rfl) 100000 (by decide)
        exact h
      show ∃ z, P_X3_goesBack_B2 (I32 j) x = _ ∧ _
      unfold P_X3_goesBack_B2
      rw [if_neg h3, I, bind_some9, c3, p_sets (i := 3) (by decide) (by omega), bind_some9, zi4 j (by omega), show 4 * 3 + j = 12 + j by omega]
      refine ⟨_, rfl, rfl, rep_set hx _ ?_⟩
      exact rep1_cmin n9 (rep1_cmin n9 (rep1_cmin n9 ⟨rfl, by decide⟩ (hx j (by omega))) (hx (4 + j) (by omega))) (hx (8 + j) (by omega))
    · obtain ⟨i, x⟩ := y
      obtain ⟨rfl, hx⟩ := hy
      exact ⟨x, by
        show P_X3_goesBack_B2 (I32 3) x = _
        unfold P_X3_goesBack_B2
        rw [if_pos (by decide)], rep_congr hx (obk_eq D)⟩
  obtain ⟨d', e, h⟩ := L
  refine ⟨d', ?_, h⟩
  unfold P_X3_goesBack
  rw [e]
  rfl
theorem p_frees {c : Nat} (hc : c < 3) {d : ZS} {D : OD} (hr : rep 9999 d D) : ∃ d', P_X3_frees (I32 c) d = some d' ∧ rep 9999 d' (ofree D c) := by
  have L : ∃ d', lp (fun z => P_X3_frees_B2 (I32 c) z.1 z.2) 100000 ((0 : Int32), d) = some d' ∧ rep 9999 d' (ofree D c) := by
    refine lp_inv0 (fun j y => y.1 = I32 j ∧ rep 9999 y.2 (ofr c D j)) 4 (fun j hj y hy => ?_) (fun y hy => ?_) ⟨rfl, hr⟩ (by decide)
    · obtain ⟨i, x⟩ := y
      obtain ⟨rfl, hx⟩ := hy
      show ∃ z, P_X3_frees_B2 (I32 c) (I32 j) x = _ ∧ _
      unfold P_X3_frees_B2
      rw [if_neg (zi3 j hj)]
      by_cases e : j = c
      · subst e
        rw [if_pos rfl, zi4 j hj]
        refine ⟨_, rfl, rfl, ?_⟩
        show rep 9999 x (if j = j then ofr j D j else _)
        rw [if_pos rfl]
        exact hx
      · rw [if_neg (fun q => e (i32inj (by omega) (by omega) q)), p_sets (by omega) hj, bind_some9, c3, p_at (j := 3) hj (by decide), bind_some9, p_sets hj (by omega), bind_some9, zi4 j hj]
        have s1 : rep 9999 (upd x (4 * c + j) 9999) (oset (ofr c D j) (4 * c + j) none) := rep_set hx _ rfl
        have eq : ofr c D (j + 1) = ofr1 c j (ofr c D j) := if_neg e
        refine ⟨_, rfl, rfl, ?_⟩
        rw [eq]
        exact rep_set s1 _ (s1 (4 * j + 3) (by omega))
    · obtain ⟨i, x⟩ := y
      obtain ⟨rfl, hx⟩ := hy
      exact ⟨x, by
        show P_X3_frees_B2 (I32 c) (I32 4) x = _
        unfold P_X3_frees_B2
        rw [if_pos (by decide)], rep_congr hx (ofr_eq hc D)⟩
  obtain ⟨d', e, h⟩ := L
  refine ⟨d', ?_, h⟩
  unfold P_X3_frees
  rw [e]
  rfl
theorem oset_same {D : OD} {m : Nat} {x : Option Int} (h : D m = x) : ∀ i, i < 16 → oset D m x i = D i := fun i _ => by
  unfold oset
  split
  · rename_i e
    rw [e, h]
  · rfl
theorem p_copies {c f : Nat} (hc : c < 3) (hf : f < 3) (hn : c ≠ f) {d : ZS} {D : OD} (hr : rep 9999 d D) (hd : dg0 D) : ∃ d', P_X3_copies (I32 c) (I32 f) d = some d' ∧ rep 9999 d' (ocopy D c f) := by
  have L : ∃ d', lp (fun z => P_X3_copies_B2 (I32 c) (I32 f) z.1 z.2) 100000 ((0 : Int32), d) = some d' ∧ rep 9999 d' (ocopy D c f) := by
    refine lp_inv0 (fun j y => y.1 = I32 j ∧ rep 9999 y.2 (ocp c f D j)) 4 (fun j hj y hy => ?_) (fun y hy => ?_) ⟨rfl, hr⟩ (by decide)
    · obtain ⟨i, x⟩ := y
      obtain ⟨rfl, hx⟩ := hy
      show ∃ z, P_X3_copies_B2 (I32 c) (I32 f) (I32 j) x = _ ∧ _
      unfold P_X3_copies_B2
      rw [if_neg (zi3 j hj)]
      by_cases e : j = c
      · subst e
        rw [if_pos rfl, zi4 j hj]
        refine ⟨_, rfl, rfl, ?_⟩
        show rep 9999 x (if j = j then ocp j f D j else _)
        rw [if_pos rfl]
        exact hx
      · rw [if_neg (fun q => e (i32inj (by omega) (by omega) q)), p_at (by omega) hj, bind_some9, p_sets (by omega) hj, bind_some9, p_at hj (by omega), bind_some9, p_sets hj (by omega), bind_some9, zi4 j hj]
        have s1 : rep 9999 (upd x (4 * c + j) (x (4 * f + j))) (oset (ocp c f D j) (4 * c + j) (ocp c f D j (4 * f + j))) := rep_set hx _ (hx _ (by omega))
        have eq : ocp c f D (j + 1) = ocp1 c f j (ocp c f D j) := if_neg e
        refine ⟨_, rfl, rfl, ?_⟩
        rw [eq]
        exact rep_set s1 _ (s1 (4 * j + f) (by omega))
    · obtain ⟨i, x⟩ := y
      obtain ⟨rfl, hx⟩ := hy
      exact ⟨x, by
        show P_X3_copies_B2 (I32 c) (I32 f) (I32 4) x = _
        unfold P_X3_copies_B2
        rw [if_pos (by decide)], rep_congr hx (ocp_eq hc hf hn D)⟩
  obtain ⟨d', e, h⟩ := L
  have k1 : ocopy D c f (4 * c + f) = some 0 := by
    rw [copy_at hd (by omega) (by omega) (by omega) (by omega), if_pos rfl, if_neg (Ne.symm hn), show 4 * f + f = 5 * f by omega]
    exact hd f (by omega)
  have k2 : ocopy D c f (4 * f + c) = some 0 := by
    rw [copy_at hd (by omega) (by omega) (by omega) (by omega), if_pos rfl, if_neg (Ne.symm hn), show 4 * f + f = 5 * f by omega]
    exact hd f (by omega)
  have h1 := rep_congr (rep_set h (4 * c + f) (x := 0) (y := some 0) ⟨rfl, by decide⟩) (oset_same k1)
  have h2 := rep_congr (rep_set h1 (4 * f + c) (x := 0) (y := some 0) ⟨rfl, by decide⟩) (oset_same k2)
  refine ⟨_, ?_, h2⟩
  unfold P_X3_copies
  rw [e, bind_some9, p_sets (by omega) (by omega), bind_some9, p_sets (by omega) (by omega)]
  rfl
theorem p_shifts {c : Nat} (hc : c < 3) {b : Int32} {w : Int} (hv : b.toInt = w) (hw : 1 ≤ w ∧ w ≤ 9) {d : ZS} {D : OD} (hr : rep 9999 d D) (hb : bd (-70000) 9000 D) : ∃ d', P_X3_shifts (I32 c) b d = some d' ∧ rep 9999 d' (oshift D c w) := by
  have rv : rep1 9999 b (some w) := ⟨hv, by omega⟩
  have rn : rep1 9999 (-b) (some (-w)) := ⟨by rw [toInt_negS (by omega), hv], by omega⟩
  have bv : ∀ t, (some w : Option Int) = some t → 0 ≤ t ∧ t ≤ 9 := fun t ht => by cases ht; omega
  have bn : ∀ t, (some (-w) : Option Int) = some t → -9 ≤ t ∧ t ≤ 0 := fun t ht => by cases ht; omega
  have L : ∃ d', lp (fun z => P_X3_shifts_B2 (I32 c) b z.1 z.2) 100000 ((0 : Int32), d) = some d' ∧ rep 9999 d' (oshift D c w) := by
    refine lp_inv0 (fun j y => y.1 = I32 j ∧ rep 9999 y.2 (osh c w D j) ∧ bd (-70000 - 18 * j) (9000 + 18 * j) (osh c w D j)) 4 (fun j hj y hy => ?_) (fun y hy => ?_) ⟨rfl, hr, hb.mono (by omega) (by omega)⟩ (by decide)
    · obtain ⟨i, x⟩ := y
      obtain ⟨rfl, hx, hbx⟩ := hy
      show ∃ z, P_X3_shifts_B2 (I32 c) b (I32 j) x = _ ∧ _
      unfold P_X3_shifts_B2
      rw [if_neg (zi3 j hj)]
      by_cases e : j = c
      · subst e
        rw [if_pos rfl, zi4 j hj]
        refine ⟨_, rfl, rfl, ?_, ?_⟩
        · show rep 9999 x (if j = j then osh j w D j else _)
          rw [if_pos rfl]
          exact hx
        · show bd _ _ (if j = j then osh j w D j else _)
          rw [if_pos rfl]
          exact hbx.mono (by omega) (by omega)
      · rw [if_neg (fun q => e (i32inj (by omega) (by omega) q)), p_at (by omega) hj, bind_some9, p_sets (by omega) hj, bind_some9, p_at hj (by omega), bind_some9, p_sets hj (by omega), bind_some9, zi4 j hj]
        have s1 : rep 9999 (upd x (4 * c + j) (F_X3_sum (x (4 * c + j)) b)) (oset (osh c w D j) (4 * c + j) (oadd (osh c w D j (4 * c + j)) (some w))) := rep_set hx _ (by
          rw [sum_g]
          exact rep1_s2 n9 (hx _ (by omega)) rv (hbx _ (by omega)) bv (by omega) (by omega) (by omega) (by omega))
        have t1 : bd (-70000 - 18 * j) (9000 + 18 * j + 9) (oset (osh c w D j) (4 * c + j) (oadd (osh c w D j (4 * c + j)) (some w))) := bd_set (hbx.mono (by omega) (by omega)) _ (fun t ht => by
          have := oadd_bd (hbx _ (by omega)) bv t ht
          omega)
        have eq : osh c w D (j + 1) = osh1 c w j (osh c w D j) := if_neg e
        refine ⟨_, rfl, rfl, ?_, ?_⟩
        · rw [eq]
          exact rep_set s1 _ (by
            rw [sum_g]
            exact rep1_s2 n9 (s1 (4 * j + c) (by omega)) rn (t1 (4 * j + c) (by omega)) bn (by omega) (by omega) (by omega) (by omega))
        · rw [eq]
          exact bd_set (t1.mono (by omega) (by omega)) _ (fun t ht => by
            have := oadd_bd (t1 (4 * j + c) (by omega)) bn t ht
            omega)
    · obtain ⟨i, x⟩ := y
      obtain ⟨rfl, hx, hbx⟩ := hy
      exact ⟨x, by
        show P_X3_shifts_B2 (I32 c) b (I32 4) x = _
        unfold P_X3_shifts_B2
        rw [if_pos (by decide)], rep_congr hx (osh_eq hc w D)⟩
  obtain ⟨d', e, h⟩ := L
  refine ⟨d', ?_, h⟩
  unfold P_X3_shifts
  rw [e]
  rfl
theorem rep1_wid {x : Int32} {a : Option Int} (h : rep1 9999 x a) : rep1 9999 (if x ≤ (9 : Int32) then F_J11_max (-10 : Int32) x else (9999 : Int32)) (owid1 a) := by
  cases a with
  | none =>
    have h : x = 9999 := h
    subst h
    show (if (9999 : Int32) ≤ (9 : Int32) then F_J11_max (-10 : Int32) 9999 else (9999 : Int32)) = 9999
    decide
  | some t =>
    obtain ⟨h1, h2⟩ := h
    have z9 : (9 : Int32).toInt = 9 := rfl
    have z10 : (-10 : Int32).toInt = -10 := rfl
    by_cases q : t ≤ 9
    · rw [if_pos (by rw [Int32.le_iff_toInt_le, h1, z9]; exact q)]
      show rep1 9999 _ (if 9 < t then none else some (if t < -10 then -10 else t))
      rw [if_neg (by omega)]
      unfold F_J11_max
      by_cases q2 : -10 < t
      · rw [if_pos (by rw [Int32.lt_iff_toInt_lt, h1, z10]; exact q2), if_neg (by omega)]
        exact ⟨h1, h2⟩
      · rw [if_neg (by rw [Int32.lt_iff_toInt_lt, h1, z10]; exact q2)]
        by_cases q3 : t < -10
        · rw [if_pos q3]
          exact ⟨rfl, by decide⟩
        · rw [if_neg q3]
          exact ⟨by rw [z10]; omega, h2⟩
    · rw [if_neg (by rw [Int32.le_iff_toInt_le, h1, z9]; exact q)]
      show rep1 9999 _ (if 9 < t then none else some (if t < -10 then -10 else t))
      rw [if_pos (by omega)]
      rfl
def owd (D : OD) : Nat → OD
  | 0 => D
  | j + 1 => oset (owd D j) j (owid1 (owd D j j))
theorem owd_at (D : OD) : ∀ k i, owd D k i = if i < k then owid1 (D i) else D i
  | 0, i => by rw [if_neg (Nat.not_lt_zero i)]; rfl
  | k + 1, i => by
    show oset (owd D k) k (owid1 (owd D k k)) i = _
    unfold oset
    by_cases e : i = k
    · subst e
      rw [if_pos rfl, if_pos (Nat.lt_succ_self i), owd_at D i i, if_neg (Nat.lt_irrefl i)]
    · rw [if_neg e, owd_at D k i]
      by_cases h : i < k
      · rw [if_pos h, if_pos (by omega)]
      · rw [if_neg h, if_neg (by omega)]
theorem p_widens {d : ZS} {D : OD} (hr : rep 9999 d D) : ∃ d', P_X3_widens d = some d' ∧ rep 9999 d' (owiden D) := by
  have L : ∃ d', lp (fun z => P_X3_widens_B2 z.1 z.2) 100000 ((0 : Int32), d) = some d' ∧ rep 9999 d' (owiden D) := by
    refine lp_inv0 (fun j y => y.1 = I32 j ∧ rep 9999 y.2 (owd D j)) 16 (fun j hj y hy => ?_) (fun y hy => ?_) ⟨rfl, hr⟩ (by decide)
    · obtain ⟨i, x⟩ := y
      obtain ⟨rfl, hx⟩ := hy
      show ∃ z, P_X3_widens_B2 (I32 j) x = _ ∧ _
      unfold P_X3_widens_B2
      rw [if_neg (n16 hj), rdZ_n hj, bind_some9, wrZ_n hj, bind_some9, i32s j (by omega)]
      exact ⟨_, rfl, rfl, rep_set hx _ (rep1_wid (hx j hj))⟩
    · obtain ⟨i, x⟩ := y
      obtain ⟨rfl, hx⟩ := hy
      exact ⟨x, by
        show P_X3_widens_B2 (I32 16) x = _
        unfold P_X3_widens_B2
        rw [if_pos (by decide)], rep_congr hx (fun i hi => by rw [owd_at, if_pos hi]; rfl)⟩
  obtain ⟨d', e, h⟩ := L
  refine ⟨d', ?_, h⟩
  unfold P_X3_widens
  rw [e]
  rfl
