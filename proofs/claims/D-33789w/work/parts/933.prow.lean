/-! the component's rows: what Zone's methods do to what they stand for -/
def fl (x : Int32) (P : Prop) : Prop := (x = 1 ∧ P) ∨ (x = 0 ∧ ¬ P)
theorem fl_congr {x : Int32} {P Q : Prop} (h : fl x P) (e : P ↔ Q) : fl x Q := h.elim (fun a => Or.inl ⟨a.1, e.mp a.2⟩) (fun a => Or.inr ⟨a.1, fun q => a.2 (e.mpr q)⟩)
theorem fl_or {x y : Int32} {P Q : Prop} (h1 : fl x P) (h2 : fl y Q) : fl (x ||| y) (P ∨ Q) := by
  rcases h1 with ⟨rfl, p⟩ | ⟨rfl, p⟩ <;> rcases h2 with ⟨rfl, q⟩ | ⟨rfl, q⟩
  · exact Or.inl ⟨by decide, Or.inl p⟩
  · exact Or.inl ⟨by decide, Or.inl p⟩
  · exact Or.inl ⟨by decide, Or.inr q⟩
  · exact Or.inr ⟨by decide, fun z => z.elim p q⟩
theorem fl_and {x y : Int32} {P Q : Prop} (h1 : fl x P) (h2 : fl y Q) : fl (x &&& y) (P ∧ Q) := by
  rcases h1 with ⟨rfl, p⟩ | ⟨rfl, p⟩ <;> rcases h2 with ⟨rfl, q⟩ | ⟨rfl, q⟩
  · exact Or.inl ⟨by decide, p, q⟩
  · exact Or.inr ⟨by decide, fun z => q z.2⟩
  · exact Or.inr ⟨by decide, fun z => p z.1⟩
  · exact Or.inr ⟨by decide, fun z => p z.1⟩
theorem fl_pos {c : Prop} [Decidable c] : fl (if c then (1 : Int32) else (0 : Int32)) c := by
  by_cases h : c
  · rw [if_pos h]; exact Or.inl ⟨rfl, h⟩
  · rw [if_neg h]; exact Or.inr ⟨rfl, h⟩
theorem fl_neg {c : Prop} [Decidable c] : fl (if c then (0 : Int32) else (1 : Int32)) (¬ c) := by
  by_cases h : c
  · rw [if_pos h]; exact Or.inr ⟨rfl, fun z => z h⟩
  · rw [if_neg h]; exact Or.inl ⟨rfl, h⟩
theorem fl_okZ {x : Int32} {P : Prop} (h : fl x P) : okZ x = some () := by
  unfold okZ
  rw [if_pos (h.elim (fun a => Or.inr a.1) (fun a => Or.inl a.1))]
theorem fl_0 {x : Int32} {P : Prop} (h : fl x P) : x = 0 ↔ ¬ P := ⟨fun e => h.elim (fun a => by rw [a.1] at e; exact absurd e (by decide)) (fun a => a.2), fun n => h.elim (fun a => absurd a.2 n) (fun a => a.1)⟩
theorem fl_1 {x : Int32} {P : Prop} (h : fl x P) : x = 1 ↔ P := ⟨fun e => h.elim (fun a => a.2) (fun a => by rw [a.1] at e; exact absurd e (by decide)), fun n => h.elim (fun a => a.1) (fun a => absurd n a.2)⟩
theorem c3 : (3 : Int32) = I32 3 := rfl
theorem i32s (j : Nat) (h : j < 20000) : I32 j + (1 : Int32) = I32 (j + 1) := by
  apply Int32.toInt_inj.mp
  have e : ∀ n : Nat, n ≤ 20001 → (I32 n).toInt = (n : Int) := fun n hn => by
    exact Int32.toInt_ofNat_of_lt (by omega)
  rw [Int32.toInt_add, e j (by omega), e (j + 1) (by omega)]
  show Int.bmod ((j : Int) + 1) _ = _
  rw [Int.bmod_eq_of_le (by omega) (by omega)]
  omega
theorem i32le {n : Nat} {j : Nat} (hn : n ≤ 20000) (hj : j ≤ 20000) : I32 n ≤ I32 j ↔ n ≤ j := by
  have e : ∀ n : Nat, n ≤ 20000 → (I32 n).toInt = (n : Int) := fun n hn => by
    exact Int32.toInt_ofNat_of_lt (by omega)
  rw [Int32.le_iff_toInt_le, e n hn, e j hj]
  omega
theorem rep_set {N : Int32} {d : ZS} {D : OD} (h : rep N d D) (m : Nat) {x : Int32} {y : Option Int} (hx : rep1 N x y) : rep N (upd d m x) (oset D m y) := fun i hi => by
  unfold upd oset
  by_cases e : i = m
  · rw [if_pos e, if_pos e]
    exact hx
  · rw [if_neg e, if_neg e]
    exact h i hi
theorem rep_congr {N : Int32} {d : ZS} {D E : OD} (h : rep N d D) (e : ∀ i, i < 16 → D i = E i) : rep N d E := fun i hi => by rw [← e i hi]; exact h i hi
def bd (lo hi : Int) (D : OD) : Prop := ∀ i, i < 16 → ∀ t, D i = some t → lo ≤ t ∧ t ≤ hi
theorem bd.mono {lo hi lo' hi' : Int} {D : OD} (h : bd lo hi D) (h1 : lo' ≤ lo) (h2 : hi ≤ hi') : bd lo' hi' D := fun i hi t ht => by
  have := h i hi t ht
  omega
theorem bd_set {lo hi : Int} {D : OD} (h : bd lo hi D) (m : Nat) {y : Option Int} (hy : ∀ t, y = some t → lo ≤ t ∧ t ≤ hi) : bd lo hi (oset D m y) := fun i hi t ht => by
  unfold oset at ht
  by_cases e : i = m
  · rw [if_pos e] at ht
    exact hy t ht
  · rw [if_neg e] at ht
    exact h i hi t ht
theorem rep1_sum {N x y : Int32} (hN : 9999 ≤ N.toInt) {a b : Option Int} (h1 : rep1 N x a) (h2 : rep1 N y b) (ba : ∀ t, a = some t → -100000000 ≤ t) (bb : ∀ t, b = some t → -100000000 ≤ t) (hr : ∀ t, oadd a b = some t → t < 9999) : rep1 N (gsum N x y) (oadd a b) := by
  rcases rep1_add hN h1 h2 ba bb with ⟨e1, e2⟩ | ⟨t, e1, e2⟩
  · rw [e1, e2]
    rfl
  · rw [e1]
    exact ⟨e2, hr t e1⟩
theorem sum_g (x y : Int32) : F_X3_sum x y = gsum 9999 x y := rfl
theorem min_g (x y : Int32) : F_J11_min x y = gmin x y := rfl
theorem toInt_negS {x : Int32} (h : -1000000000 ≤ x.toInt ∧ x.toInt ≤ 1000000000) : (-x).toInt = -x.toInt := by
  rw [Int32.toInt_neg]
  exact Int.bmod_eq_of_le (by omega) (by omega)
theorem rep1_cmin {N x y : Int32} (hN : 9999 ≤ N.toInt) {a b : Option Int} (h1 : rep1 N x a) (h2 : rep1 N y b) : rep1 N (gmin x y) (omin a b) := by
  refine rep1_min hN h1 ?_ (fun t ht => ?_)
  · cases b with
    | none => exact Or.inl ⟨rfl, h2⟩
    | some t => exact Or.inr ⟨t, rfl, h2.1⟩
  · rcases omin_some ht with e | e
    · subst e; exact h1.2
    · subst e; exact h2.2
theorem n9 : (9999 : Int) ≤ (9999 : Int32).toInt := by decide
theorem n5 : (9999 : Int) ≤ (100000 : Int32).toInt := by decide
theorem p_hasNone {d : ZS} {D : OD} (hr : rep 9999 d D) : ∃ v, P_X3_hasNone d = some v ∧ fl v (¬ nn D) := by
  have L : ∃ v, lp (fun z => P_X3_hasNone_B4 z.1 z.2 d) 100000 ((0 : Int32), (0 : Int32)) = some v ∧ fl v (∃ j, j < 4 ∧ ∃ t, D (5 * j) = some t ∧ t < 0) := by
    refine lp_inv0 (fun k y => y.2 = I32 k ∧ fl y.1 (∃ j, j < k ∧ ∃ t, D (5 * j) = some t ∧ t < 0)) 4 (fun k hk y hy => ?_) (fun y hy => ?_) ⟨rfl, Or.inr ⟨rfl, fun ⟨j, h, _⟩ => absurd h (Nat.not_lt_zero j)⟩⟩ (by decide)
    · obtain ⟨x, i⟩ := y
      obtain ⟨rfl, hf⟩ := hy
      refine ⟨_, by
        show P_X3_hasNone_B4 x (I32 k) d = _
        unfold P_X3_hasNone_B4
        rw [if_neg (zi3 k hk), p_at hk hk, bind_some9, zi4 k hk], rfl, ?_⟩
      refine fl_congr (fl_or hf fl_neg) ⟨fun h => ?_, fun h => ?_⟩
      · rcases h with ⟨j, hj, q⟩ | h
        · exact ⟨j, by omega, q⟩
        · refine ⟨k, by omega, ?_⟩
          have h1 := hr (5 * k) (by omega)
          rw [show 4 * k + k = 5 * k by omega, Int32.le_iff_toInt_le] at h
          cases hD : D (5 * k) with
          | none =>
            rw [hD] at h1
            have h1 : d (5 * k) = 9999 := h1
            rw [h1] at h
            exact absurd (by decide) h
          | some t =>
            rw [hD] at h1
            have h1 := h1.1
            rw [h1] at h
            have z0 : (0 : Int32).toInt = 0 := rfl
            exact ⟨t, rfl, by omega⟩
      · obtain ⟨j, hj, t, ht, h0⟩ := h
        by_cases e : j = k
        · subst e
          refine Or.inr (fun h => ?_)
          have h1 := hr (5 * j) (by omega)
          rw [ht] at h1
          have h1 := h1.1
          rw [show 4 * j + j = 5 * j by omega, Int32.le_iff_toInt_le, h1] at h
          have z0 : (0 : Int32).toInt = 0 := rfl
          omega
        · exact Or.inl ⟨j, by omega, t, ht, h0⟩
    · obtain ⟨x, i⟩ := y
      obtain ⟨rfl, hf⟩ := hy
      exact ⟨x, by
        show P_X3_hasNone_B4 x (I32 4) d = _
        unfold P_X3_hasNone_B4
        rw [if_pos (by decide)], hf⟩
  obtain ⟨v, e, hf⟩ := L
  refine ⟨v, ?_, fl_congr hf ⟨fun ⟨j, hj, t, ht, h0⟩ hn => ?_, fun hn => ?_⟩⟩
  · unfold P_X3_hasNone
    rw [e, bind_some9, fl_okZ hf]
    rfl
  · have := hn j hj t ht
    omega
  · exact Classical.byContradiction fun q => hn fun j hj t ht => Classical.byContradiction fun h => q ⟨j, hj, t, ht, by omega⟩
theorem p_isTooFar {d : ZS} {D : OD} (hr : rep 9999 d D) (hb : bd (-100000000) 100000000 D) : ∃ v, P_X3_isTooFar d = some v ∧ fl v (¬ LateF D) := by
  have L : ∃ v, lp (fun z => P_X3_isTooFar_B4 z.1 z.2 d) 100000 ((0 : Int32), (0 : Int32)) = some v ∧ fl v (∃ j, j < 3 ∧ ∃ t, D (12 + j) = some t ∧ t < -30) := by
    refine lp_inv0 (fun k y => y.2 = I32 k ∧ fl y.1 (∃ j, j < k ∧ ∃ t, D (12 + j) = some t ∧ t < -30)) 3 (fun k hk y hy => ?_) (fun y hy => ?_) ⟨rfl, Or.inr ⟨rfl, fun ⟨j, h, _⟩ => absurd h (Nat.not_lt_zero j)⟩⟩ (by decide)
    · obtain ⟨x, i⟩ := y
      obtain ⟨rfl, hf⟩ := hy
      have h3 : ¬ (3 : Int32) ≤ I32 k := fun q => by
        rw [c3, i32le (by decide) (by omega)] at q
        omega
      refine ⟨_, by
        show P_X3_isTooFar_B4 x (I32 k) d = _
        unfold P_X3_isTooFar_B4
        rw [if_neg h3, c3, p_at (i := 3) (by decide) (by omega), bind_some9, zi4 k (by omega)], rfl, ?_⟩
      have h1 := hr (12 + k) (by omega)
      refine fl_congr (fl_or hf fl_neg) ⟨fun h => ?_, fun h => ?_⟩
      · rcases h with ⟨j, hj, q⟩ | h
        · exact ⟨j, by omega, q⟩
        · refine ⟨k, by omega, ?_⟩
          rw [show 4 * 3 + k = 12 + k by omega, Int32.le_iff_toInt_le] at h
          cases hD : D (12 + k) with
          | none =>
            rw [hD] at h1
            have h1 : d (12 + k) = 9999 := h1
            rw [h1] at h
            exact absurd (by decide) h
          | some t =>
            rw [hD] at h1
            have h1 := h1.1
            have := hb _ (by omega) t hD
            rw [toInt_negS (by omega), h1] at h
            have z0 : (30 : Int32).toInt = 30 := rfl
            exact ⟨t, rfl, by omega⟩
      · obtain ⟨j, hj, t, ht, h0⟩ := h
        by_cases e : j = k
        · subst e
          refine Or.inr (fun h => ?_)
          rw [ht] at h1
          have h1 := h1.1
          have := hb _ (by omega) t ht
          rw [show 4 * 3 + j = 12 + j by omega, Int32.le_iff_toInt_le, toInt_negS (by omega), h1] at h
          have z0 : (30 : Int32).toInt = 30 := rfl
          omega
        · exact Or.inl ⟨j, by omega, t, ht, h0⟩
    · obtain ⟨x, i⟩ := y
      obtain ⟨rfl, hf⟩ := hy
      exact ⟨x, by
        show P_X3_isTooFar_B4 x (I32 3) d = _
        unfold P_X3_isTooFar_B4
        rw [if_pos (by decide)], hf⟩
  obtain ⟨v, e, hf⟩ := L
  refine ⟨v, ?_, fl_congr hf ⟨fun ⟨j, hj, t, ht, h0⟩ hn => ?_, fun hn => ?_⟩⟩
  · unfold P_X3_isTooFar
    rw [e, bind_some9, fl_okZ hf]
    rfl
  · have := hn j hj t ht
    omega
  · exact Classical.byContradiction fun q => hn fun j hj t ht => Classical.byContradiction fun h => q ⟨j, hj, t, ht, by omega⟩
theorem rdZ_n {d : ZS} {k : Nat} (hk : k < 16) : rdZ d (I32 k) = some (d k) := by
  have h := ix_of k 16 hk (by decide)
  unfold rdZ
  rw [if_neg (fun q => q.elim h.1 (fun z => by rw [h.2.1] at z; omega)), h.2.1]
theorem wrZ_n {d : ZS} {k : Nat} (hk : k < 16) (x : Int32) : wrZ d (I32 k) x = some (upd d k x) := by
  have h := ix_of k 16 hk (by decide)
  unfold wrZ
  rw [if_neg (fun q => q.elim h.1 (fun z => by rw [h.2.1] at z; omega)), h.2.1]
theorem c16 : (16 : Int32) = I32 16 := rfl
theorem n16 {k : Nat} (hk : k < 16) : ¬ (16 : Int32) ≤ I32 k := fun q => by
  rw [c16, i32le (by decide) (by omega)] at q
  omega
def Great (D : OD) : Prop := ∀ i, i < 16 → ∀ t, D i = some t → t ≤ 999
theorem p_isTooGreat {d : ZS} {D : OD} (hr : rep 9999 d D) : ∃ v, P_X3_isTooGreat d = some v ∧ fl v (¬ Great D) := by
  have L : ∃ v, lp (fun z => P_X3_isTooGreat_B4 z.1 z.2 d) 100000 ((0 : Int32), (0 : Int32)) = some v ∧ fl v (∃ j, j < 16 ∧ ∃ t, D j = some t ∧ 999 < t) := by
    refine lp_inv0 (fun k y => y.2 = I32 k ∧ fl y.1 (∃ j, j < k ∧ ∃ t, D j = some t ∧ 999 < t)) 16 (fun k hk y hy => ?_) (fun y hy => ?_) ⟨rfl, Or.inr ⟨rfl, fun ⟨j, h, _⟩ => absurd h (Nat.not_lt_zero j)⟩⟩ (by decide)
    · obtain ⟨x, i⟩ := y
      obtain ⟨rfl, hf⟩ := hy
      have h1 := hr k hk
      have hstep : ∃ z, P_X3_isTooGreat_B4 x (I32 k) d = some (.inl (x ||| z, I32 (k + 1))) ∧ fl z (∃ t, D k = some t ∧ 999 < t) := by
        unfold P_X3_isTooGreat_B4
        rw [if_neg (n16 hk), rdZ_n hk, bind_some9, i32s k (by omega)]
        cases hD : D k with
        | none =>
          rw [hD] at h1
          have h1 : d k = 9999 := h1
          rw [if_pos h1]
          exact ⟨0, rfl, Or.inr ⟨rfl, fun ⟨t, q, _⟩ => by cases q⟩⟩
        | some t =>
          rw [hD] at h1
          obtain ⟨h1, h2⟩ := h1
          have n : d k ≠ 9999 := fun e => by
            rw [e] at h1
            have z0 : (9999 : Int32).toInt = 9999 := rfl
            omega
          rw [if_neg n, bind_some9]
          refine ⟨_, rfl, fl_congr fl_neg ⟨fun h => ⟨t, rfl, ?_⟩, fun ⟨s, hs, h⟩ q => ?_⟩⟩
          · rw [Int32.le_iff_toInt_le, h1] at h
            have z0 : (999 : Int32).toInt = 999 := rfl
            omega
          · cases hs
            rw [Int32.le_iff_toInt_le, h1] at q
            have z0 : (999 : Int32).toInt = 999 := rfl
            omega
      obtain ⟨z, e, hz⟩ := hstep
      refine ⟨_, e, rfl, fl_congr (fl_or hf hz) ⟨fun h => ?_, fun h => ?_⟩⟩
      · rcases h with ⟨j, hj, q⟩ | h
        · exact ⟨j, by omega, q⟩
        · exact ⟨k, by omega, h⟩
      · obtain ⟨j, hj, q⟩ := h
        by_cases e : j = k
        · subst e
          exact Or.inr q
        · exact Or.inl ⟨j, by omega, q⟩
    · obtain ⟨x, i⟩ := y
      obtain ⟨rfl, hf⟩ := hy
      exact ⟨x, by
        show P_X3_isTooGreat_B4 x (I32 16) d = _
        unfold P_X3_isTooGreat_B4
        rw [if_pos (by decide)], hf⟩
  obtain ⟨v, e, hf⟩ := L
  refine ⟨v, ?_, fl_congr hf ⟨fun ⟨j, hj, t, ht, h0⟩ hn => ?_, fun hn => ?_⟩⟩
  · unfold P_X3_isTooGreat
    rw [e, bind_some9, fl_okZ hf]
    rfl
  · have := hn j hj t ht
    omega
  · exact Classical.byContradiction fun q => hn fun j hj t ht => Classical.byContradiction fun h => q ⟨j, hj, t, ht, by omega⟩
/-- tightening twice: a closed row stays as it is -/
theorem gst_clo {N : Int32} (hN : 9999 ≤ N.toInt) {d : ZS} {D : OD} (hr : rep N d D) (hc : clo D) (hb : bd (-100000000) 100000000 D) {k c : Nat} (hk : k < 4) (hcc : c < 16) : gst N k c d = d := by
  have e : gmin (d c) (gsum N (d (4 * (c / 4) + k)) (d (4 * k + c % 4))) = d c := by
    have h1 := hr c hcc
    have h2 := hc k hk (c / 4) (by omega) (c % 4) (by omega)
    rw [show 4 * (c / 4) + c % 4 = c by omega] at h2
    unfold gmin
    rcases rep1_add hN (hr (4 * (c / 4) + k) (by omega)) (hr (4 * k + c % 4) (by omega)) (fun t ht => (hb _ (by omega) t ht).1) (fun t ht => (hb _ (by omega) t ht).1) with ⟨e1, e2⟩ | ⟨t, e1, e2⟩
    · rw [e2]
      cases hD : D c with
      | none =>
        rw [hD] at h1
        have h1 : d c = N := h1
        rw [h1]
        split <;> rfl
      | some s =>
        rw [hD] at h1
        obtain ⟨h1, h3⟩ := h1
        rw [if_neg (fun q => by have := Int32.lt_iff_toInt_lt.mp q; omega)]
    · rw [e1] at h2
      obtain ⟨s, hs, hl⟩ := ole_some h2
      rw [hs] at h1
      rw [if_neg (fun q => by have := Int32.lt_iff_toInt_lt.mp q; have := h1.1; omega)]
  unfold gst
  rw [e]
  funext i
  unfold upd
  split
  · rename_i h
    rw [h]
  · rfl
theorem grow_clo {N : Int32} (hN : 9999 ≤ N.toInt) {d : ZS} {D : OD} (hr : rep N d D) (hc : clo D) (hb : bd (-100000000) 100000000 D) {k : Nat} (hk : k < 4) : ∀ c, c ≤ 16 → grow N k d c = d
  | 0, _ => rfl
  | c + 1, h => by
    unfold grow
    rw [grow_clo hN hr hc hb hk c (by omega), gst_clo hN hr hc hb hk (by omega)]
theorem gtl_clo {N : Int32} (hN : 9999 ≤ N.toInt) {d : ZS} {D : OD} (hr : rep N d D) (hc : clo D) (hb : bd (-100000000) 100000000 D) : ∀ k, k ≤ 4 → gtl N d k = d
  | 0, _ => rfl
  | k + 1, h => by
    unfold gtl
    rw [gtl_clo hN hr hc hb k (by omega), grow_clo hN hr hc hb (by omega) 16 (Nat.le_refl _)]
