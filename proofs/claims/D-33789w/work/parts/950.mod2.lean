/-! the model's steps on the tightened row -/
theorem m9 : mlen 9 = 16 := rfl
theorem ors_12 {c : Nat} (hc : c < 3) (v : Int) (D : OD) : ∀ j, j < 4 → ors c v D j (12 + j) = D (12 + j) := fun j hj => by
  rcases or3 hc with rfl | rfl | rfl <;> rcases or4 hj with rfl | rfl | rfl | rfl <;> rfl
theorem gsum_ne {N x y : Int32} (h1 : x ≠ N) (h2 : y ≠ N) : gsum N x y = x + y := by
  unfold gsum
  rw [if_neg h1, if_neg h2]
theorem rep1_ne {N x : Int32} (hN : 9999 ≤ N.toInt) {t : Int} (h : rep1 N x (some t)) : x ≠ N := fun e => by
  rw [e] at h
  have := h.1
  have := h.2
  omega
theorem sum5 (x y : Int32) : F_X4_sum x y = gsum 100000 x y := rfl
theorem w9_at {S : MS} {x : ZS} {i j : Nat} (hi : i < 4) (hj : j < 4) : rd (setA S 9 x) 9 (((4 : Int32) * I32 i) + I32 j) = some (x (4 * i + j)) := by
  rw [rd_i (K := 9) (ix4 hi hj), setA_get]
theorem w9_12 {S : MS} {x : ZS} {j : Nat} (hj : j < 4) : rd (setA S 9 x) 9 ((12 : Int32) + I32 j) = some (x (12 + j)) := by
  rw [rd_i (K := 9) (ix12 hj), setA_get]
theorem w9_set {S : MS} {x : ZS} {i j : Nat} (hi : i < 4) (hj : j < 4) (v : Int32) : wr (setA S 9 x) 9 (((4 : Int32) * I32 i) + I32 j) v = some (setA S 9 (upd x (4 * i + j) v)) := by
  rw [wr_i (K := 9) v (ix4 hi hj), setA_get, setA_set]
theorem w9_s12 {S : MS} {x : ZS} {j : Nat} (hj : j < 4) (v : Int32) : wr (setA S 9 x) 9 ((12 : Int32) + I32 j) v = some (setA S 9 (upd x (12 + j) v)) := by
  rw [wr_i (K := 9) v (ix12 hj), setA_get, setA_set]
theorem m_resets (S : MS) {c : Nat} (hc : c < 3) {v : Int32} {w : Int} (hv : v.toInt = w) (hw : 0 ≤ w ∧ w ≤ 9) {d : ZS} {D : OD} (hr : rep 100000 d D) (hb : bd (-70000) 9000 D) (hd : dg0 D) (hz : zr0 D) : ∃ d', P_X4_resets (I32 c) v (setA S 9 d) = some (setA S 9 d') ∧ rep 100000 d' (oreset D c w) := by
  have rv : rep1 100000 v (some w) := ⟨hv, by omega⟩
  have rn : rep1 100000 (-v) (some (-w)) := ⟨by rw [toInt_negS (by omega), hv], by omega⟩
  have bv : ∀ t, (some w : Option Int) = some t → 0 ≤ t ∧ t ≤ 9 := fun t ht => by cases ht; exact hw
  have bn : ∀ t, (some (-w) : Option Int) = some t → -9 ≤ t ∧ t ≤ 0 := fun t ht => by cases ht; omega
  have L : ∃ d', lp (fun z => P_X4_resets_B2 (I32 c) v z.1 z.2) 100000 ((0 : Int32), setA S 9 d) = some d' ∧ ∃ x, d' = setA S 9 x ∧ rep 100000 x (oreset D c w) := by
    refine lp_inv0 (fun j y => y.1 = I32 j ∧ ∃ x, y.2 = setA S 9 x ∧ rep 100000 x (ors c w D j) ∧ bd (-70000 - 18 * j) (9000 + 18 * j) (ors c w D j)) 4 (fun j hj y hy => ?_) (fun y hy => ?_) ⟨rfl, d, rfl, hr, hb.mono (by omega) (by omega)⟩ (by decide)
    · obtain ⟨i, y⟩ := y
      obtain ⟨rfl, x, rfl, hx, hbx⟩ := hy
      show ∃ z, P_X4_resets_B2 (I32 c) v (I32 j) (setA S 9 x) = _ ∧ _
      unfold P_X4_resets_B2
      rw [if_neg (zi3 j hj)]
      by_cases e : j = c
      · subst e
        rw [if_pos rfl, zi4 j hj]
        refine ⟨_, rfl, rfl, x, rfl, ?_, ?_⟩
        · show rep 100000 x (if j = j then ors j w D j else _)
          rw [if_pos rfl]
          exact hx
        · show bd _ _ (if j = j then ors j w D j else _)
          rw [if_pos rfl]
          exact hbx.mono (by omega) (by omega)
      · have h12 := hx (12 + j) (by omega)
        obtain ⟨t, et⟩ := hz j hj
        have e12 := ors_12 hc w D j hj
        rw [e12, et] at h12
        have es : v + x (12 + j) = gsum 100000 v (x (12 + j)) := (gsum_ne (rep1_ne n5 rv) (rep1_ne n5 h12)).symm
        rw [if_neg (fun q => e (i32inj (by omega) (by omega) q)), w9_12 hj, bind_some9, w9_set (by omega) hj, bind_some9, c3, w9_at hj (by decide), bind_some9, w9_set hj (by omega), bind_some9, zi4 j hj, es]
        have s1 : rep 100000 (upd x (4 * c + j) (gsum 100000 v (x (12 + j)))) (oset (ors c w D j) (4 * c + j) (oadd (some w) (ors c w D j (12 + j)))) := rep_set hx _ (by
          rw [gsum_comm, oadd_comm]
          exact rep1_s2 n5 (hx (12 + j) (by omega)) rv (hbx (12 + j) (by omega)) bv (by omega) (by omega) (by omega) (by omega))
        have t1 : bd (-70000 - 18 * j) (9000 + 18 * j + 9) (oset (ors c w D j) (4 * c + j) (oadd (some w) (ors c w D j (12 + j)))) := bd_set (hbx.mono (by omega) (by omega)) _ (fun t ht => by
          rw [oadd_comm] at ht
          have := oadd_bd (hbx (12 + j) (by omega)) bv t ht
          omega)
        have eq : ors c w D (j + 1) = ors1 c w j (ors c w D j) := if_neg e
        refine ⟨_, rfl, rfl, _, rfl, ?_, ?_⟩
        · rw [eq]
          exact rep_set s1 _ (by
            rw [sum5]
            exact rep1_s2 n5 (s1 (4 * j + 3) (by omega)) rn (t1 (4 * j + 3) (by omega)) bn (by omega) (by omega) (by omega) (by omega))
        · rw [eq]
          exact bd_set (t1.mono (by omega) (by omega)) _ (fun t ht => by
            have := oadd_bd (t1 (4 * j + 3) (by omega)) bn t ht
            omega)
    · obtain ⟨i, y⟩ := y
      obtain ⟨rfl, x, rfl, hx, hbx⟩ := hy
      exact ⟨setA S 9 x, by
        show P_X4_resets_B2 (I32 c) v (I32 4) (setA S 9 x) = _
        unfold P_X4_resets_B2
        rw [if_pos (by decide)], x, rfl, rep_congr hx (ors_eq hc w D)⟩
  obtain ⟨d', e, x, rfl, h⟩ := L
  have k1 : oreset D c w (4 * c + 3) = some w := by
    unfold oreset
    rw [(m4 (by decide)).1, (m4 (by decide)).2, if_pos ⟨rfl, by omega⟩, show 12 + 3 = 5 * 3 by omega, hd 3 (by decide)]
    exact congrArg some (Int.add_zero w)
  have k2 : oreset D c w (12 + c) = some (-w) := by
    unfold oreset
    rw [(zr_div hc).1, (zr_div hc).2, if_neg (by omega), if_pos ⟨rfl, by omega⟩, show 4 * 3 + 3 = 5 * 3 by omega, hd 3 (by decide)]
    exact congrArg some (Int.zero_add (-w))
  have h1 := rep_congr (rep_set h (4 * c + 3) rv) (oset_same k1)
  have h2 := rep_congr (rep_set h1 (12 + c) rn) (oset_same k2)
  refine ⟨_, ?_, h2⟩
  unfold P_X4_resets
  rw [e, bind_some9, c3, w9_set (by omega) (by decide), bind_some9, w9_s12 (by omega), bind_some9]
theorem m_most {S : MS} {x : ZS} {c : Nat} (hc : c < 4) : P_X4_most (I32 c) (setA S 9 x) = some (x (4 * c + 3)) := by
  unfold P_X4_most
  rw [c3, w9_at hc (by decide)]
  rfl
theorem m_least {S : MS} {x : ZS} {c : Nat} (hc : c < 4) : P_X4_least (I32 c) (setA S 9 x) = some (-(x (12 + c))) := by
  unfold P_X4_least
  rw [w9_12 hc]
  rfl
theorem m_delays (S : MS) {d : ZS} {D : OD} (hr : rep 100000 d D) : ∃ d', P_X4_delays (setA S 9 d) = some (ocnt D 3, setA S 9 d') ∧ rep 100000 d' (odelay D) := by
  have L : ∃ r, lp (fun z => P_X4_delays_B4 z.1 z.2.1 z.2.2) 100000 ((0 : Int32), (0 : Int32), setA S 9 d) = some r ∧ (r.1 = ocnt D 3 ∧ ∃ x, r.2 = setA S 9 x ∧ rep 100000 x (odelay D)) := by
    refine lp_inv0 (fun j y => y.1 = ocnt D j ∧ y.2.1 = I32 j ∧ ∃ x, y.2.2 = setA S 9 x ∧ rep 100000 x (odl D j)) 3 (fun j hj y hy => ?_) (fun y hy => ?_) ⟨rfl, rfl, d, rfl, hr⟩ (by decide)
    · obtain ⟨k, i, y⟩ := y
      obtain ⟨rfl, rfl, x, rfl, hx⟩ := hy
      show ∃ z, P_X4_delays_B4 (ocnt D j) (I32 j) (setA S 9 x) = _ ∧ _
      unfold P_X4_delays_B4
      rw [if_neg (nge3 hj), m_most (by omega), bind_some9, c3, w9_set (by omega) (by decide), bind_some9, zi4 j (by omega)]
      refine ⟨_, rfl, ?_, rfl, _, rfl, rep_set hx _ rfl⟩
      have h1 := hx (4 * j + 3) (by omega)
      rw [odl_up D j j (Nat.le_refl _)] at h1
      show ocnt D j + (if x (4 * j + 3) = 100000 then (0 : Int32) else (1 : Int32)) = ocnt D (j + 1)
      rw [cnt_ite n5 h1]
      rfl
    · obtain ⟨k, i, y⟩ := y
      obtain ⟨rfl, rfl, x, rfl, hx⟩ := hy
      exact ⟨(ocnt D 3, setA S 9 x), by
        show P_X4_delays_B4 (ocnt D 3) (I32 3) (setA S 9 x) = _
        unfold P_X4_delays_B4
        rw [if_pos (by decide)], rfl, x, rfl, rep_congr hx (odl_eq D)⟩
  obtain ⟨⟨k, y⟩, e, rfl, x, rfl, h⟩ := L
  refine ⟨x, ?_, h⟩
  unfold P_X4_delays
  rw [e]
  rfl
theorem omin_0 {a : Option Int} (h : ole a (some 0)) : omin a (some 0) = a := omin_eq_l h
theorem m_back (S : MS) {d : ZS} {D : OD} (hr : rep 100000 d D) (hd : dg0 D) : ∃ d', lp (fun z => P_X4_goWayBack_B12 z.1 z.2) 100000 ((0 : Int32), setA S 9 d) = some (setA S 9 d') ∧ rep 100000 d' (oback D) := by
  have L : ∃ r, lp (fun z => P_X4_goWayBack_B12 z.1 z.2) 100000 ((0 : Int32), setA S 9 d) = some r ∧ ∃ x, r = setA S 9 x ∧ rep 100000 x (oback D) := by
    refine lp_inv0 (fun j y => y.1 = I32 j ∧ ∃ x, y.2 = setA S 9 x ∧ rep 100000 x (obk D j)) 3 (fun j hj y hy => ?_) (fun y hy => ?_) ⟨rfl, d, rfl, hr⟩ (by decide)
    · obtain ⟨i, y⟩ := y
      obtain ⟨rfl, x, rfl, hx⟩ := hy
      have dg : ∀ c, c < 3 → obk D j (5 * c) = some 0 := fun c hc => by
        rcases or3 hj with rfl | rfl | rfl <;> rcases or3 hc with rfl | rfl | rfl <;> exact hd _ (by decide)
      have r0 : rep1 100000 0 (some 0) := ⟨rfl, by decide⟩
      have I : ∃ v, lp (fun z => P_X4_goWayBack_B21 (I32 j) z.1 z.2 (setA S 9 x)) 100000 ((0 : Int32), (0 : Int32)) = some v ∧ rep1 100000 v (omin (omin (omin (some 0) (obk D j j)) (obk D j (4 + j))) (obk D j (8 + j))) := by
        refine lp_inv0 (fun k y => y.2 = I32 k ∧ rep1 100000 y.1 (match k with | 0 => some 0 | 1 => omin (some 0) (obk D j j) | 2 => omin (omin (some 0) (obk D j j)) (obk D j (4 + j)) | _ => omin (omin (omin (some 0) (obk D j j)) (obk D j (4 + j))) (obk D j (8 + j)))) 3 (fun k hk y hy => ?_) (fun y hy => ?_) ⟨rfl, r0⟩ (by decide)
        · obtain ⟨u, i⟩ := y
          obtain ⟨rfl, hu⟩ := hy
          show ∃ z, P_X4_goWayBack_B21 (I32 j) u (I32 k) (setA S 9 x) = _ ∧ _
          unfold P_X4_goWayBack_B21
          rw [if_neg (nge3 hk)]
          by_cases e : k = j
          · subst e
            rw [if_pos rfl, zi4 k (by omega)]
            refine ⟨_, rfl, rfl, ?_⟩
            rcases or3 hk with rfl | rfl | rfl
            · have := dg 0 (by decide)
              show rep1 100000 u (omin (some 0) (obk D 0 0))
              rw [show obk D 0 0 = some 0 from this]
              exact hu
            · have := dg 1 (by decide)
              show rep1 100000 u (omin (omin (some 0) (obk D 1 1)) (obk D 1 5))
              rw [show obk D 1 5 = some 0 from this, omin_0 (omin_le_l _ _)]
              exact hu
            · have := dg 2 (by decide)
              show rep1 100000 u (omin (omin (omin (some 0) (obk D 2 2)) (obk D 2 6)) (obk D 2 10))
              rw [show obk D 2 10 = some 0 from this, omin_0 (ole_trans (omin_le_l _ _) (omin_le_l _ _))]
              exact hu
          · rw [if_neg (fun q => e (i32inj (by omega) (by omega) q)), w9_at (by omega) (by omega), bind_some9, less_min, zi4 k (by omega)]
            refine ⟨_, rfl, rfl, ?_⟩
            have hxx := hx (4 * k + j) (by omega)
            rcases or3 hk with rfl | rfl | rfl
            · rw [show 4 * 0 + j = j by omega] at hxx
              show rep1 100000 (gmin u (x (4 * 0 + j))) (omin (some 0) (obk D j j))
              rw [show 4 * 0 + j = j by omega]
              exact rep1_cmin n5 hu hxx
            · exact rep1_cmin n5 hu hxx
            · exact rep1_cmin n5 hu hxx
        · obtain ⟨u, i⟩ := y
          obtain ⟨rfl, hu⟩ := hy
          exact ⟨u, by
            show P_X4_goWayBack_B21 (I32 j) u (I32 3) (setA S 9 x) = _
            unfold P_X4_goWayBack_B21
            rw [if_pos (by decide)], hu⟩
      obtain ⟨v, ev, rv⟩ := I
      show ∃ z, P_X4_goWayBack_B12 (I32 j) (setA S 9 x) = _ ∧ _
      unfold P_X4_goWayBack_B12
      rw [if_neg (nge3 hj), ev, bind_some9, w9_s12 (by omega), bind_some9, zi4 j (by omega)]
      exact ⟨_, rfl, rfl, _, rfl, rep_set hx _ rv⟩
    · obtain ⟨i, y⟩ := y
      obtain ⟨rfl, x, rfl, hx⟩ := hy
      exact ⟨setA S 9 x, by
        show P_X4_goWayBack_B12 (I32 3) (setA S 9 x) = _
        unfold P_X4_goWayBack_B12
        rw [if_pos (by decide)], x, rfl, rep_congr hx (obk_eq D)⟩
  obtain ⟨r, e, x, rfl, h⟩ := L
  exact ⟨x, e, h⟩
theorem m_free (S : MS) {c : Nat} (hc : c < 3) {d : ZS} {D : OD} (hr : rep 100000 d D) (hd : dg0 D) : ∃ d', (Option.bind (lp (fun z => P_X4_goFree_B22 (I32 c) z.1 z.2) 100000 ((0 : Int32), setA S 9 d)) fun h15 => wr h15 9 ((12 : Int32) + I32 c) (0 : Int32)) = some (setA S 9 d') ∧ rep 100000 d' (ofree D c) := by
  have L : ∃ r, lp (fun z => P_X4_goFree_B22 (I32 c) z.1 z.2) 100000 ((0 : Int32), setA S 9 d) = some r ∧ ∃ x, r = setA S 9 x ∧ rep 100000 x (ofree D c) := by
    refine lp_inv0 (fun j y => y.1 = I32 j ∧ ∃ x, y.2 = setA S 9 x ∧ rep 100000 x (ofr c D j)) 4 (fun j hj y hy => ?_) (fun y hy => ?_) ⟨rfl, d, rfl, hr⟩ (by decide)
    · obtain ⟨i, y⟩ := y
      obtain ⟨rfl, x, rfl, hx⟩ := hy
      show ∃ z, P_X4_goFree_B22 (I32 c) (I32 j) (setA S 9 x) = _ ∧ _
      unfold P_X4_goFree_B22
      rw [if_neg (zi3 j hj)]
      by_cases e : j = c
      · subst e
        rw [if_pos rfl, zi4 j hj]
        refine ⟨_, rfl, rfl, x, rfl, ?_⟩
        show rep 100000 x (if j = j then ofr j D j else _)
        rw [if_pos rfl]
        exact hx
      · rw [if_neg (fun q => e (i32inj (by omega) (by omega) q)), w9_set (by omega) hj, bind_some9, c3, w9_at hj (by decide), bind_some9, w9_set hj (by omega), bind_some9, zi4 j hj]
        have s1 : rep 100000 (upd x (4 * c + j) 100000) (oset (ofr c D j) (4 * c + j) none) := rep_set hx _ rfl
        have eq : ofr c D (j + 1) = ofr1 c j (ofr c D j) := if_neg e
        refine ⟨_, rfl, rfl, _, rfl, ?_⟩
        rw [eq]
        exact rep_set s1 _ (s1 (4 * j + 3) (by omega))
    · obtain ⟨i, y⟩ := y
      obtain ⟨rfl, x, rfl, hx⟩ := hy
      exact ⟨setA S 9 x, by
        show P_X4_goFree_B22 (I32 c) (I32 4) (setA S 9 x) = _
        unfold P_X4_goFree_B22
        rw [if_pos (by decide)], x, rfl, rep_congr hx (ofr_eq hc D)⟩
  obtain ⟨r, e, x, rfl, h⟩ := L
  have k2 : ofree D c (12 + c) = some 0 := by
    unfold ofree
    rw [(zr_div hc).1, (zr_div hc).2, if_neg (by omega), if_pos ⟨rfl, by omega⟩]
    exact hd 3 (by decide)
  refine ⟨_, by rw [e, bind_some9, w9_s12 (by omega)], rep_congr (rep_set h (12 + c) (x := 0) (y := some 0) ⟨rfl, by decide⟩) (oset_same k2)⟩
theorem m_copy (S : MS) {c f : Nat} (hc : c < 3) (hf : f < 3) (hn : c ≠ f) {d : ZS} {D : OD} (hr : rep 100000 d D) : ∃ d', lp (fun z => P_X4_goCopy_B34 (I32 c) (I32 f) z.1 z.2) 100000 ((0 : Int32), setA S 9 d) = some (setA S 9 d') ∧ rep 100000 d' (ocopy D c f) := by
  have L : ∃ r, lp (fun z => P_X4_goCopy_B34 (I32 c) (I32 f) z.1 z.2) 100000 ((0 : Int32), setA S 9 d) = some r ∧ ∃ x, r = setA S 9 x ∧ rep 100000 x (ocopy D c f) := by
    refine lp_inv0 (fun j y => y.1 = I32 j ∧ ∃ x, y.2 = setA S 9 x ∧ rep 100000 x (ocp c f D j)) 4 (fun j hj y hy => ?_) (fun y hy => ?_) ⟨rfl, d, rfl, hr⟩ (by decide)
    · obtain ⟨i, y⟩ := y
      obtain ⟨rfl, x, rfl, hx⟩ := hy
      show ∃ z, P_X4_goCopy_B34 (I32 c) (I32 f) (I32 j) (setA S 9 x) = _ ∧ _
      unfold P_X4_goCopy_B34
      rw [if_neg (zi3 j hj)]
      by_cases e : j = c
      · subst e
        rw [if_pos rfl, zi4 j hj]
        refine ⟨_, rfl, rfl, x, rfl, ?_⟩
        show rep 100000 x (if j = j then ocp j f D j else _)
        rw [if_pos rfl]
        exact hx
      · rw [if_neg (fun q => e (i32inj (by omega) (by omega) q)), w9_at (by omega) hj, bind_some9, w9_set (by omega) hj, bind_some9, w9_at hj (by omega), bind_some9, w9_set hj (by omega), bind_some9, zi4 j hj]
        have s1 : rep 100000 (upd x (4 * c + j) (x (4 * f + j))) (oset (ocp c f D j) (4 * c + j) (ocp c f D j (4 * f + j))) := rep_set hx _ (hx _ (by omega))
        have eq : ocp c f D (j + 1) = ocp1 c f j (ocp c f D j) := if_neg e
        refine ⟨_, rfl, rfl, _, rfl, ?_⟩
        rw [eq]
        exact rep_set s1 _ (s1 (4 * j + f) (by omega))
    · obtain ⟨i, y⟩ := y
      obtain ⟨rfl, x, rfl, hx⟩ := hy
      exact ⟨setA S 9 x, by
        show P_X4_goCopy_B34 (I32 c) (I32 f) (I32 4) (setA S 9 x) = _
        unfold P_X4_goCopy_B34
        rw [if_pos (by decide)], x, rfl, rep_congr hx (ocp_eq hc hf hn D)⟩
  obtain ⟨r, e, x, rfl, h⟩ := L
  exact ⟨x, e, h⟩
theorem m_shift (S : MS) {c : Nat} (hc : c < 3) {b : Int32} {w : Int} (hv : b.toInt = w) (hw : 1 ≤ w ∧ w ≤ 9) {d : ZS} {D : OD} (hr : rep 100000 d D) (hb : bd (-70000) 9000 D) : ∃ d', lp (fun z => P_X4_goShift_B32 (I32 c) b z.1 z.2) 100000 ((0 : Int32), setA S 9 d) = some (setA S 9 d') ∧ rep 100000 d' (oshift D c w) := by
  have rv : rep1 100000 b (some w) := ⟨hv, by omega⟩
  have rn : rep1 100000 (-b) (some (-w)) := ⟨by rw [toInt_negS (by omega), hv], by omega⟩
  have bv : ∀ t, (some w : Option Int) = some t → 0 ≤ t ∧ t ≤ 9 := fun t ht => by cases ht; omega
  have bn : ∀ t, (some (-w) : Option Int) = some t → -9 ≤ t ∧ t ≤ 0 := fun t ht => by cases ht; omega
  have L : ∃ r, lp (fun z => P_X4_goShift_B32 (I32 c) b z.1 z.2) 100000 ((0 : Int32), setA S 9 d) = some r ∧ ∃ x, r = setA S 9 x ∧ rep 100000 x (oshift D c w) := by
    refine lp_inv0 (fun j y => y.1 = I32 j ∧ ∃ x, y.2 = setA S 9 x ∧ rep 100000 x (osh c w D j) ∧ bd (-70000 - 18 * j) (9000 + 18 * j) (osh c w D j)) 4 (fun j hj y hy => ?_) (fun y hy => ?_) ⟨rfl, d, rfl, hr, hb.mono (by omega) (by omega)⟩ (by decide)
    · obtain ⟨i, y⟩ := y
      obtain ⟨rfl, x, rfl, hx, hbx⟩ := hy
      show ∃ z, P_X4_goShift_B32 (I32 c) b (I32 j) (setA S 9 x) = _ ∧ _
      unfold P_X4_goShift_B32
      rw [if_neg (zi3 j hj)]
      by_cases e : j = c
      · subst e
        rw [if_pos rfl, zi4 j hj]
        refine ⟨_, rfl, rfl, x, rfl, ?_, ?_⟩
        · show rep 100000 x (if j = j then osh j w D j else _)
          rw [if_pos rfl]
          exact hx
        · show bd _ _ (if j = j then osh j w D j else _)
          rw [if_pos rfl]
          exact hbx.mono (by omega) (by omega)
      · rw [if_neg (fun q => e (i32inj (by omega) (by omega) q)), w9_at (by omega) hj, bind_some9, w9_set (by omega) hj, bind_some9, w9_at hj (by omega), bind_some9, w9_set hj (by omega), bind_some9, zi4 j hj]
        have s1 : rep 100000 (upd x (4 * c + j) (F_X4_sum (x (4 * c + j)) b)) (oset (osh c w D j) (4 * c + j) (oadd (osh c w D j (4 * c + j)) (some w))) := rep_set hx _ (by
          rw [sum5]
          exact rep1_s2 n5 (hx _ (by omega)) rv (hbx _ (by omega)) bv (by omega) (by omega) (by omega) (by omega))
        have t1 : bd (-70000 - 18 * j) (9000 + 18 * j + 9) (oset (osh c w D j) (4 * c + j) (oadd (osh c w D j (4 * c + j)) (some w))) := bd_set (hbx.mono (by omega) (by omega)) _ (fun t ht => by
          have := oadd_bd (hbx _ (by omega)) bv t ht
          omega)
        have eq : osh c w D (j + 1) = osh1 c w j (osh c w D j) := if_neg e
        refine ⟨_, rfl, rfl, _, rfl, ?_, ?_⟩
        · rw [eq]
          exact rep_set s1 _ (by
            rw [sum5]
            exact rep1_s2 n5 (s1 (4 * j + c) (by omega)) rn (t1 (4 * j + c) (by omega)) bn (by omega) (by omega) (by omega) (by omega))
        · rw [eq]
          exact bd_set (t1.mono (by omega) (by omega)) _ (fun t ht => by
            have := oadd_bd (t1 (4 * j + c) (by omega)) bn t ht
            omega)
    · obtain ⟨i, y⟩ := y
      obtain ⟨rfl, x, rfl, hx, hbx⟩ := hy
      exact ⟨setA S 9 x, by
        show P_X4_goShift_B32 (I32 c) b (I32 4) (setA S 9 x) = _
        unfold P_X4_goShift_B32
        rw [if_pos (by decide)], x, rfl, rep_congr hx (osh_eq hc w D)⟩
  obtain ⟨r, e, x, rfl, h⟩ := L
  exact ⟨x, e, h⟩
