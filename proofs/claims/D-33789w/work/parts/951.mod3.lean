/-! the model's acts on its zone -/
theorem Zs_rep {s : Nat → Int32} {o : Nat} {D : OD} (h : rep 100000 (sub s o) D) : ∀ i, i < 16 → Zs s o i = D i := fun i hi => by
  have h1 := h i hi
  unfold Zs
  cases hD : D i with
  | none =>
    rw [hD] at h1
    exact if_pos h1
  | some t =>
    rw [hD] at h1
    have n : s (o + i) ≠ 100000 := rep1_ne n5 h1
    rw [if_neg n]
    exact congrArg some h1.1
def SX (S S' : MS) : Prop := S'.2 = S.2 ∧ ∀ K, K ≠ 0 → K ≠ 9 → K ≠ 10 → S'.1 K = S.1 K
theorem SX.rf (S : MS) : SX S S := ⟨rfl, fun _ _ _ _ => rfl⟩
theorem SX.tr {S S1 S2 : MS} (a : SX S S1) (b : SX S1 S2) : SX S S2 := ⟨b.1.trans a.1, fun K x y z => (b.2 K x y z).trans (a.2 K x y z)⟩
theorem SX.set (S : MS) {K : Nat} (d : ZS) (h : K = 0 ∨ K = 9 ∨ K = 10) : SX S (setA S K d) := ⟨rfl, fun K' x y z => setA_ne S d (by omega)⟩
theorem mov_ne (S : MS) {K o K' o' n K2 : Nat} (h : K2 ≠ K') : (mov S K o K' o' n).1 K2 = S.1 K2 := setA_ne S _ h
theorem mov_get (S : MS) (K o K' o' n i : Nat) : (mov S K o K' o' n).1 K' i = if o' ≤ i ∧ i < o' + n then S.1 K (o + (i - o')) else S.1 K' i := by
  unfold mov
  rw [setA_get]
theorem SX.mov (S : MS) {K o K' o' n : Nat} (h : K' = 0 ∨ K' = 9 ∨ K' = 10) : SX S (mov S K o K' o' n) := SX.set S _ h
/-- how an act on the zone comes out in the model -/
def MOut (S S' : MS) (w v : Int32) : Option (Int32 × OD) → Prop
  | some (u, E) => v = u ∧ rep 100000 (sub (S'.1 0) 0) E ∧ S'.1 0 193 = w ∧ ∀ i, 16 ≤ i → i < 193 → S'.1 0 i = S.1 0 i
  | none => v = -12
theorem takeOK_iff {E : OD} : takeOK E ↔ ¬ Late E ∧ Great E := ⟨fun h => ⟨fun q => q.2 (h.1 q.1), h.2⟩, fun h => ⟨fun q => Classical.byContradiction fun z => h.1 ⟨q, z⟩, h.2⟩⟩
theorem R_of {E : OD} (ec : EC E) (hn : nn (otl E 4)) : RG (otl E 4) ∧ dg0 (otl E 4) := ⟨RG_clo (clo_otl hn) (ec.bnd.mono (by decide) (by decide)), dg0_otl ec.1 hn⟩
theorem m_tells (S : MS) (told : Int32) {x : ZS} {E : OD} (hr : rep 100000 x E) (ec : EC E) (hn : nn (otl E 4)) : ∃ v S', P_X4_tells told (setA S 9 x) = some (v, S') ∧ SX S S' ∧ MOut S S' (S.1 0 193 + 1) v (if bq (takeOK (otl E 4)) then some (told, otl E 4) else none) := by
  obtain ⟨v0, x', e0, r0, f0⟩ := m_tightens (K := 9) rfl S hr ec.RG
  have rg := (R_of ec hn).1
  obtain ⟨S2, eS2⟩ : ∃ S2, S2 = mov (setA S 9 x') 9 0 0 0 16 := ⟨_, rfl⟩
  obtain ⟨S3, eS3⟩ : ∃ S3, S3 = setA S2 0 (upd (S2.1 0) 193 (S2.1 0 193 + 1)) := ⟨_, rfl⟩
  have g2 : ∀ i, S2.1 0 i = if i < 16 then x' i else S.1 0 i := fun i => by
    rw [eS2, mov_get, setA_get, setA_ne S _ (by decide)]
    by_cases h : i < 16
    · rw [if_pos (by omega), if_pos h, Nat.zero_add, Nat.sub_zero]
    · rw [if_neg (by omega), if_neg h]
  have g3 : ∀ i, S3.1 0 i = if i < 16 then x' i else if i = 193 then S.1 0 193 + 1 else S.1 0 i := fun i => by
    rw [eS3, setA_get]
    unfold upd
    by_cases h : i = 193
    · rw [if_pos h, if_neg (by omega), if_pos h, g2, if_neg (by decide)]
    · rw [if_neg h, g2, if_neg h]
  have r3 : rep 100000 (sub (S3.1 0) 0) (otl E 4) := fun i hi => by
    unfold sub
    rw [Nat.zero_add, g3, if_pos hi]
    exact r0 i hi
  have sx3 : SX S S3 := by
    rw [eS3, eS2]
    exact ((SX.set S x' (by decide)).tr (SX.mov _ (by decide))).tr (SX.set _ _ (by decide))
  obtain ⟨v12, t, e12, f12⟩ := m_isTooLate S3 r3 rg
  have r4 : rep 100000 (sub ((setA S3 9 t).1 0) 0) (otl E 4) := by
    rw [setA_ne S3 t (by decide)]
    exact r3
  obtain ⟨v15, e15, f15⟩ := m_isTooFar (setA S3 9 t) r4
  have i193 : ix (193 : Int32) 193 (mlen 0) := ⟨by decide, by decide, by decide⟩
  have sx4 : SX S (setA S3 9 t) := sx3.tr (SX.set _ _ (by decide))
  have fin : takeOK (otl E 4) → rep 100000 (sub ((setA S3 9 t).1 0) 0) (otl E 4) ∧ (setA S3 9 t).1 0 193 = S.1 0 193 + 1 ∧ ∀ i, 16 ≤ i → i < 193 → (setA S3 9 t).1 0 i = S.1 0 i := fun _ => ⟨r4, by
    rw [setA_ne S3 t (by decide), g3, if_neg (by decide), if_pos rfl], fun i h1 h2 => by
    rw [setA_ne S3 t (by decide), g3, if_neg (by omega), if_neg (by omega)]⟩
  unfold P_X4_tells
  rw [e0, pb2_s, m_carries (K := 9) (K' := 0) (o := 0) (o' := 0) (a := (0 : Int32)) (b := (0 : Int32)) (setA S 9 x') rfl rfl (by decide) (by decide) (by decide) (by decide) (Or.inl (by decide)), bind_some9, ← eS2, rd_i i193, bind_some9, wr_i _ i193, bind_some9, ← eS3, e12, pb2_s]
  by_cases hl : Late (otl E 4)
  · rw [if_neg (fun q => (fl_0 f12).mp q hl)]
    refine ⟨_, _, rfl, sx4, ?_⟩
    rw [bq_f.mpr (fun q => (takeOK_iff.mp q).1 hl)]
    rfl
  · rw [if_pos ((fl_0 f12).mpr hl), e15, bind_some9]
    by_cases hg : Great (otl E 4)
    · have hk := takeOK_iff.mpr ⟨hl, hg⟩
      rw [if_pos ((fl_0 f15).mpr (fun q => q hg))]
      refine ⟨_, _, rfl, sx4, ?_⟩
      rw [if_pos (bq_t.mpr hk)]
      exact ⟨rfl, fin hk⟩
    · rw [if_neg (fun q => (fl_0 f15).mp q hg)]
      refine ⟨_, _, rfl, sx4, ?_⟩
      rw [bq_f.mpr (fun q => hg (takeOK_iff.mp q).2)]
      rfl
theorem m_toldBounds (S : MS) {x : ZS} {E B : OD} (hr : rep 100000 x E) (ec : EC E) (hn : nn (otl E 4)) (hb : rep 100000 (sub (S.1 1) 0) B) : ∃ v S', P_X4_toldBounds (setA S 9 x) = some (v, S') ∧ SX S S' ∧ MOut S S' (S.1 0 193 + 1) v (if bq (takeOK (otl E 4)) then some (dcnt B (otl E 4) 16, otl E 4) else none) := by
  obtain ⟨v, S', e, sx, mo⟩ := m_tells S 0 hr ec hn
  unfold P_X4_toldBounds
  rw [e, pb2_s]
  by_cases hk : takeOK (otl E 4)
  · rw [if_pos (bq_t.mpr hk)] at mo ⊢
    obtain ⟨rfl, r, w, a⟩ := mo
    rw [if_neg (by decide), m_changed S' r (B := B) (by rw [sx.2 1 (by decide) (by decide) (by decide)]; exact hb), bind_some9]
    exact ⟨_, _, rfl, sx, rfl, r, w, a⟩
  · rw [bq_f.mpr hk] at mo ⊢
    have mo : v = -12 := mo
    rw [if_pos mo]
    exact ⟨_, _, rfl, sx, rfl⟩
section MG
variable {S : MS} {D : OD}
theorem rep_z (hr : rep 100000 (sub (S.1 0) 0) D) {i j : Nat} (hi : i < 4) (hj : j < 4) : rep1 100000 (S.1 0 (4 * i + j)) (D (4 * i + j)) := by
  have h := hr (4 * i + j) (by omega)
  have e : sub (S.1 0) 0 (4 * i + j) = S.1 0 (4 * i + j) := by unfold sub; rw [Nat.zero_add]
  rw [e] at h
  exact h
theorem rep_set0 {d : ZS} (hr : rep 100000 (sub d 0) D) (m : Nat) {x : Int32} {y : Option Int} (hx : rep1 100000 x y) : rep 100000 (sub (upd d m x) 0) (oset D m y) := by
  have h := rep_set hr m hx
  refine rep_sub (f := upd (sub d 0) m x) (o := 0) (by intro i hi; unfold sub at h ⊢; rw [Nat.zero_add]; exact h i hi) (fun i hi => ?_)
  unfold sub upd
  simp only [Nat.zero_add]
/-- the tail of telling and of forgetting one bound -/
theorem m_put1 (hr : rep 100000 (sub (S.1 0) 0) D) {m : Nat} (hm : m < 16) {x : Int32} {y : Option Int} (hx : rep1 100000 x y) (ec : EC (oset D m y)) : ∃ v t, P_X4_isTooLate (setA S 0 (upd (S.1 0) m x)) = some (v, setA (setA S 0 (upd (S.1 0) m x)) 9 t) ∧ fl v (Late (oset D m y)) := m_isTooLate _ (by rw [setA_get]; exact rep_set0 hr m hx) ec.RG
theorem dcnt_set {m : Nat} (hm : m < 16) {y : Option Int} : dcnt D (oset D m y) 16 = if D m = y then (0 : Int32) else (1 : Int32) := by
  have h : ∀ k, dcnt D (oset D m y) k = if m < k then (if D m = y then (0 : Int32) else (1 : Int32)) else 0 := fun k => by
    induction k with
    | zero => rw [if_neg (Nat.not_lt_zero m)]; rfl
    | succ k ih =>
      show dcnt D (oset D m y) k + (if D k = oset D m y k then (0 : Int32) else (1 : Int32)) = _
      rw [ih]
      unfold oset
      by_cases e : k = m
      · subst e
        rw [if_neg (Nat.lt_irrefl k), if_pos rfl, if_pos (Nat.lt_succ_self k), Int32.zero_add]
      · rw [if_neg e, if_pos rfl, Int32.add_zero]
        by_cases h : m < k
        · rw [if_pos h, if_pos (show m < k + 1 by omega)]
        · rw [if_neg h, if_neg (show ¬ m < k + 1 by omega)]
  rw [h 16, if_pos hm]
/-- the answer of telling or forgetting a bound: whether it is another one -/
noncomputable def sOne (D E : OD) : Option (Int32 × OD) := (sTake D E).map fun q => (if q.1 = 0 then (0 : Int32) else (1 : Int32), q.2)
theorem great_set (G : GZ D) {m : Nat} {y : Option Int} (hy : ∀ t, y = some t → t ≤ 999) : Great (oset D m y) := fun i hi t ht => by
  unfold oset at ht
  by_cases e : i = m
  · rw [if_pos e] at ht
    exact hy t ht
  · rw [if_neg e] at ht
    exact (G.2.2.1 i hi t ht).2
theorem sOne_set (G : GZ D) {m : Nat} (hm : m < 16) {y : Option Int} (hy : ∀ t, y = some t → t ≤ 999) : sOne D (oset D m y) = if bq (Late (oset D m y)) then none else some (if D m = y then (0 : Int32) else (1 : Int32), oset D m y) := by
  unfold sOne
  by_cases h : Late (oset D m y)
  · rw [if_pos (bq_t.mpr h), sTake_f (fun q => (takeOK_iff.mp q).1 h)]
    rfl
  · rw [bq_f.mpr h, sTake_t (takeOK_iff.mpr ⟨h, great_set G hy⟩), dcnt_set hm]
    by_cases e : D m = y
    · rw [if_pos e]
      rfl
    · rw [if_neg e]
      rfl
theorem m_goTell (a1 a2 a3 : Int32) (hr : rep 100000 (sub (S.1 0) 0) D) (G : GZ D) : ((¬ ∃ i j, tellP a1 a2 a3 i j) → P_X4_goTell a1 a2 a3 S = some (-11, S)) ∧ ∀ i j, tellP a1 a2 a3 i j → ∃ v S', P_X4_goTell a1 a2 a3 S = some (v, S') ∧ SX S S' ∧ MOut S S' (S.1 0 193) v (sOne D (otell D (4 * i + j) a3.toInt)) := by
  have fa := tellArg_fl a1 a2 a3
  have ua : tellArg a1 a2 a3 = if F_X4_arePair a1 a2 = 0 then (0 : Int32) else F_X4_in a3 (-9) (if a1 = (3 : Int32) then 0 else 9) := rfl
  constructor
  · intro n
    unfold P_X4_goTell
    have h0 := (fl_0 fa).mpr n
    rw [ua] at h0
    by_cases h1 : F_X4_arePair a1 a2 = 0
    · rw [if_pos h1]
    · rw [if_neg h1] at h0 ⊢
      rw [if_pos h0]
  · intro i j p
    obtain ⟨hi, hj, nij, e1, e2, hb⟩ := id p
    have h0 : tellArg a1 a2 a3 ≠ 0 := fun q => (fl_0 fa).mp q ⟨i, j, p⟩
    rw [ua] at h0
    have h1 : F_X4_arePair a1 a2 ≠ 0 := fun q => h0 (by rw [if_pos q])
    rw [if_neg h1] at h0
    unfold P_X4_goTell
    rw [if_neg h1, if_neg h0]
    subst e1
    subst e2
    have hix : ix (((0 : Int32) + ((4 : Int32) * I32 i)) + I32 j) (4 * i + j) (mlen 0) := ix04 hi hj (by decide)
    have rz := rep_z hr hi hj
    have hb9 : a3.toInt ≤ 9 := by
      have := hb.2
      split at this <;> omega
    have key : ∀ (y : Int32), rep1 100000 y (omin (D (4 * i + j)) (some a3.toInt)) → ∀ c : Int32, c = (if D (4 * i + j) = omin (D (4 * i + j)) (some a3.toInt) then (0 : Int32) else (1 : Int32)) → ∃ v S', P_X4_goTell_T80 (I32 i) (I32 j) a3 c y (((0 : Int32) + ((4 : Int32) * I32 i)) + I32 j) 0 S = some (v, S') ∧ SX S S' ∧ MOut S S' (S.1 0 193) v (sOne D (otell D (4 * i + j) a3.toInt)) := fun y hy c hc => by
      obtain ⟨v, t, ev, fv⟩ := m_put1 hr (m := 4 * i + j) (by omega) hy (EC_tell G hi hj nij hb)
      unfold P_X4_goTell_T80
      rw [wr_i _ hix, bind_some9, ev, pb2_s]
      have hs := sOne_set G (m := 4 * i + j) (by omega) (y := omin (D (4 * i + j)) (some a3.toInt)) (fun t ht => (omin_some ht).elim (fun q => (G.2.2.1 _ (by omega) t q).2) (fun q => by cases q; omega))
      have sx : SX S (setA (setA S 0 (upd (S.1 0) (4 * i + j) y)) 9 t) := (SX.set S _ (by decide)).tr (SX.set _ _ (by decide))
      refine ⟨_, _, rfl, sx, ?_⟩
      show MOut _ _ _ _ (sOne D (oset D (4 * i + j) (omin (D (4 * i + j)) (some a3.toInt))))
      rw [hs]
      by_cases hl : Late (oset D (4 * i + j) (omin (D (4 * i + j)) (some a3.toInt)))
      · rw [if_pos (bq_t.mpr hl), if_neg (fun q => (fl_0 fv).mp q hl)]
        rfl
      · rw [bq_f.mpr hl, if_pos ((fl_0 fv).mpr hl)]
        have s0 : (setA (setA S 0 (upd (S.1 0) (4 * i + j) y)) 9 t).1 0 = upd (S.1 0) (4 * i + j) y := by rw [setA_ne _ _ (by decide), setA_get]
        refine ⟨?_, by rw [s0]; exact rep_set0 hr _ hy, by rw [s0]; unfold upd; rw [if_neg (by omega)], fun k h1 h2 => by rw [s0]; unfold upd; rw [if_neg (by omega)]⟩
        rw [hc]
        split <;> rfl
    have ra : rep1 100000 a3 (some a3.toInt) := ⟨rfl, by omega⟩
    rw [rd_i hix, bind_some9]
    have ole_iff : S.1 0 (4 * i + j) ≤ a3 ↔ D (4 * i + j) = omin (D (4 * i + j)) (some a3.toInt) := by
      have h1 := rep1_lt n5 rz ra
      rw [← Int32.not_lt, h1]
      exact ⟨fun q => (omin_eq_l q).symm, fun q => by rw [q]; exact omin_le_r _ _⟩
    by_cases hle : S.1 0 (4 * i + j) ≤ a3
    · have heq := ole_iff.mp hle
      rw [if_pos hle, if_pos rfl, bind_some9]
      exact key _ (by rw [← heq]; exact rz) 0 (by rw [if_pos heq])
    · have hne : ¬ D (4 * i + j) = omin (D (4 * i + j)) (some a3.toInt) := fun q => hle (ole_iff.mpr q)
      rw [if_neg hle, if_neg (by decide)]
      refine key a3 ?_ 1 (by rw [if_neg hne])
      rcases omin_cases (D (4 * i + j)) (some a3.toInt) with e | e
      · exact absurd e.symm hne
      · rw [e]
        exact ra
theorem m_goForget (a1 a2 : Int32) (hr : rep 100000 (sub (S.1 0) 0) D) (G : GZ D) : (¬ isP a1 a2 → P_X4_goForget a1 a2 S = some (-11, S)) ∧ ∀ i j, i < 4 → j < 4 → i ≠ j → a1 = I32 i → a2 = I32 j → ∃ v S', P_X4_goForget a1 a2 S = some (v, S') ∧ SX S S' ∧ MOut S S' (S.1 0 193) v (sOne D (oforget D i j)) := by
  have fa := arePair_fl a1 a2
  constructor
  · intro n
    unfold P_X4_goForget
    rw [if_pos ((fl_0 fa).mpr n)]
  · intro i j hi hj nij e1 e2
    unfold P_X4_goForget
    rw [if_neg (fun q => (fl_0 fa).mp q ⟨i, j, hi, hj, nij, e1, e2⟩)]
    subst e1
    subst e2
    have hix : ix (((0 : Int32) + ((4 : Int32) * I32 i)) + I32 j) (4 * i + j) (mlen 0) := ix04 hi hj (by decide)
    have rz := rep_z hr hi hj
    have hy : rep1 100000 (if I32 i = (3 : Int32) then (0 : Int32) else (100000 : Int32)) (if i = 3 then some 0 else none) := by
      rcases or4 hi with rfl | rfl | rfl | rfl
      · rfl
      · rfl
      · rfl
      · exact ⟨rfl, by decide⟩
    obtain ⟨v, t, ev, fv⟩ := m_put1 hr (m := 4 * i + j) (by omega) hy (EC_forget G hi hj nij)
    rw [rd_i hix, bind_some9, wr_i _ hix, bind_some9, ev, pb2_s]
    have hs := sOne_set G (m := 4 * i + j) (by omega) (y := if i = 3 then some 0 else none) (fun t ht => by
      split at ht <;> cases ht
      omega)
    refine ⟨_, _, rfl, (SX.set S _ (by decide)).tr (SX.set _ _ (by decide)), ?_⟩
    show MOut _ _ _ _ (sOne D (oset D (4 * i + j) (if i = 3 then some 0 else none)))
    rw [hs]
    by_cases hl : Late (oset D (4 * i + j) (if i = 3 then some 0 else none))
    · rw [if_pos (bq_t.mpr hl), if_neg (fun q => (fl_0 fv).mp q hl)]
      rfl
    · rw [bq_f.mpr hl, if_pos ((fl_0 fv).mpr hl)]
      have s0 : (setA (setA S 0 (upd (S.1 0) (4 * i + j) (if I32 i = (3 : Int32) then (0 : Int32) else (100000 : Int32)))) 9 t).1 0 = upd (S.1 0) (4 * i + j) (if I32 i = (3 : Int32) then (0 : Int32) else (100000 : Int32)) := by rw [setA_ne _ _ (by decide), setA_get]
      refine ⟨?_, by rw [s0]; exact rep_set0 hr _ hy, by rw [s0]; unfold upd; rw [if_neg (by omega)], fun k h1 h2 => by rw [s0]; unfold upd; rw [if_neg (by omega)]⟩
      have hj2 := rep1_inj n5 rz hy
      by_cases q : D (4 * i + j) = (if i = 3 then some 0 else none)
      · rw [if_pos q, if_pos (hj2.mpr q)]
        rfl
      · rw [if_neg q, if_neg (fun z => q (hj2.mp z))]
        rfl
end MG
