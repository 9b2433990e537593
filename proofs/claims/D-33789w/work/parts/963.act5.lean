/-! meet, wrap, forgetAll: both sides -/
def smix (f : Int32 → Int32 → Int32) (s e : Nat → Int32) : Nat → Nat → Int32
  | 0 => s
  | j + 1 => upd (smix f s e j) j (f (s j) (e j))
theorem smix_at (f : Int32 → Int32 → Int32) (s e : Nat → Int32) : ∀ k i, smix f s e k i = if i < k then f (s i) (e i) else s i
  | 0, i => by rw [if_neg (Nat.not_lt_zero i)]; rfl
  | k + 1, i => by
    show upd (smix f s e k) k (f (s k) (e k)) i = _
    unfold upd
    by_cases q : i = k
    · subst q
      rw [if_pos rfl, if_pos (Nat.lt_succ_self i)]
    · rw [if_neg q, smix_at f s e k i]
      by_cases h : i < k
      · rw [if_pos h, if_pos (by omega)]
      · rw [if_neg h, if_neg (by omega)]
theorem smix_rep {f : Int32 → Int32 → Int32} {s e : Nat → Int32} {E : OD} (h : ∀ i, i < 16 → rep1 100000 (f (s i) (e i)) (E i)) : rep 100000 (sub (smix f s e 16) 0) E := fun i hi => by
  unfold sub
  rw [Nat.zero_add, smix_at, if_pos hi]
  exact h i hi
theorem dOut_go {n : Nat} {h h' : HH} {t st al sh z0 : Nat} {S S3 : MS} {w0 : Int32} {res : (Nat × String) ⊕ Int32} {u : Int32} {E : OD} (o : OKH h) (C0 : DC h t st al sh z0 w0) (ht : n ≤ t) (Sr : StR n h st (S.1 0)) (H : ShR n h sh (S.1 0)) (L : LiR n h al (S.1 0)) (G : GoodS (S.1 0)) (g : Gr (Pt h t) 20 200 h h') (dO : DOut h' t st al sh (S.1 0 193) res (some (u, E))) (r2 : rep 100000 (sub (S3.1 0) 0) E) (GE : GZ E) (w2 : S3.1 0 193 = S.1 0 193) (a : agr (S.1 0) (S3.1 0)) : res = .inr u ∧ DR n h' t (S3.1 0) ∧ GoodS (S3.1 0) := by
  obtain ⟨rfl, z, b, d, C, Z, r⟩ := dO
  exact ⟨rfl, DR.zone o g C0 ht Sr H L C ⟨b, d, Z, r⟩ (fun i hi => (Zs_rep r2 i hi).symm) w2 a, GoodS.zone G r2 GE a⟩
section JM5
variable {S : MS} {c : Nat}
theorem beg_z {S : MS} (G : GoodS (S.1 0)) : rep 100000 (sub ((beg S).1 0) 0) (Zs (S.1 0) 0) := by
  rw [beg_0 S (by decide)]
  exact G.1
theorem shelf_ix {k i : Nat} (hk : k < 4) (hi : i < 16) : ix (((16 : Int32) + ((16 : Int32) * I32 k)) + I32 i) (16 + 16 * k + i) (mlen 0) := by
  have e : (16 : Int32) + ((16 : Int32) * I32 k) = I32 (16 + 16 * k) := by
    have : ∀ k, k < 4 → (16 : Int32) + ((16 : Int32) * I32 k) = I32 (16 + 16 * k) := by decide
    exact this k hk
  rw [e, i32add (by omega)]
  exact ix_of _ _ (show 16 + 16 * k + i < 194 by omega) (by decide)
theorem m_hasZone (S : MS) {k : Nat} (hk : k ≤ 3) : P_X4_hasZone (I32 k) S = some (if S.1 0 (80 + k) = (1 : Int32) then (1 : Int32) else (0 : Int32)) := by
  unfold P_X4_hasZone
  rw [show (80 : Int32) = I32 80 from rfl, i32add (by omega), rd_i (show ix (I32 (80 + k)) (80 + k) (mlen 0) from ix_of _ _ (show 80 + k < 194 by omega) (by decide))]
  rfl
theorem rep_at {f : Nat → Int32} {o : Nat} {D : OD} (h : rep 100000 (sub f o) D) {i : Nat} (hi : i < 16) : rep1 100000 (f (o + i)) (D i) := h i hi
theorem rep_at0 {f : Nat → Int32} {D : OD} (h : rep 100000 (sub f 0) D) {i : Nat} (hi : i < 16) : rep1 100000 (f i) (D i) := by
  have := h i hi
  unfold sub at this
  rw [Nat.zero_add] at this
  exact this
theorem GZ_meet {D E : OD} (G : GZ D) (GE : GZ E) (hk : takeOK (omeet D E)) : GZ (omeet D E) := by
  have ec := EC_meet G GE
  exact GZ.of_take (D := oplain) hk ec.1 ec.2.1 (fun i hi t ht => (omin_some ht).elim (fun q => (G.2.2.1 i hi t q).1) (fun q => (GE.2.2.1 i hi t q).1))
theorem GZ_wrap {T E : OD} (h : Tt T) (hE : Tt E) (hk : Great (owrap T E)) : GZ (owrap T E) ∧ takeOK (owrap T E) := by
  have ec := EC_wrap h hE
  have cl := clo_wrap h.1 hE.1
  have lt : LateF (owrap T E) := fun j hj t ht => (omax_some ht).elim (fun q => h.2.2.2.1 j hj t q) (fun q => hE.2.2.2.1 j hj t q)
  exact ⟨GZ_clo cl ec.1 ec.2.1 lt hk, fun _ => by rw [otl_clo cl 4 (Nat.le_refl _)]; exact lt, hk⟩
theorem jm_meet (a1 : Int32) (G : GoodS (S.1 0)) (hc : c ≤ 4) (h5 : S.2.1 5 = I32 c) : ∃ r S3, P_X4_meet a1 S = some (r, S3) ∧ JM S S3 r vrE True (fun t h => F_X2_meets t a1 h) := by
  have hS : ∀ (h : HH) (g : Nat → Option Nat), (∀ k, k < 4 → (g k = none ∧ S.1 0 (80 + k) = 0) ∨ ∃ z, g k = some z ∧ S.1 0 (80 + k) = 1 ∧ ZR h z (Zs (S.1 0) (16 + 16 * k))) → ∀ k, k < 4 → ∀ z, g k = some z → ZR h z (Zs (S.1 0) (16 + 16 * k)) ∧ GZ (Zs (S.1 0) (16 + 16 * k)) := fun h g hs k hk z hz => by
    rcases hs k hk with ⟨q, _⟩ | ⟨z', q1, q2, q3⟩
    · rw [q] at hz
      cases hz
    · rw [q1] at hz
      cases hz
      refine ⟨q3, ?_⟩
      rcases G.2.2.1 k hk with w | ⟨_, _, w⟩
      · rw [w] at q2
        exact absurd q2 (by decide)
      · exact w
  have b0 : (beg S).1 0 = S.1 0 := beg_0 S (by decide)
  unfold P_X4_meet
  rw [m_begins, bind_some9]
  by_cases hp : isC 3 a1
  · obtain ⟨k, hk, rfl⟩ := hp
    rw [if_neg (fun q => (fl_0 (isSlot_fl (I32 k))).mp q ⟨k, hk, rfl⟩), m_hasZone _ hk, bind_some9, b0]
    rcases G.2.2.1 k (by omega) with w | ⟨w1, w2, w3⟩
    · rw [w, if_neg (show ¬ (0 : Int32) = 1 by decide), if_pos rfl, m_fails, pb2_s]
      refine ⟨_, _, rfl, fun n h4 t o z D hn m => ?_⟩
      obtain ⟨st, al, sh, z0, C, ht, ⟨bb, d0, Z0, r0⟩, Sr, ⟨g, H, hbs, hns, hs⟩, L⟩ := D
      obtain ⟨res, h5', e, gg, p1, p2⟩ := a_meets (I32 k) o C Z0 r0 G.2.1 H (fun k => Zs (S.1 0) (16 + 16 * k)) (hS h4 g hs) (m.mono (by decide) (by decide))
      refine ⟨res, h5', e, (gr_pt gg hn ht).mono (by decide) (by decide), Or.inr (Or.inl ⟨True.intro, (p2 k hk rfl).1 ?_, MF1 S 2 (by decide)⟩)⟩
      rcases hs k (by omega) with ⟨q, _⟩ | ⟨_, _, q, _⟩
      · exact q
      · rw [w] at q
        exact absurd q (by decide)
    · rw [w1, if_pos rfl, if_neg (by decide)]
      have L : lp (fun z => P_X4_meet_B33 (I32 k) z.1 z.2) 100000 ((0 : Int32), beg S) = some (setA (beg S) 0 (smix gmin (S.1 0) (sub (S.1 0) (16 + 16 * k)) 16)) := by
        have e0 : setA (beg S) 0 (smix gmin (S.1 0) (sub (S.1 0) (16 + 16 * k)) 0) = beg S := by
          show setA (beg S) 0 (S.1 0) = _
          rw [← b0, setA_self]
        have L := lp_for0 (B := fun z => P_X4_meet_B33 (I32 k) z.1 z.2) (r := setA (beg S) 0 (smix gmin (S.1 0) (sub (S.1 0) (16 + 16 * k)) 16)) (fun j => (I32 j, setA (beg S) 0 (smix gmin (S.1 0) (sub (S.1 0) (16 + 16 * k)) j))) 16 (fun j hj => by
          show P_X4_meet_B33 (I32 k) (I32 j) (setA (beg S) 0 (smix gmin (S.1 0) (sub (S.1 0) (16 + 16 * k)) j)) = _
          unfold P_X4_meet_B33
          have i1 : ix ((0 : Int32) + I32 j) j (mlen 0) := ix0 (show j < 194 by omega) (by decide)
          rw [if_neg (n16 hj), rd_i i1, bind_some9, rd_i (shelf_ix (by omega) hj), bind_some9, wr_i _ i1, bind_some9, setA_get, setA_set, smix_at, if_neg (by omega), smix_at, if_neg (by omega), less_min, i32s j (by omega)]
          rfl) (by
          show P_X4_meet_B33 (I32 k) (I32 16) _ = _
          unfold P_X4_meet_B33
          rw [if_pos (by decide)]) 100000 (by decide)
        have L2 : lp (fun z => P_X4_meet_B33 (I32 k) z.1 z.2) 100000 ((0 : Int32), setA (beg S) 0 (smix gmin (S.1 0) (sub (S.1 0) (16 + 16 * k)) 0)) = _ := L
        rw [e0] at L2
        exact L2
      rw [L, bind_some9]
      have rE : rep 100000 (sub (smix gmin (S.1 0) (sub (S.1 0) (16 + 16 * k)) 16) 0) (omeet (Zs (S.1 0) 0) (Zs (S.1 0) (16 + 16 * k))) := smix_rep (fun i hi => rep1_cmin n5 (rep_at0 G.1 hi) (rep_at w2 hi))
      have ec := EC_meet G.2.1 w3
      obtain ⟨v, t9, ev, fv⟩ := m_isTooLate (setA (beg S) 0 (smix gmin (S.1 0) (sub (S.1 0) (16 + 16 * k)) 16)) (by rw [setA_get]; exact rE) ec.RG
      rw [ev, pb2_s]
      obtain ⟨S2, eS2⟩ : ∃ S2, S2 = setA (setA (beg S) 0 (smix gmin (S.1 0) (sub (S.1 0) (16 + 16 * k)) 16)) 9 t9 := ⟨_, rfl⟩
      have s20 : S2.1 0 = smix gmin (S.1 0) (sub (S.1 0) (16 + 16 * k)) 16 := by rw [eS2, setA_ne _ _ (by decide), setA_get]
      have sx : SX (beg S) S2 := by rw [eS2]; exact (SXset _ _).tr (SX.set _ _ (by decide))
      have gr8 : Great (omeet (Zs (S.1 0) 0) (Zs (S.1 0) (16 + 16 * k))) := fun i hi t ht => (omin_some ht).elim (fun q => (G.2.1.2.2.1 i hi t q).2) (fun q => (w3.2.2.1 i hi t q).2)
      rw [← eS2]
      have nk : ∀ (h : HH) (g : Nat → Option Nat), ((g k = none ∧ S.1 0 (80 + k) = 0) ∨ ∃ z, g k = some z ∧ S.1 0 (80 + k) = 1 ∧ ZR h z (Zs (S.1 0) (16 + 16 * k))) → ∃ z, g k = some z := fun h g q => by
        rcases q with ⟨_, q⟩ | ⟨z, q, _⟩
        · rw [w1] at q
          exact absurd q (by decide)
        · exact ⟨z, q⟩
      by_cases hl : Late (omeet (Zs (S.1 0) 0) (Zs (S.1 0) (16 + 16 * k)))
      · rw [if_neg (fun q => (fl_0 fv).mp q hl)]
        obtain ⟨S3, e3, mf⟩ := m_endsF sx (-12) (Or.inr rfl)
        rw [if_neg (by decide)] at mf
        rw [e3, pb2_s]
        refine ⟨_, S3, rfl, fun n h4 t o z D hn m => ?_⟩
        obtain ⟨st, al, sh, z0, C, ht, ⟨bb, d0, Z0, r0⟩, Sr, ⟨g, H, hbs, hns, hs⟩, Ls⟩ := D
        obtain ⟨res, h5', e, gg, p1, p2⟩ := a_meets (I32 k) o C Z0 r0 G.2.1 H (fun k => Zs (S.1 0) (16 + 16 * k)) (hS h4 g hs) (m.mono (by decide) (by decide))
        obtain ⟨zz, hz⟩ := nk h4 g (hs k (by omega))
        have dO := (p2 k hk rfl).2 zz hz
        rw [sTake_f (fun q => (takeOK_iff.mp q).1 hl)] at dO
        exact ⟨res, h5', e, (gr_pt gg hn ht).mono (by decide) (by decide), Or.inr (Or.inl ⟨True.intro, dO, mf⟩)⟩
      · have hk8 := takeOK_iff.mpr ⟨hl, gr8⟩
        rw [if_pos ((fl_0 fv).mpr hl), m_changed S2 (D := omeet (Zs (S.1 0) 0) (Zs (S.1 0) (16 + 16 * k))) (B := Zs (S.1 0) 0) (by rw [s20]; exact rE) (by rw [sx.2 1 (by decide) (by decide) (by decide)]; exact beg_rep G), bind_some9]
        obtain ⟨S3, e3, mf, s0⟩ := m_endsR sx (dcnt_noF (Zs (S.1 0) 0) (omeet (Zs (S.1 0) 0) (Zs (S.1 0) (16 + 16 * k)))) hc h5
        rw [e3, pb2_s]
        refine ⟨_, S3, rfl, fun n h4 t o z D hn m => ?_⟩
        obtain ⟨st, al, sh, z0, C, ht, ⟨bb, d0, Z0, r0⟩, Sr, ⟨g, H, hbs, hns, hs⟩, Ls⟩ := D
        obtain ⟨res, h5', e, gg, p1, p2⟩ := a_meets (I32 k) o C Z0 r0 G.2.1 H (fun k => Zs (S.1 0) (16 + 16 * k)) (hS h4 g hs) (m.mono (by decide) (by decide))
        obtain ⟨zz, hz⟩ := nk h4 g (hs k (by omega))
        have dO := (p2 k hk rfl).2 zz hz
        rw [sTake_t hk8] at dO
        obtain ⟨q1, q2, q3⟩ := dOut_go (n := n) (S := S) (S3 := S3) o C ht Sr ⟨g, H, hbs, hns, hs⟩ Ls G gg dO (by rw [s0, s20]; exact rE) (GZ_meet G.2.1 w3 hk8) (by rw [s0, s20, smix_at, if_neg (by decide)]) (fun i h1 h2 => by rw [s0, s20, smix_at, if_neg (by omega)])
        exact ⟨res, h5', e, (gr_pt gg hn ht).mono (by decide) (by decide), Or.inr (Or.inr ⟨_, q1, rfl, mf, q2, q3⟩)⟩
  · rw [if_pos ((fl_0 (isSlot_fl a1)).mpr hp), m_fails, pb2_s]
    refine ⟨_, _, rfl, fun n h4 t o z D hn m => ?_⟩
    obtain ⟨st, al, sh, z0, C, ht, ⟨bb, d0, Z0, r0⟩, Sr, ⟨g, H, hbs, hns, hs⟩, L⟩ := D
    obtain ⟨res, h5', e, gg, p1, p2⟩ := a_meets a1 o C Z0 r0 G.2.1 H (fun k => Zs (S.1 0) (16 + 16 * k)) (hS h4 g hs) (m.mono (by decide) (by decide))
    exact ⟨res, h5', e, (gr_pt gg hn ht).mono (by decide) (by decide), Or.inl ⟨p1 hp, MF1 S 1 (by decide)⟩⟩
theorem more_max (a b : Int32) : F_X4_more a b = if a < b then b else a := by
  unfold F_X4_more
  by_cases h : a < b
  · rw [if_pos h, if_neg (fun q => by have := Int32.lt_iff_toInt_lt.mp h; have := Int32.le_iff_toInt_le.mp q; omega)]
  · rw [if_neg h, if_pos (Int32.not_lt.mp h)]
def fr16 (s : Nat → Int32) : Nat → Nat → Int32
  | 0 => s
  | j + 1 => upd (fr16 s j) j (if j / 4 = j % 4 ∨ j / 4 = 3 then 0 else 100000)
theorem fr16_at (s : Nat → Int32) : ∀ k i, fr16 s k i = if i < k then (if i / 4 = i % 4 ∨ i / 4 = 3 then 0 else 100000) else s i
  | 0, i => by rw [if_neg (Nat.not_lt_zero i)]; rfl
  | k + 1, i => by
    show upd (fr16 s k) k (if k / 4 = k % 4 ∨ k / 4 = 3 then 0 else 100000) i = _
    unfold upd
    by_cases q : i = k
    · subst q
      rw [if_pos rfl, if_pos (Nat.lt_succ_self i)]
    · rw [if_neg q, fr16_at s k i]
      by_cases h : i < k
      · rw [if_pos h, if_pos (show i < k + 1 by omega)]
      · rw [if_neg h, if_neg (show ¬ i < k + 1 by omega)]
theorem m_frees (S : MS) : P_X4_frees S = some (setA S 0 (fr16 (S.1 0) 16)) := by
  have e0 : setA S 0 (fr16 (S.1 0) 0) = S := setA_self S 0
  have cv : ∀ j, j < 16 → (if (I32 j / (4 : Int32)) = (I32 j - I32 j / (4 : Int32) * (4 : Int32)) then (0 : Int32) else (if (I32 j / (4 : Int32)) = (3 : Int32) then (0 : Int32) else (100000 : Int32))) = (if j / 4 = j % 4 ∨ j / 4 = 3 then 0 else 100000) := by decide
  have L := lp_for0 (B := fun z => P_X4_frees_B2 z.1 z.2) (r := setA S 0 (fr16 (S.1 0) 16)) (fun j => (I32 j, setA S 0 (fr16 (S.1 0) j))) 16 (fun j hj => by
    show P_X4_frees_B2 (I32 j) (setA S 0 (fr16 (S.1 0) j)) = _
    unfold P_X4_frees_B2
    rw [if_neg (n16 hj), cv j hj, wr_i _ (show ix ((0 : Int32) + I32 j) j (mlen 0) from ix0 (show j < 194 by omega) (by decide)), bind_some9, setA_get, setA_set, i32s j (by omega)]
    rfl) (by
    show P_X4_frees_B2 (I32 16) _ = _
    unfold P_X4_frees_B2
    rw [if_pos (by decide)]) 100000 (by decide)
  have L2 : lp (fun z => P_X4_frees_B2 z.1 z.2) 100000 ((0 : Int32), setA S 0 (fr16 (S.1 0) 0)) = _ := L
  rw [e0] at L2
  unfold P_X4_frees
  rw [L2]
  rfl
theorem jm_forgetAll (G : GoodS (S.1 0)) (hc : c ≤ 4) (h5 : S.2.1 5 = I32 c) : ∃ r S3, P_X4_forgetAll S = some (r, S3) ∧ ∀ n h4 t, OKH h4 → DR n h4 t (S.1 0) → n ≤ hSz h4 → Rm 20 300 h4 → ∃ h5, F_X2_forgetsAll t h4 = some (.inr r, h5) ∧ Gr (fun a => a < n) 20 300 h4 h5 ∧ MF S S3 0 ∧ DR n h5 t (S3.1 0) ∧ GoodS (S3.1 0) := by
  have b0 : (beg S).1 0 = S.1 0 := beg_0 S (by decide)
  have rE : rep 100000 (sub (fr16 (S.1 0) 16) 0) oplain := fun i hi => by
    unfold sub oplain
    rw [Nat.zero_add, fr16_at, if_pos hi]
    by_cases q : i / 4 = i % 4 ∨ i / 4 = 3
    · rw [if_pos q, if_pos q]
      exact ⟨rfl, by decide⟩
    · rw [if_neg q, if_neg q]
      rfl
  unfold P_X4_forgetAll
  rw [m_begins, bind_some9, m_frees, bind_some9, b0, m_changed (setA (beg S) 0 (fr16 (S.1 0) 16)) (D := oplain) (B := Zs (S.1 0) 0) (by rw [setA_get]; exact rE) (by rw [setA_ne _ _ (by decide)]; exact beg_rep G), bind_some9]
  obtain ⟨S3, e3, mf, s0⟩ := m_endsR (SXset (beg S) (fr16 (S.1 0) 16)) (dcnt_noF (Zs (S.1 0) 0) oplain) hc h5
  rw [setA_get] at s0
  rw [e3, pb2_s]
  refine ⟨_, S3, rfl, fun n h4 t o D hn m => ?_⟩
  obtain ⟨st, al, sh, z0, C, ht, ⟨bb, d0, Z0, r0⟩, Sr, H, Ls⟩ := D
  obtain ⟨res, h5', e, gg, dO⟩ := a_forgetsAll o C Z0 r0 (m.mono (by decide) (by decide))
  rw [sTake_t take_plain] at dO
  obtain ⟨q1, q2, q3⟩ := dOut_go (n := n) (S := S) (S3 := S3) o C ht Sr H Ls G gg dO (by rw [s0]; exact rE) GZ_plain (by rw [s0, fr16_at, if_neg (by decide)]) (fun i h1 h2 => by rw [s0, fr16_at, if_neg (by omega)])
  subst q1
  exact ⟨h5', e, (gr_pt gg hn ht).mono (by decide) (by decide), mf, q2, q3⟩
end JM5
