/-! wrap: both sides -/
section JM6
variable {S : MS} {c : Nat}
theorem jm_wrap (a1 : Int32) (G : GoodS (S.1 0)) (hc : c ≤ 4) (h5 : S.2.1 5 = I32 c) : ∃ r S3, P_X4_wrap a1 S = some (r, S3) ∧ JM S S3 r vrE True (fun t h => F_X2_wraps t a1 h) := by
  have hS : ∀ (h : HH) (g : Nat → Option Nat), (∀ k, k < 4 → (g k = none ∧ S.1 0 (80 + k) = 0) ∨ ∃ z, g k = some z ∧ S.1 0 (80 + k) = 1 ∧ ZR h z (Zs (S.1 0) (16 + 16 * k))) → ∀ k, k < 4 → ∀ z, g k = some z → ZR h z (Zs (S.1 0) (16 + 16 * k)) ∧ GZ (Zs (S.1 0) (16 + 16 * k)) := fun h g hs k hk z hz => by
    rcases hs k hk with ⟨q, _⟩ | ⟨z', q1, q2, q3⟩
    · rw [q] at hz
      cases hz
    · rw [q1] at hz
      cases hz
      refine ⟨q3, ?_⟩
      rcases G.2.2.1 k hk with w | ⟨_, _, w⟩
      · rw [w] at q2
        exact absurd q2 (by decide)
      · exact w
  have b0 : (beg S).1 0 = S.1 0 := beg_0 S (by decide)
  unfold P_X4_wrap
  rw [m_begins, bind_some9]
  by_cases hp : isC 3 a1
  · obtain ⟨k, hk, rfl⟩ := hp
    rw [if_neg (fun q => (fl_0 (isSlot_fl (I32 k))).mp q ⟨k, hk, rfl⟩), m_hasZone _ hk, bind_some9, b0]
    -- refused by the state: the shelf is empty, or one of the two has no moments
    have bad : ∀ S2 : MS, SX (beg S) S2 → S2.1 0 = S.1 0 → (∀ n h4 t, OKH h4 → DR n h4 t (S.1 0) → n ≤ hSz h4 → Rm 20 300 h4 → ∃ res h5, F_X2_wraps t (I32 k) h4 = some (res, h5) ∧ Gr (fun a => a < n) 20 300 h4 h5 ∧ Ref res h5 2) → ∃ r S3, P_X4_wrap_T45 (I32 k) 0 S2 = some (r, S3) ∧ JM S S3 r vrE True (fun t h => F_X2_wraps t (I32 k) h) := fun S2 sx e0 hb => by
      unfold P_X4_wrap_T45
      rw [if_pos rfl, m_fails, pb2_s]
      refine ⟨_, _, rfl, fun n h4 t o z D hn m => ?_⟩
      obtain ⟨res, h5', e, gg, rf⟩ := hb n h4 t o D hn m
      exact ⟨res, h5', e, gg, Or.inr (Or.inl ⟨True.intro, rf, MF_fail sx 2 e0 (by decide)⟩)⟩
    rcases G.2.2.1 k (by omega) with w | ⟨w1, w2, w3⟩
    · rw [w, if_neg (show ¬ (0 : Int32) = 1 by decide), if_pos rfl]
      refine bad _ (SX.rf _) b0 (fun n h4 t o D hn m => ?_)
      obtain ⟨st, al, sh, z0, C, ht, ⟨bb, d0, Z0, r0⟩, Sr, ⟨g, H, hbs, hns, hs⟩, L⟩ := D
      obtain ⟨res, h5', e, gg, p1, p2⟩ := a_wraps (I32 k) o C Z0 r0 G.2.1 H (fun k => Zs (S.1 0) (16 + 16 * k)) (hS h4 g hs) (m.mono (by decide) (by decide))
      refine ⟨res, h5', e, (gr_pt gg hn ht).mono (by decide) (by decide), (p2 k hk rfl).1 ?_⟩
      rcases hs k (by omega) with ⟨q, _⟩ | ⟨_, _, q, _⟩
      · exact q
      · rw [w] at q
        exact absurd q (by decide)
    · rw [w1, if_pos rfl, if_neg (by decide)]
      have nk : ∀ (h : HH) (g : Nat → Option Nat), ((g k = none ∧ S.1 0 (80 + k) = 0) ∨ ∃ z, g k = some z ∧ S.1 0 (80 + k) = 1 ∧ ZR h z (Zs (S.1 0) (16 + 16 * k))) → ∃ z, g k = some z := fun h g q => by
        rcases q with ⟨_, q⟩ | ⟨z, q, _⟩
        · rw [w1] at q
          exact absurd q (by decide)
        · exact ⟨z, q⟩
      have comp : ∀ n h4 t, OKH h4 → DR n h4 t (S.1 0) → n ≤ hSz h4 → Rm 20 300 h4 → ∃ res h5, F_X2_wraps t (I32 k) h4 = some (res, h5) ∧ Gr (fun a => a < n) 20 300 h4 h5 ∧ ∃ st al sh z0, DC h4 t st al sh z0 (S.1 0 193) ∧ n ≤ t ∧ StR n h4 st (S.1 0) ∧ ShR n h4 sh (S.1 0) ∧ LiR n h4 al (S.1 0) ∧ Gr (Pt h4 t) 20 200 h4 h5 ∧ DOut h5 t st al sh (S.1 0 193) res (if bq (nn (otl (Zs (S.1 0) 0) 4) ∧ nn (otl (Zs (S.1 0) (16 + 16 * k)) 4)) then sTake (Zs (S.1 0) 0) (owrap (otl (Zs (S.1 0) 0) 4) (otl (Zs (S.1 0) (16 + 16 * k)) 4)) else none) := fun n h4 t o D hn m => by
        obtain ⟨st, al, sh, z0, C, ht, ⟨bb, d0, Z0, r0⟩, Sr, ⟨g, H, hbs, hns, hs⟩, L⟩ := D
        obtain ⟨res, h5', e, gg, p1, p2⟩ := a_wraps (I32 k) o C Z0 r0 G.2.1 H (fun k => Zs (S.1 0) (16 + 16 * k)) (hS h4 g hs) (m.mono (by decide) (by decide))
        obtain ⟨zz, hz⟩ := nk h4 g (hs k (by omega))
        exact ⟨res, h5', e, (gr_pt gg hn ht).mono (by decide) (by decide), st, al, sh, z0, C, ht, Sr, ⟨g, H, hbs, hns, hs⟩, L, gg, (p2 k hk rfl).2 zz hz⟩
      have badN : ∀ S2 : MS, SX (beg S) S2 → S2.1 0 = S.1 0 → ¬ (nn (otl (Zs (S.1 0) 0) 4) ∧ nn (otl (Zs (S.1 0) (16 + 16 * k)) 4)) → ∃ r S3, P_X4_wrap_T45 (I32 k) 0 S2 = some (r, S3) ∧ JM S S3 r vrE True (fun t h => F_X2_wraps t (I32 k) h) := fun S2 sx e0 hN => bad S2 sx e0 (fun n h4 t o D hn m => by
        obtain ⟨res, h5', e, gg, st, al, sh, z0, C, ht, Sr, H, L, g8, dO⟩ := comp n h4 t o D hn m
        rw [bq_f.mpr hN] at dO
        exact ⟨res, h5', e, gg, dO⟩)
      obtain ⟨v, t9, ev, fv, rt⟩ := m_ready (S := beg S) (beg_z G) G.2.1
      rw [ev, pb2_s]
      by_cases hn1 : nn (otl (Zs (S.1 0) 0) 4)
      · rw [if_neg (fun q => (fl_0 fv).mp q hn1)]
        obtain ⟨v2, t10, ev2, rt2, fv2⟩ := m_looksAt (setA (beg S) 9 t9) (k := k) (by omega) (D := Zs (S.1 0) (16 + 16 * k)) (by rw [setA_ne _ _ (by decide), b0]; exact w2) w3.toEC.RG
        rw [ev2, pb2_s]
        obtain ⟨S2, eS2⟩ : ∃ S2, S2 = setA (setA (beg S) 9 t9) 10 t10 := ⟨_, rfl⟩
        have sx2 : SX (beg S) S2 := by rw [eS2]; exact (SX.set _ _ (by decide)).tr (SX.set _ _ (by decide))
        have s20 : S2.1 0 = S.1 0 := by rw [eS2, setA_ne _ _ (by decide), setA_ne _ _ (by decide)]; exact b0
        rw [← eS2]
        by_cases hn2 : nn (otl (Zs (S.1 0) (16 + 16 * k)) 4)
        · rw [if_neg (fun q => (fl_0 fv2).mp q hn2)]
          have T1 := G.2.1.Tt hn1
          have T2 := w3.Tt hn2
          have g9 : S2.1 9 = t9 := by rw [eS2, setA_ne _ _ (by decide), setA_get]
          have g10 : S2.1 10 = t10 := by rw [eS2, setA_get]
          -- the row of greater bounds
          obtain ⟨wx, ewx⟩ : ∃ wx : Nat → Nat → Int32, (∀ i, wx 0 i = S.1 0 i) ∧ ∀ j i, wx (j + 1) i = upd (wx j) j (F_X4_more (t9 j) (t10 j)) i := ⟨fun n => Nat.rec (S.1 0) (fun j f => upd f j (F_X4_more (t9 j) (t10 j))) n, fun _ => rfl, fun _ _ => rfl⟩
          have ewx0 : wx 0 = S.1 0 := funext ewx.1
          have ewxs : ∀ j, wx (j + 1) = upd (wx j) j (F_X4_more (t9 j) (t10 j)) := fun j => funext (ewx.2 j)
          have wat : ∀ k i, wx k i = if i < k then F_X4_more (t9 i) (t10 i) else S.1 0 i := fun k => by
            induction k with
            | zero => exact fun i => by rw [if_neg (Nat.not_lt_zero i), ewx0]
            | succ k ih =>
              intro i
              rw [ewxs]
              unfold upd
              by_cases q : i = k
              · subst q
                rw [if_pos rfl, if_pos (Nat.lt_succ_self i)]
              · rw [if_neg q, ih i]
                by_cases h : i < k
                · rw [if_pos h, if_pos (by omega)]
                · rw [if_neg h, if_neg (by omega)]
          have L : lp (fun z => P_X4_wrap_B58 (I32 k) 1 z.1 z.2) 100000 ((0 : Int32), S2) = some (setA S2 0 (wx 16)) := by
            have e0 : setA S2 0 (wx 0) = S2 := by rw [ewx0, ← s20, setA_self]
            have L := lp_for0 (B := fun z => P_X4_wrap_B58 (I32 k) 1 z.1 z.2) (r := setA S2 0 (wx 16)) (fun j => (I32 j, setA S2 0 (wx j))) 16 (fun j hj => by
              show P_X4_wrap_B58 (I32 k) 1 (I32 j) (setA S2 0 (wx j)) = _
              unfold P_X4_wrap_B58
              have i9 : ix (I32 j) j (mlen 9) := ix_of j 16 hj (by decide)
              have i10 : ix (I32 j) j (mlen 10) := ix_of j 16 hj (by decide)
              rw [if_neg (n16 hj), rd_i i9, bind_some9, rd_i i10, bind_some9, wr_i _ (show ix ((0 : Int32) + I32 j) j (mlen 0) from ix0 (show j < 194 by omega) (by decide)), bind_some9, setA_ne (K := 0) (K' := 9) _ _ (by decide), setA_ne (K := 0) (K' := 10) _ _ (by decide), g9, g10, setA_get, setA_set, ← ewxs, i32s j (by omega)]) (by
              show P_X4_wrap_B58 (I32 k) 1 (I32 16) _ = _
              unfold P_X4_wrap_B58
              rw [if_pos (by decide)]) 100000 (by decide)
            have L2 : lp (fun z => P_X4_wrap_B58 (I32 k) 1 z.1 z.2) 100000 ((0 : Int32), setA S2 0 (wx 0)) = _ := L
            rw [e0] at L2
            exact L2
          have rE : rep 100000 (sub (wx 16) 0) (owrap (otl (Zs (S.1 0) 0) 4) (otl (Zs (S.1 0) (16 + 16 * k)) 4)) := fun i hi => by
            unfold sub
            rw [Nat.zero_add, wat, if_pos hi, more_max]
            exact rep1_max n5 (rt i hi) (rt2 i hi)
          unfold P_X4_wrap_T45
          rw [if_neg (by decide), L, bind_some9]
          obtain ⟨v3, ev3, fv3⟩ := m_isTooFar (setA S2 0 (wx 16)) (by rw [setA_get]; exact rE)
          rw [ev3, bind_some9]
          have sx3 : SX (beg S) (setA S2 0 (wx 16)) := sx2.tr (SXset _ _)
          by_cases hg : Great (owrap (otl (Zs (S.1 0) 0) 4) (otl (Zs (S.1 0) (16 + 16 * k)) 4))
          · obtain ⟨GW, hkW⟩ := GZ_wrap T1 T2 hg
            rw [if_pos ((fl_0 fv3).mpr (fun q => q hg)), m_changed (setA S2 0 (wx 16)) (D := owrap (otl (Zs (S.1 0) 0) 4) (otl (Zs (S.1 0) (16 + 16 * k)) 4)) (B := Zs (S.1 0) 0) (by rw [setA_get]; exact rE) (by rw [sx3.2 1 (by decide) (by decide) (by decide)]; exact beg_rep G), bind_some9]
            obtain ⟨S3, e3, mf, s0⟩ := m_endsR sx3 (dcnt_noF (Zs (S.1 0) 0) (owrap (otl (Zs (S.1 0) 0) 4) (otl (Zs (S.1 0) (16 + 16 * k)) 4))) hc h5
            rw [setA_get] at s0
            rw [e3, pb2_s]
            refine ⟨_, S3, rfl, fun n h4 t o z D hn m => ?_⟩
            obtain ⟨res, h5', e, gg, st, al, sh, z0, C, ht, Sr, H, Ls, g8, dO⟩ := comp n h4 t o D hn m
            rw [if_pos (bq_t.mpr ⟨hn1, hn2⟩), sTake_t hkW] at dO
            obtain ⟨q1, q2, q3⟩ := dOut_go (n := n) (S := S) (S3 := S3) o C ht Sr H Ls G g8 dO (by rw [s0]; exact rE) GW (by rw [s0, wat, if_neg (by decide)]) (fun i h1 h2 => by rw [s0, wat, if_neg (by omega)])
            exact ⟨res, h5', e, gg, Or.inr (Or.inr ⟨_, q1, rfl, mf, q2, q3⟩)⟩
          · rw [if_neg (fun q => (fl_0 fv3).mp q hg)]
            obtain ⟨S3, e3, mf⟩ := m_endsF sx3 (-12) (Or.inr rfl)
            rw [if_neg (by decide)] at mf
            rw [e3, pb2_s]
            refine ⟨_, S3, rfl, fun n h4 t o z D hn m => ?_⟩
            obtain ⟨res, h5', e, gg, st, al, sh, z0, C, ht, Sr, H, Ls, g8, dO⟩ := comp n h4 t o D hn m
            rw [if_pos (bq_t.mpr ⟨hn1, hn2⟩), sTake_f (fun q => hg q.2)] at dO
            exact ⟨res, h5', e, gg, Or.inr (Or.inl ⟨True.intro, dO, mf⟩)⟩
        · rw [if_pos ((fl_0 fv2).mpr hn2)]
          exact badN S2 sx2 s20 (fun q => hn2 q.2)
      · rw [if_pos ((fl_0 fv).mpr hn1)]
        exact badN _ (SX.set _ _ (by decide)) (by rw [setA_ne _ _ (by decide)]; exact b0) (fun q => hn1 q.1)
  · rw [if_pos ((fl_0 (isSlot_fl a1)).mpr hp), m_fails, pb2_s]
    refine ⟨_, _, rfl, fun n h4 t o z D hn m => ?_⟩
    obtain ⟨st, al, sh, z0, C, ht, ⟨bb, d0, Z0, r0⟩, Sr, ⟨g, H, hbs, hns, hs⟩, L⟩ := D
    obtain ⟨res, h5', e, gg, p1, p2⟩ := a_wraps a1 o C Z0 r0 G.2.1 H (fun k => Zs (S.1 0) (16 + 16 * k)) (hS h4 g hs) (m.mono (by decide) (by decide))
    exact ⟨res, h5', e, (gr_pt gg hn ht).mono (by decide) (by decide), Or.inl ⟨p1 hp, MF1 S 1 (by decide)⟩⟩
end JM6
