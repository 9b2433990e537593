/-! needless: the model, both sides -/
section Q5
variable {B L b : Nat} {xs : Nat → Int32} {h h' : HH} {S S' : MS}
theorem dm4 : ∀ m, m < 16 → I32 m / (4 : Int32) = I32 (m / 4) ∧ I32 m - I32 m / (4 : Int32) * (4 : Int32) = I32 (m % 4) := by decide
theorem nd_M {n : Nat} (hm : n < 16) (G : GoodS (S.1 0)) (hn : nn (otl (Zs (S.1 0) 0) 4)) : ∃ v S', P_X4_isNeedless (I32 n) S = some (v, S') ∧ v = nd (Zs (S.1 0) 0) n ∧ (S' = S ∨ ∃ t, S' = setA S 10 t) := by
  have hq : n = 4 * (n / 4) + n % 4 := by omega
  have hi : n / 4 < 4 := by omega
  have hj : n % 4 < 4 := by omega
  unfold P_X4_isNeedless nd
  rw [(dm4 n hm).2, (dm4 n hm).1]
  by_cases e : n / 4 = n % 4
  · rw [e, if_pos rfl, if_pos rfl]
    exact ⟨_, _, rfl, rfl, Or.inl rfl⟩
  · rw [if_neg (fun q => e (i32inj (by omega) (by omega) q)), if_neg e, rd_i (show ix _ n (mlen 0) from ix0 (show n < 194 by omega) (by decide)), bind_some9]
    have e3 : (I32 (n / 4) = (3 : Int32)) = (n / 4 = 3) := propext ⟨fun q => i32inj (b := 3) (by omega) (by decide) q, fun q => by rw [q]; rfl⟩
    have ep : (if I32 (n / 4) = (3 : Int32) then (0 : Int32) else (100000 : Int32)) = if n / 4 = 3 then (0 : Int32) else (100000 : Int32) := by
      by_cases z : n / 4 = 3
      · rw [if_pos z, if_pos (by rw [e3]; exact z)]
      · rw [if_neg z, if_neg (by rw [e3]; exact z)]
    rw [ep]
    have hp := rep1_inj n5 (gz_at G hm) (pl_rep (n / 4) hi)
    by_cases y : S.1 0 n = if n / 4 = 3 then (0 : Int32) else (100000 : Int32)
    · rw [if_pos y, if_pos (hp.mp y)]
      exact ⟨_, _, rfl, rfl, Or.inl rfl⟩
    · rw [if_neg y, if_neg (fun q => y (hp.mpr q))]
      have e1 : mov S 0 0 10 0 16 = setA S 10 (fun i => if 0 ≤ i ∧ i < 0 + 16 then S.1 0 (0 + (i - 0)) else S.1 10 i) := rfl
      have r1 : rep 100000 (fun i => if 0 ≤ i ∧ i < 0 + 16 then S.1 0 (0 + (i - 0)) else S.1 10 i) (Zs (S.1 0) 0) := rep_sub G.1 (fun i hi => by
        show (if _ then _ else _) = _
        rw [if_pos (by omega), Nat.sub_zero])
      have rE : rep 100000 (upd (fun i => if 0 ≤ i ∧ i < 0 + 16 then S.1 0 (0 + (i - 0)) else S.1 10 i) n (if n / 4 = 3 then (0 : Int32) else (100000 : Int32))) (oforget (Zs (S.1 0) 0) (n / 4) (n % 4)) := by
        unfold oforget
        rw [← hq]
        exact rep_set r1 n (pl_rep (n / 4) hi)
      have ec := EC_forget G.2.1 hi hj e
      obtain ⟨v, t, et, rt, fv⟩ := m_tightens (K := 10) rfl S rE ec.RG
      rw [m_carries (K := 0) (K' := 10) (o := 0) (o' := 0) (a := (0 : Int32)) (b := (0 : Int32)) S rfl rfl (by decide) (by decide) (by decide) (by decide) (Or.inl (by decide)), bind_some9, e1, wr_i _ (show ix (I32 n) n (mlen 10) from ix_of n 16 hm (by decide)), bind_some9, setA_get, setA_set, et, pb2_s, rd_i (show ix (I32 n) n (mlen 10) from ix_of n 16 hm (by decide)), bind_some9, rd_i (show ix _ n (mlen 0) from ix0 (show n < 194 by omega) (by decide)), bind_some9, setA_get, setA_ne _ _ (by decide)]
      refine ⟨_, _, rfl, ?_, Or.inr ⟨t, rfl⟩⟩
      have q1 := rep1_lt n5 (rt n hm) (gz_at G hm)
      have q2 := nd_iff G.2.1 hn hi hj e
      rw [← hq] at q2
      have q3 := dcnt_0 (otl (oforget (Zs (S.1 0) 0) (n / 4) (n % 4)) 4) (otl (Zs (S.1 0) 0) 4) 16 (Nat.le_refl _)
      by_cases z : S.1 0 n < t n
      · rw [if_pos z, if_neg (fun w => q1.mpr (q2.mp (q3.mp w)) z)]
      · rw [if_neg z, if_pos (q3.mpr (q2.mpr (q1.mp z)))]
theorem nd_01 (D : OD) (n : Nat) : nd D n = 0 ∨ nd D n = 1 := by
  unfold nd
  split
  · exact Or.inl rfl
  · split
    · exact Or.inl rfl
    · split
      · exact Or.inr rfl
      · exact Or.inl rfl
theorem mB17 (G : GoodS (S.1 0)) (hn : nn (otl (Zs (S.1 0) 0) 4)) : ∃ S', lp (fun z => P_X4_needless_B17 z.1 z.2.1 z.2.2) 100000 ((0 : Int32), (0 : Int32), S) = some (ndc (Zs (S.1 0) 0) 16, S') ∧ (S' = S ∨ ∃ t, S' = setA S 10 t) := by
  obtain ⟨r, e, S2, e2, hS⟩ := lp_inv0 (B := fun z => P_X4_needless_B17 z.1 z.2.1 z.2.2) (Q := fun r => ∃ S', r = (ndc (Zs (S.1 0) 0) 16, S') ∧ (S' = S ∨ ∃ t, S' = setA S 10 t)) (fuel := 100000) (x := ((0 : Int32), (0 : Int32), S)) (fun j z => z.1 = ndc (Zs (S.1 0) 0) j ∧ z.2.1 = I32 j ∧ (z.2.2 = S ∨ ∃ t, z.2.2 = setA S 10 t)) 16 (fun j hj y hy => by
    obtain ⟨x, i, X⟩ := y
    obtain ⟨e1, e2, hX⟩ := hy
    have e1 : x = ndc (Zs (S.1 0) 0) j := e1
    have e2 : i = I32 j := e2
    have hX : X = S ∨ ∃ t, X = setA S 10 t := hX
    subst e1
    subst e2
    have X0 : X.1 0 = S.1 0 := hX.elim (fun (q : X = S) => by rw [q]) (fun q0 => q0.elim fun t (q : X = setA S 10 t) => by rw [q]; exact setA_ne _ _ (by decide))
    obtain ⟨v, X2, ev, hv, h2⟩ := nd_M (S := X) hj (by rw [X0]; exact G) (by rw [X0]; exact hn)
    rw [X0] at hv
    refine ⟨(ndc (Zs (S.1 0) 0) (j + 1), I32 (j + 1), X2), ?_, rfl, rfl, ?_⟩
    · show P_X4_needless_B17 _ (I32 j) X = _
      unfold P_X4_needless_B17
      rw [if_neg (n16 hj), ev, pb2_s, i32s j (by omega), hv]
      have : (if nd (Zs (S.1 0) 0) j = 0 then (0 : Int32) else (1 : Int32)) = nd (Zs (S.1 0) 0) j := by
        rcases nd_01 (Zs (S.1 0) 0) j with q | q <;> rw [q] <;> decide
      rw [this]
      rfl
    · show X2 = S ∨ ∃ t, X2 = setA S 10 t
      exact hX.elim (fun (q : X = S) => by rw [q] at h2; exact h2) (fun q0 => q0.elim fun t (q : X = setA S 10 t) => by rw [q] at h2; exact h2.elim (fun q2 => Or.inr ⟨t, q2⟩) (fun q3 => q3.elim fun t2 q2 => Or.inr ⟨t2, by rw [q2, setA_set]⟩))) (fun y hy => by
    obtain ⟨x, i, X⟩ := y
    obtain ⟨e1, e2, hX⟩ := hy
    have e1 : x = ndc (Zs (S.1 0) 0) 16 := e1
    have e2 : i = I32 16 := e2
    subst e1
    subst e2
    refine ⟨_, ?_, X, rfl, hX⟩
    show P_X4_needless_B17 _ (I32 16) X = _
    unfold P_X4_needless_B17
    exact if_pos (by decide)) ⟨rfl, rfl, Or.inl rfl⟩ (by decide)
  exact ⟨S2, by rw [e, e2], hS⟩
theorem q_needless (I : LW B L b xs h S) (m : Rm 50000 228000 h) : ∃ res h' r S', F_X1_needless B h = some (res, h') ∧ P_X4_needless S = some (r, S') ∧ QO "java/util/NoSuchElementException" "" False h h' S S' res (fun v => v = r) := by
  obtain ⟨dk, kv, hi, tx, st, al, sh, z0, C, D, ⟨bb, d0, Z0, r0⟩, s1, s2, s3, G⟩ := I.2.2.2.2.1.parts
  obtain ⟨d1, r1, g1, Z1, hc⟩ := t_one I (m.mono (by decide) (by decide))
  obtain ⟨v, t9, ev, fv, rt⟩ := m_ready (S := S) G.1 G.2.1
  have o := I.2.1
  unfold F_X1_needless P_X4_needless
  rw [v_isO C, bind_some9, ev, pb2_s]
  rcases hc with ⟨hn, e⟩ | ⟨hn, e, g2⟩
  · rw [e, thr_r, asks_t fv hn, pb2_s, if_neg (fun z => (fl_0 fv).mp z hn)]
    have s0 : (setI (setA S 9 t9) 8 0).1 0 = S.1 0 := setA_ne (K := 9) (K' := 0) S t9 (by decide)
    obtain ⟨S2, eL, hS⟩ := mB17 (S := setI (setA S 9 t9) 8 0) (by rw [s0]; exact G) (by rw [s0]; exact hn)
    rw [s0] at eL
    rw [eL, bind_some9]
    have LF : ∃ X, lp (fun z => F_X1_needless_B9 B (some (hSz h)) z.1 z.2.1 z.2.2) 100000 ((0 : Int32), (0 : Int32), mkZ h d1) = some (ndc (Zs (S.1 0) 0) 16, X) ∧ Gr (fun a => a < hSz (mkZ h d1)) 64 544 (mkZ h d1) X := by
      obtain ⟨r, e, X, e2, hX⟩ := lp_inv0 (B := fun z => F_X1_needless_B9 B (some (hSz h)) z.1 z.2.1 z.2.2) (Q := fun r => ∃ X, r = (ndc (Zs (S.1 0) 0) 16, X) ∧ Gr (fun a => a < hSz (mkZ h d1)) 64 544 (mkZ h d1) X) (fuel := 100000) (x := ((0 : Int32), (0 : Int32), mkZ h d1)) (fun i z => z.1 = ndc (Zs (S.1 0) 0) (4 * i) ∧ z.2.1 = I32 i ∧ Gr (fun a => a < hSz (mkZ h d1)) (16 * i) (136 * i) (mkZ h d1) z.2.2) 4 (fun i hi4 y hy => by
        obtain ⟨x, ii, X⟩ := y
        obtain ⟨e1, e2, hX⟩ := hy
        have e1 : x = ndc (Zs (S.1 0) 0) (4 * i) := e1
        have e2 : ii = I32 i := e2
        have hX : Gr (fun a => a < hSz (mkZ h d1)) (16 * i) (136 * i) (mkZ h d1) X := hX
        subst e1
        subst e2
        obtain ⟨r, e, X2, e3, hX2⟩ := lp_inv0 (B := fun z => F_X1_needless_B17 B (some (hSz h)) (ndc (Zs (S.1 0) 0) (4 * i)) (I32 i) z.1 z.2.1 z.2.2) (Q := fun r => ∃ X', r = (ndc (Zs (S.1 0) 0) (4 * i + 4), X') ∧ Gr (fun a => a < hSz (mkZ h d1)) (16 * i + 16) (136 * i + 136) (mkZ h d1) X') (fuel := 100000) (x := (ndc (Zs (S.1 0) 0) (4 * i), (0 : Int32), X)) (fun j z => z.1 = ndc (Zs (S.1 0) 0) (4 * i + j) ∧ z.2.1 = I32 j ∧ Gr (fun a => a < hSz (mkZ h d1)) (16 * i + 4 * j) (136 * i + 34 * j) (mkZ h d1) z.2.2) 4 (fun j hj y hy => by
          obtain ⟨x, jj, X⟩ := y
          obtain ⟨e1, e2, hX⟩ := hy
          have e1 : x = ndc (Zs (S.1 0) 0) (4 * i + j) := e1
          have e2 : jj = I32 j := e2
          have hX : Gr (fun a => a < hSz (mkZ h d1)) (16 * i + 4 * j) (136 * i + 34 * j) (mkZ h d1) X := hX
          subst e1
          subst e2
          have gT : Gr (fun a => a < hSz h) (2 + (16 * i + 4 * j)) (17 + (136 * i + 34 * j)) h X := g1.tr (hX.sub (fun a (q : a < hSz h) => Nat.lt_of_lt_of_le q g1.2.2.2.1))
          obtain ⟨X', eX, gX⟩ := nd_F (X := X) (B := B) (i := i) (j := j) hi4 hj (by rw [gT.2.1 B (o.lt C)]; exact C) (by rw [gT.2.1 dk (o.lt D.1)]; exact D.1) (Z0.gr gT (o.lt Z0.1) (o.lt Z0.2.1)) (Z1.gr hX (g1.ok.lt Z1.1) (g1.ok.lt Z1.2.1)) r0 r1 G.2.1 hX.ok ((m.gr gT (by omega) (by omega)).mono (by omega) (by omega)) (ndc (Zs (S.1 0) 0) (4 * i + j)) (ndc (Zs (S.1 0) 0) (4 * i))
          exact ⟨_, eX, rfl, rfl, (hX.tr (gX.sub (fun a (q : a < hSz (mkZ h d1)) => Nat.lt_of_lt_of_le q hX.2.2.2.1))).mono (by omega) (by omega)⟩) (fun y hy => by
          obtain ⟨x, jj, X⟩ := y
          obtain ⟨e1, e2, hX⟩ := hy
          have e1 : x = ndc (Zs (S.1 0) 0) (4 * i + 4) := e1
          have e2 : jj = I32 4 := e2
          subst e1
          subst e2
          refine ⟨_, ?_, X, rfl, hX⟩
          show F_X1_needless_B17 B (some (hSz h)) _ (I32 i) _ (I32 4) X = _
          unfold F_X1_needless_B17
          exact if_pos (by decide)) ⟨rfl, rfl, hX⟩ (by decide)
        refine ⟨(ndc (Zs (S.1 0) 0) (4 * (i + 1)), I32 (i + 1), X2), ?_, rfl, rfl, hX2.mono (by omega) (by omega)⟩
        show F_X1_needless_B9 B (some (hSz h)) _ (I32 i) X = _
        unfold F_X1_needless_B9
        rw [if_neg (zi3 i hi4), e, e3, bind_some9, i32s i (by omega)]
        rfl) (fun y hy => by
        obtain ⟨x, ii, X⟩ := y
        obtain ⟨e1, e2, hX⟩ := hy
        have e1 : x = ndc (Zs (S.1 0) 0) 16 := e1
        have e2 : ii = I32 4 := e2
        subst e1
        subst e2
        refine ⟨_, ?_, X, rfl, hX⟩
        show F_X1_needless_B9 B (some (hSz h)) _ (I32 4) X = _
        unfold F_X1_needless_B9
        exact if_pos (by decide)) ⟨rfl, rfl, (Gr.rf g1.ok).mono (by decide) (by decide)⟩ (by decide)
      exact ⟨X, by rw [e, e2], hX⟩
    obtain ⟨X, eX, gX⟩ := LF
    rw [eX, bind_some9]
    refine ⟨_, _, _, _, rfl, rfl, QO.ok ((g1.tr (gX.sub (fun a (q : a < hSz h) => Nat.lt_of_lt_of_le q g1.2.2.2.1))).mono (by decide) (by decide)) ?_ ?_ rfl⟩
    · rcases hS with rfl | ⟨t, rfl⟩
      · exact (SM.a9 _ _).tr (SMi _ _)
      · exact ((SM.a9 _ _).tr (SMi _ _)).tr (SM.a10 _ _)
    · rcases hS with rfl | ⟨t, rfl⟩
      · exact setI_get _ _ _
      · exact setI_get _ _ _
  · rw [e, thr_l, asks_f fv hn, pb2_s, if_pos ((fl_0 fv).mpr hn)]
    exact ⟨_, _, _, _, rfl, rfl, g2.mono (by decide) (by decide), (SM.a9 _ _).tr (SMi _ _), Or.inl ⟨setI_get _ _ _, _, rfl⟩⟩
end Q5
