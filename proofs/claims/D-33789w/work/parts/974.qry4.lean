/-! doMeet, needless -/
section Q4
variable {B L b : Nat} {xs : Nat → Int32} {h h' : HH} {S S' : MS}
theorem gmin_comm (a b : Int32) : gmin a b = gmin b a := by
  unfold gmin
  by_cases h1 : b < a
  · rw [if_pos h1, if_neg (fun q => Int32.lt_irrefl (Int32.lt_trans h1 q))]
  · rw [if_neg h1]
    by_cases h2 : a < b
    · rw [if_pos h2]
    · rw [if_neg h2]
      exact Int32.le_antisymm (Int32.not_lt.mp h1) (Int32.not_lt.mp h2)
theorem mB12 {k : Nat} (hk : k ≤ 3) (S : MS) : ∃ t, lp (fun z => P_X4_doMeet_B12 (I32 k) z.1 z.2) 100000 ((0 : Int32), S) = some (setA S 10 t) ∧ ∀ i, i < 16 → t i = gmin (S.1 0 i) (S.1 0 (16 + 16 * k + i)) := by
  obtain ⟨r, e, t, e2, ht⟩ := lp_inv0 (B := fun z => P_X4_doMeet_B12 (I32 k) z.1 z.2) (Q := fun r => ∃ t, r = setA S 10 t ∧ ∀ i, i < 16 → t i = gmin (S.1 0 i) (S.1 0 (16 + 16 * k + i))) (fuel := 100000) (x := ((0 : Int32), S)) (fun j z => z.1 = I32 j ∧ ∃ t, z.2 = setA S 10 t ∧ ∀ i, i < j → t i = gmin (S.1 0 i) (S.1 0 (16 + 16 * k + i))) 16 (fun j hj y hy => by
    obtain ⟨x, X⟩ := y
    obtain ⟨e1, t, e2, ht⟩ := hy
    have e1 : x = I32 j := e1
    have e2 : X = setA S 10 t := e2
    subst e1
    subst e2
    refine ⟨(I32 (j + 1), setA S 10 (upd t j (gmin (S.1 0 j) (S.1 0 (16 + 16 * k + j))))), ?_, rfl, _, rfl, fun i hi => ?_⟩
    · show P_X4_doMeet_B12 (I32 k) (I32 j) (setA S 10 t) = _
      unfold P_X4_doMeet_B12
      rw [if_neg (n16 hj), rd_i (show ix _ j (mlen 0) from ix0 (show j < 194 by omega) (by decide)), bind_some9, rd_i (shelf_ix (by omega) hj), bind_some9, wr_i _ (show ix (I32 j) j (mlen 10) from ix_of j 16 hj (by decide)), bind_some9, setA_get, setA_set, setA_ne (K := 10) (K' := 0) _ _ (by decide), less_min, i32s j (by omega)]
    · unfold upd
      by_cases q : i = j
      · rw [if_pos q, q]
      · rw [if_neg q]
        exact ht i (by omega)) (fun y hy => by
    obtain ⟨x, X⟩ := y
    obtain ⟨e1, t, e2, ht⟩ := hy
    have e1 : x = I32 16 := e1
    have e2 : X = setA S 10 t := e2
    subst e1
    subst e2
    refine ⟨_, ?_, t, rfl, ht⟩
    show P_X4_doMeet_B12 (I32 k) (I32 16) _ = _
    unfold P_X4_doMeet_B12
    exact if_pos (by decide)) ⟨rfl, S.1 10, (setA_self S 10).symm, fun i hi => absurd hi (Nat.not_lt_zero i)⟩ (by decide)
  exact ⟨t, by rw [e, e2], ht⟩
theorem q_doMeet (a1 : Int32) (I : LW B L b xs h S) (m : Rm 50000 228000 h) : ∃ res h' r S', F_X1_doMeet B a1 h = some (res, h') ∧ P_X4_doMeet a1 S = some (r, S') ∧ QO "java/lang/IllegalArgumentException" "java/util/NoSuchElementException" True h h' S S' res (fun v => v = r) := by
  obtain ⟨e, o, z, st, R, _⟩ := id I
  obtain ⟨dk, kv, hi, tx, st, al, sh, z0, C, D, ⟨bb, d0, Z0, r0⟩, s1, s2, s3, G⟩ := R.parts
  obtain ⟨h1, eh1⟩ : ∃ h1, h1 = hpush h (.inr (3, [.null])) 1 := ⟨_, rfl⟩
  have g1 : Gr (fun a => a < hSz h) 1 1 h h1 := by rw [eh1]; exact Gr.push o _ _ (Nat.lt_irrefl _)
  have C1 : hF h1 B = some (.inr (0, [.ref dk, kv, .ref hi, .ref tx])) := by rw [g1.2.1 B (o.lt C)]; exact C
  have m1 : Rm 1 6 h1 := (m.gr g1 (by decide) (by decide)).mono (by decide) (by decide)
  have gx : Gr (fun a => a < hSz h) 50000 228000 h (hskip h1 6) := (g1.tr ((Gr.skip (P := fun a => a < hSz h1) g1.ok 6 (Nat.lt_irrefl _)).sub (fun a (q : a < hSz h) => Nat.lt_of_lt_of_le q g1.2.2.2.1))).mono (by decide) (by decide)
  unfold F_X1_doMeet P_X4_doMeet
  rw [v_newO (m.mono (by decide) (by decide)), bind_some9, ← eh1, v_isO C1, bind_some9]
  rcases t_shelf a1 o R g1 m1 with ⟨p, e1, e2⟩ | ⟨e1, e2⟩ | ⟨k, zs, bz, d, hk, rfl, Z, r, w2, w3, e1, e2⟩
  · rw [e1, thr_l, e2, pb2_s, if_pos rfl]
    exact ⟨_, _, _, _, rfl, rfl, gx, SMi S _, Or.inl ⟨setI_get _ _ _, _, rfl⟩⟩
  · rw [e1, thr_l, e2, pb2_s, if_pos rfl]
    exact ⟨_, _, _, _, rfl, rfl, QO.bad2 gx (SM2 S _ _) (setI_get _ _ _)⟩
  · obtain ⟨t, et, ht⟩ := mB12 hk (setI (setI S 8 0) 8 0)
    have Lp : lp (fun z => F_X1_doMeet_B15 B (I32 k) (some (hSz h)) z.1 z.2) 100000 ((0 : Int32), mkZ h d) = some (mkZ h (gmix gmin d d0 16)) := by
      refine lp_for0 (fun j => (I32 j, mkZ h (gmix gmin d d0 j))) 16 (fun j hj => ?_) ?_ 100000 (by decide)
      · have Z1 := mkZ_ZA o (gmix gmin d d0 j)
        have g2 := mkZ_gr (P := fun a => a < hSz h) o (gmix gmin d d0 j) (fun a q => q)
        have Z2 := Z0.gr g2 (o.lt Z0.1) (o.lt Z0.2.1)
        have C2 : hF (mkZ h (gmix gmin d d0 j)) B = some (.inr (0, [.ref dk, kv, .ref hi, .ref tx])) := by rw [g2.2.1 B (o.lt C)]; exact C
        have D2 : hF (mkZ h (gmix gmin d d0 j)) dk = some (.inr (2, [.ref st, .ref al, .ref sh, .ref z0, .int (S.1 0 193)])) := by rw [g2.2.1 dk (o.lt D.1)]; exact D.1
        have hix := ix_of j 16 hj (by decide)
        show F_X1_doMeet_B15 B (I32 k) (some (hSz h)) (I32 j) (mkZ h (gmix gmin d d0 j)) = _
        unfold F_X1_doMeet_B15
        rw [if_neg (n16 hj), v_getR Z1.1 rfl, bind_some9, bind_some9, v_aldI Z1.2.1 hix, bind_some9, v_getR C2 rfl, bind_some9, v_getR D2 rfl, bind_some9, v_getR Z2.1 rfl, bind_some9, v_aldI Z2.2.1 hix, bind_some9, v_astI Z1.2.1 hix Z1.2.2.2, bind_some9, i32s j (by omega)]
        show some (Sum.inl (I32 (j + 1), pz (hSz h + 1) _ (mkZ h (gmix gmin d d0 j)))) = _
        rw [mkZ_pz]
        rfl
      · show F_X1_doMeet_B15 B (I32 k) (some (hSz h)) (I32 16) _ = _
        unfold F_X1_doMeet_B15
        rw [if_pos (by decide)]
    have rF : rep 9999 (gmix gmin d d0 16) (omeet (Zs (S.1 0) 0) (Zs (S.1 0) (16 + 16 * k))) := fun i hi => by
      rw [gmix_at, if_pos hi, gmin_comm]
      exact rep1_cmin n9 (r0 i hi) (r i hi)
    have rM : rep 100000 t (omeet (Zs (S.1 0) 0) (Zs (S.1 0) (16 + 16 * k))) := fun i hi => by
      rw [ht i hi]
      exact rep1_cmin n5 (gz_at G hi) (rep_at w2 hi)
    have ec := EC_meet G.2.1 w3
    obtain ⟨v, t', ev, rt', fv⟩ := m_tightens (K := 10) rfl (setI (setI S 8 0) 8 0) rM ec.RG
    have g2 := mkZ_gr (P := fun a => a < hSz h) o (gmix gmin d d0 16) (fun a q => q)
    have Z2 := mkZ_ZA o (gmix gmin d d0 16)
    have m2 : Rm 2 17 (mkZ h (gmix gmin d d0 16)) := (m.gr g2 (by decide) (by decide)).mono (by decide) (by decide)
    have Z3 := mkZ_ZA g2.ok (gtl 9999 (gmix gmin d d0 16) 4)
    have g3 := mkZ_gr (P := fun a => a < hSz (mkZ h (gmix gmin d d0 16))) g2.ok (gtl 9999 (gmix gmin d d0 16) 4) (fun a q => q)
    obtain ⟨u, eu, fu⟩ := z_hasNone Z3 (ec.rep n9 rF)
    unfold F_X3_isVoid
    rw [e1, thr_r, e2, pb2_s, if_neg (by decide), show nnl (some (hSz h)) = some (hSz h) from rfl, bind_some9, eh1, z_init2 o Z (m.mono (by decide) (by decide)), bind_some9, Lp, bind_some9, v_isO Z2.1, bind_some9, v_isO Z2.1, bind_some9, z_tight g2.ok Z2 m2, b2_s, v_isO Z3.1, bind_some9, eu, bind_some9, fl_okZ fu, bind_some9, b2_s, et, bind_some9, ev, pb2_s, fl_okZ fv, bind_some9]
    refine ⟨_, _, _, _, rfl, rfl, QO.ok ((g2.tr (g3.sub (fun a (q : a < hSz h) => Nat.lt_of_lt_of_le q g2.2.2.2.1))).mono (by decide) (by decide)) ((SM2 S _ _).tr (SM.a10 _ _)) (setI_get _ _ _) ?_⟩
    show (if u = 0 then (1 : Int32) else (0 : Int32)) = v
    by_cases hn : nn (otl (omeet (Zs (S.1 0) 0) (Zs (S.1 0) (16 + 16 * k))) 4)
    · rw [if_pos ((fl_0 fu).mpr (fun q => q hn)), (fl_1 fv).mpr hn]
    · rw [if_neg (fun q => (fl_0 fu).mp q hn), (fl_0 fv).mpr hn]
/-- one bound more or less: whether it says nothing -/
def pl (i : Nat) : Option Int := if i = 3 then some 0 else none
noncomputable def nd (D : OD) (m : Nat) : Int32 := if m / 4 = m % 4 then 0 else if D m = pl (m / 4) then 0 else if dcnt (otl (oforget D (m / 4) (m % 4)) 4) (otl D 4) 16 = 0 then 1 else 0
noncomputable def ndc (D : OD) : Nat → Int32
  | 0 => 0
  | n + 1 => ndc D n + nd D n
theorem nd_ij {D : OD} {i j : Nat} (hj : j < 4) : nd D (4 * i + j) = if i = j then (0 : Int32) else if D (4 * i + j) = pl i then 0 else if dcnt (otl (oforget D i j) 4) (otl D 4) 16 = 0 then 1 else 0 := by
  unfold nd
  rw [(m4 hj).1, (m4 hj).2]
theorem nd_iff {D : OD} (G : GZ D) (hn : nn (otl D 4)) {i j : Nat} (hi : i < 4) (hj : j < 4) (n : i ≠ j) : (∀ k, k < 16 → otl (oforget D i j) 4 k = otl D 4 k) ↔ ole (otl (oforget D i j) 4 (4 * i + j)) (D (4 * i + j)) := by
  have le1 : dle D (oforget D i j) := fun k hk => by
    unfold oforget oset
    by_cases q : k = 4 * i + j
    · rw [if_pos q, q]
      by_cases q3 : i = 3
      · rw [if_pos q3]
        obtain ⟨t, ht, h0⟩ := G.2.1 j (by omega)
        subst q3
        rw [show 4 * 3 + j = 12 + j from rfl, ht]
        exact h0
      · rw [if_neg q3]
        cases D (4 * i + j) <;> exact True.intro
    · rw [if_neg q]
      exact ole_refl _
  have le2 := otl_mono le1 4 (Nat.le_refl _)
  have hn' : nn (otl (oforget D i j) 4) := nn_mono le2 hn
  refine ⟨fun e => ?_, fun e k hk => ?_⟩
  · rw [e (4 * i + j) (by omega)]
    exact otl_le D 4 (4 * i + j) (by omega)
  · have le3 : dle (otl (oforget D i j) 4) D := fun m hm => by
      by_cases q : m = 4 * i + j
      · rw [q]
        exact e
      · have := otl_le (oforget D i j) 4 m hm
        unfold oforget oset at this
        rwa [if_neg q] at this
    have le4 := otl_mono le3 4 (Nat.le_refl _)
    rw [otl_idem hn'] at le4
    exact ole_antisymm (le4 k hk) (le2 k hk)
theorem pl_rep (i : Nat) (hi : i < 4) : rep1 100000 (if i = 3 then (0 : Int32) else 100000) (pl i) := by
  unfold pl
  by_cases e : i = 3
  · rw [if_pos e, if_pos e]
    exact ⟨rfl, by decide⟩
  · rw [if_neg e, if_neg e]
    rfl
theorem nd_F {X : HH} {dk hi tx st al sh z0 bb kb k1 i j : Nat} {kv : Value} {w : Int32} {d0 d1 : ZS} {D : OD} (hi' : i < 4) (hj : j < 4) (C : hF X B = some (.inr (0, [.ref dk, kv, .ref hi, .ref tx]))) (Dd : hF X dk = some (.inr (2, [.ref st, .ref al, .ref sh, .ref z0, .int w]))) (Z0 : ZA X z0 bb d0) (Z1 : ZA X k1 kb d1) (r0 : rep 9999 d0 D) (r1 : rep 9999 d1 (otl D 4)) (G : GZ D) (o : OKH X) (m : Rm 10 60 X) (x c0 : Int32) : ∃ X', F_X1_needless_B17 B (some k1) c0 (I32 i) x (I32 j) X = some (.inl (x + nd D (4 * i + j), I32 (j + 1), X')) ∧ Gr (fun a => a < hSz X) 4 34 X X' := by
  have Cp : hF (hpush X (.inr (3, [.null])) 1) B = some (.inr (0, [.ref dk, kv, .ref hi, .ref tx])) := by rw [hF_push_ne _ _ _ (o.ne C)]; exact C
  have Dp : hF (hpush X (.inr (3, [.null])) 1) dk = some (.inr (2, [.ref st, .ref al, .ref sh, .ref z0, .int w])) := by rw [hF_push_ne _ _ _ (o.ne Dd)]; exact Dd
  have ZX := mkZ_ZA o d0
  unfold F_X1_needless_B17
  rw [if_neg (zi3 j hj), v_getR C rfl, bind_some9, v_getR Dd rfl, bind_some9, v_isO Z0.1, bind_some9, z_at hi' hj Z0, bind_some9, v_newO (m.mono (by decide) (by decide)), bind_some9, v_getR Cp rfl, bind_some9, v_getR Dp rfl, bind_some9, show nnl (some (hSz X)) = some (hSz X) from rfl, bind_some9, z_init2 o Z0 (m.mono (by decide) (by decide)), bind_some9, v_isO ZX.1, bind_some9, z_sets hi' hj ZX, bind_some9, mkZ_pz, nd_ij hj, i32s j (by omega)]
  by_cases n : i = j
  · subst n
    rw [if_pos rfl, if_pos rfl, if_pos rfl, if_pos rfl]
    exact ⟨_, rfl, (mkZ_gr o _ (fun a q => q)).mono (by decide) (by decide)⟩
  · have ni : ¬ I32 i = I32 j := fun q => n (i32inj (by omega) (by omega) q)
    rw [if_neg n, if_neg ni, if_neg ni]
    have hp := rep1_inj n9 (r0 (4 * i + j) (by omega)) (rep1_plain i hi')
    by_cases y : d0 (4 * i + j) = F_X3_plain (I32 i)
    · rw [if_pos y, if_pos rfl, if_pos (show D (4 * i + j) = pl i from hp.mp y)]
      exact ⟨_, rfl, (mkZ_gr o _ (fun a q => q)).mono (by decide) (by decide)⟩
    · rw [if_neg y, if_neg (by decide), if_neg (show ¬ D (4 * i + j) = pl i from fun q => y (hp.mpr q))]
      have rE : rep 9999 (upd d0 (4 * i + j) (F_X3_plain (I32 i))) (oforget D i j) := rep_set r0 _ (rep1_plain i hi')
      have ec := EC_forget G hi' hj n
      have g1 := mkZ_gr (P := fun a => a < hSz X) o (upd d0 (4 * i + j) (F_X3_plain (I32 i))) (fun a q => q)
      have Z2 := mkZ_ZA o (upd d0 (4 * i + j) (F_X3_plain (I32 i)))
      have m2 : Rm 2 17 (mkZ X (upd d0 (4 * i + j) (F_X3_plain (I32 i)))) := (m.gr g1 (by decide) (by decide)).mono (by decide) (by decide)
      have Z3 := mkZ_ZA g1.ok (gtl 9999 (upd d0 (4 * i + j) (F_X3_plain (I32 i))) 4)
      have g3 := mkZ_gr (P := fun a => a < hSz (mkZ X (upd d0 (4 * i + j) (F_X3_plain (I32 i))))) g1.ok (gtl 9999 (upd d0 (4 * i + j) (F_X3_plain (I32 i))) 4) (fun a q => q)
      have g4 := g1.tr (g3.sub (fun a (q : a < hSz X) => Nat.lt_of_lt_of_le q g1.2.2.2.1))
      have Z1' := Z1.gr g4 (o.lt Z1.1) (o.lt Z1.2.1)
      rw [v_isO Z2.1, bind_some9, z_tight g1.ok Z2 m2, b2_s, v_isO Z3.1, bind_some9, z_unlike Z3 Z1' (ec.rep n9 rE) r1, bind_some9]
      exact ⟨_, rfl, g4⟩
end Q4
