/-! queries on the zone and the shelf -/
theorem omin_comm : ∀ a b : Option Int, omin a b = omin b a
  | none, none => rfl
  | none, some _ => rfl
  | some _, none => rfl
  | some a, some b => by
    show some _ = some _
    congr 1
    split <;> split <;> omega
theorem lp_and {Q : Nat → Prop} {P : Prop} {B : Int32 × Int32 → Option ((Int32 × Int32) ⊕ Int32)} (n : Nat) (hn : n ≤ 10000) {x0 : Int32} (f0 : fl x0 P) (step : ∀ j, j < n → ∀ x, ∃ y, B (x, I32 j) = some (.inl (y, I32 (j + 1))) ∧ (x = 0 → y = 0) ∧ (x ≠ 0 → fl y (Q j))) (fin : ∀ x, B (x, I32 n) = some (.inr x)) : ∃ v, lp B 100000 (x0, (0 : Int32)) = some v ∧ fl v (P ∧ ∀ j, j < n → Q j) := by
  refine lp_inv0 (fun j z => z.2 = I32 j ∧ fl z.1 (P ∧ ∀ i, i < j → Q i)) n (fun j hj y hy => ?_) (fun y hy => ?_) ⟨rfl, fl_congr f0 ⟨fun p => ⟨p, fun i hi => absurd hi (Nat.not_lt_zero i)⟩, fun p => p.1⟩⟩ (by omega)
  · obtain ⟨x, i⟩ := y
    obtain ⟨e1, e2⟩ := hy
    have e1 : i = I32 j := e1
    subst e1
    obtain ⟨y, h1, h2, h3⟩ := step j hj x
    refine ⟨_, h1, rfl, ?_⟩
    have e2 : fl x (P ∧ ∀ i, i < j → Q i) := e2
    by_cases hx : x = 0
    · rw [h2 hx]
      exact Or.inr ⟨rfl, fun p => (fl_0 e2).mp hx ⟨p.1, fun i hi => p.2 i (by omega)⟩⟩
    · have p := Classical.not_not.mp (fun q => hx ((fl_0 e2).mpr q))
      refine fl_congr (h3 hx) ⟨fun q => ⟨p.1, fun i hi => ?_⟩, fun q => q.2 j (by omega)⟩
      by_cases e : i = j
      · subst e
        exact q
      · exact p.2 i (by omega)
  · obtain ⟨x, i⟩ := y
    obtain ⟨e1, e2⟩ := hy
    have e1 : i = I32 n := e1
    subst e1
    exact ⟨x, fin x, e2⟩
theorem dcnt_0 (D E : OD) : ∀ k, k ≤ 16 → (dcnt D E k = 0 ↔ ∀ i, i < k → D i = E i)
  | 0, _ => ⟨fun _ i hi => absurd hi (Nat.not_lt_zero i), fun _ => rfl⟩
  | k + 1, hk => by
    obtain ⟨m, hm, e⟩ := dcnt_n D E k (by omega)
    have ih := dcnt_0 D E k (by omega)
    show dcnt D E k + (if D k = E k then (0 : Int32) else (1 : Int32)) = 0 ↔ _
    by_cases q : D k = E k
    · rw [if_pos q, Int32.add_zero, ih]
      refine ⟨fun h i hi => ?_, fun h i hi => h i (by omega)⟩
      by_cases z : i = k
      · subst z
        exact q
      · exact h i (by omega)
    · rw [if_neg q, e, i32s m (by omega)]
      refine ⟨fun z => ?_, fun z => absurd (z k (Nat.lt_succ_self k)) q⟩
      have := (i32_eq0 (m := m + 1) (by omega)).mp z
      omega
section Q3
variable {B L b : Nat} {xs : Nat → Int32} {h h' : HH} {S S' : MS}
theorem fl_eq {x y : Int32} {P Q : Prop} (a : fl x P) (c : fl y Q) (e : P ↔ Q) : x = y := by
  rcases a with ⟨a1, a2⟩ | ⟨a1, a2⟩ <;> rcases c with ⟨c1, c2⟩ | ⟨c1, c2⟩
  · rw [a1, c1]
  · exact absurd (e.mp a2) c2
  · exact absurd (e.mpr c2) a2
  · rw [a1, c1]
theorem x_isTight (I : LW B L b xs h S) (m : Rm 50000 228000 h) : ∃ v h' S', F_X1_isTight B h = some (v, h') ∧ P_X4_isTight S = some (v, S') ∧ XQ B h h' S' := by
  obtain ⟨e, o, z, st, R, _⟩ := id I
  obtain ⟨dk, kv, hi, tx, st, al, sh, z0, C, D, ⟨bb, d0, Z0, r0⟩, s1, s2, s3, G⟩ := R.parts
  have r1 : rep 9999 (gtl 9999 d0 4) (otl (Zs (S.1 0) 0) 4) := G.2.1.toEC.rep n9 r0
  have g1 : Gr (fun a => a < hSz h) 2 17 h (mkZ h (gtl 9999 d0 4)) := mkZ_gr o _ (fun a q => q)
  have Z1 := mkZ_ZA o (gtl 9999 d0 4)
  obtain ⟨v, ev, fv⟩ := z_hasNone Z1 r1
  obtain ⟨v4, t9, ev4, fv4, rt⟩ := m_ready (S := setI S 8 0) G.1 G.2.1
  have sm : SM S (setA (setI S 8 0) 9 t9) := (SMi S _).tr (SM.a9 _ _)
  obtain ⟨w, ew, fw⟩ := lp_and (Q := fun j => Zs (S.1 0) 0 j = otl (Zs (S.1 0) 0) 4 j) (B := fun z => P_X4_isTight_B12 z.1 z.2 (setA (setI S 8 0) 9 t9)) 16 (by decide) fv4 (fun j hj x => by
    show ∃ y, P_X4_isTight_B12 x (I32 j) _ = _ ∧ _
    unfold P_X4_isTight_B12
    rw [if_neg (n16 hj)]
    by_cases hx : x = 0
    · rw [if_pos hx, i32s j (by omega)]
      exact ⟨0, rfl, fun _ => rfl, fun q => absurd hx q⟩
    · rw [if_neg hx, rd_i (show ix _ j (mlen 0) from ix0 (show j < 194 by omega) (by decide)), bind_some9, rd_i (show ix (I32 j) j (mlen 9) from ix_of j 16 hj (by decide)), bind_some9, i32s j (by omega), setA_get, setA_ne _ _ (by decide)]
      refine ⟨_, rfl, fun q => absurd q hx, fun _ => ?_⟩
      have q := rep1_inj n5 (gz_at G hj) (rt j hj)
      by_cases z : S.1 0 j = t9 j
      · rw [if_pos (show (setI S 8 0).1 0 j = t9 j from z)]
        exact Or.inl ⟨rfl, q.mp z⟩
      · rw [if_neg (show ¬ (setI S 8 0).1 0 j = t9 j from z)]
        exact Or.inr ⟨rfl, fun y => z (q.mpr y)⟩) (fun x => by
    show P_X4_isTight_B12 x (I32 16) _ = _
    unfold P_X4_isTight_B12
    exact if_pos (by decide))
  have hZ : ZA (mkZ h (gtl 9999 d0 4)) z0 bb d0 := Z0.gr g1 (o.lt Z0.1) (o.lt Z0.2.1)
  have C1 : hF (mkZ h (gtl 9999 d0 4)) B = some (.inr (0, [.ref dk, kv, .ref hi, .ref tx])) := by rw [g1.2.1 B (o.lt C)]; exact C
  have D1 : hF (mkZ h (gtl 9999 d0 4)) dk = some (.inr (2, [.ref st, .ref al, .ref sh, .ref z0, .int (S.1 0 193)])) := by rw [g1.2.1 dk (o.lt D.1)]; exact D.1
  have eF : F_X1_isTight B h = some (w, mkZ h (gtl 9999 d0 4)) := by
    unfold F_X1_isTight
    rw [v_getR C rfl, bind_some9, v_getR D.1 rfl, bind_some9, v_isO Z0.1, bind_some9, z_tight o Z0 (m.mono (by decide) (by decide)), b2_s, v_isO Z1.1, bind_some9, ev, bind_some9]
    by_cases hn : nn (otl (Zs (S.1 0) 0) 4)
    · rw [if_pos ((fl_0 fv).mpr (fun q => q hn)), v_getR C1 rfl, bind_some9, v_getR D1 rfl, bind_some9, bind_some9, z_unlike Z1 hZ r1 r0, bind_some9]
      refine congrArg (fun y => some (y, mkZ h (gtl 9999 d0 4))) ?_
      have q := dcnt_0 (otl (Zs (S.1 0) 0) 4) (Zs (S.1 0) 0) 16 (Nat.le_refl _)
      by_cases y : dcnt (otl (Zs (S.1 0) 0) 4) (Zs (S.1 0) 0) 16 = 0
      · rw [if_pos y]
        exact ((fl_1 fw).mpr ⟨hn, fun j hj => (q.mp y j hj).symm⟩).symm
      · rw [if_neg y]
        exact ((fl_0 fw).mpr (fun z => y (q.mpr (fun i hi => (z.2 i hi).symm)))).symm
    · rw [if_neg (fun q => (fl_0 fv).mp q hn)]
      exact congrArg (fun y => some (y, mkZ h (gtl 9999 d0 4))) ((fl_0 fw).mpr (fun z => hn z.1)).symm
  refine ⟨w, _, _, eF, ?_, xq_of I (g1.mono (by decide) (by decide)) sm⟩
  unfold P_X4_isTight
  show Option.bind (some (setI S 8 0)) _ = _
  rw [bind_some9, ev4, pb2_s, ew, bind_some9, fl_okZ fw, bind_some9]
theorem m_hasNone {S : MS} (G : GoodS (S.1 0)) : ∃ v t9, P_X4_hasNone S = some (v, setA (setI S 8 0) 9 t9) ∧ fl v (¬ nn (otl (Zs (S.1 0) 0) 4)) := by
  obtain ⟨v4, t9, ev4, fv4, rt⟩ := m_ready (S := setI S 8 0) G.1 G.2.1
  refine ⟨if v4 = 0 then (1 : Int32) else (0 : Int32), t9, ?_, ?_⟩
  · unfold P_X4_hasNone
    show Option.bind (some (setI S 8 0)) _ = _
    rw [bind_some9, ev4, pb2_s]
  · by_cases y : v4 = 0
    · rw [if_pos y]
      exact Or.inl ⟨rfl, (fl_0 fv4).mp y⟩
    · rw [if_neg y]
      exact Or.inr ⟨rfl, fun q => y ((fl_0 fv4).mpr q)⟩
theorem x_isEmpty (I : LW B L b xs h S) (m : Rm 50000 228000 h) : ∃ v h' S', F_X1_isEmpty B h = some (v, h') ∧ P_X4_isEmpty S = some (v, S') ∧ XQ B h h' S' := by
  obtain ⟨e, o, z, st, R, _⟩ := id I
  obtain ⟨dk, kv, hi, tx, st, al, sh, z0, C, D, ⟨bb, d0, Z0, r0⟩, s1, s2, s3, G⟩ := R.parts
  have r1 : rep 9999 (gtl 9999 d0 4) (otl (Zs (S.1 0) 0) 4) := G.2.1.toEC.rep n9 r0
  have g1 : Gr (fun a => a < hSz h) 2 17 h (mkZ h (gtl 9999 d0 4)) := mkZ_gr o _ (fun a q => q)
  have Z1 := mkZ_ZA o (gtl 9999 d0 4)
  obtain ⟨v, ev, fv⟩ := z_hasNone Z1 r1
  obtain ⟨w, t9, ew, fw⟩ := m_hasNone G
  have evw : v = w := fl_eq fv fw Iff.rfl
  subst evw
  refine ⟨v, mkZ h (gtl 9999 d0 4), setA (setI S 8 0) 9 t9, ?_, ?_, xq_of I (g1.mono (by decide) (by decide)) ((SMi S _).tr (SM.a9 _ _))⟩
  · unfold F_X1_isEmpty F_X3_isVoid
    rw [v_getR C rfl, bind_some9, v_getR D.1 rfl, bind_some9, v_isO Z0.1, bind_some9, v_isO Z0.1, bind_some9, z_tight o Z0 (m.mono (by decide) (by decide)), b2_s, v_isO Z1.1, bind_some9, ev, bind_some9, fl_okZ fv, bind_some9, b2_s, fl_okZ fv, bind_some9]
  · unfold P_X4_isEmpty
    rw [ew, pb2_s, fl_okZ fw, bind_some9]
theorem x_states (I : LW B L b xs h S) : ∃ r S', F_X1_states B h = some r ∧ P_X4_states S = some (r, S') ∧ CX h B S' := by
  obtain ⟨dk, kv, hi, tx, C, hb, D, G, K, ⟨ea, hd, c, q, H1, H2, b1, b2, hd17, hc, h5, _⟩, T⟩ := id I.2.2.2.2.1
  refine ⟨I32 c, setI S 8 0, ?_, ?_, I.2.2.2.2.1.sm I.2.1 (SMi S _)⟩
  · unfold F_X1_states F_J3_size
    rw [v_getR C rfl, bind_some9, v_isO H1, bind_some9]
    rw [v_getI H1 rfl, bind_some9, v_getI H1 rfl, bind_some9, v_getR H1 rfl, bind_some9, v_alen H2 (by decide), bind_some9, bind_some9]
    exact congrArg some (sub17 hd hd17 c (by omega))
  · unfold P_X4_states
    show Option.bind (some (setI S 8 0)) _ = _
    rw [bind_some9]
    show some (S.2.1 5, _) = _
    rw [h5]
/-- a shelf by its number, on both sides -/
theorem t_shelf (a1 : Int32) {h1 : HH} {c s : Nat} (o : OKH h) (R : CX h B S) (g : Gr (fun a => a < hSz h) c s h h1) (m : Rm 1 6 h1) : (¬ isC 3 a1 ∧ F_X1_shelved B a1 h1 = some (.inl (hSz h1, "java/lang/IllegalArgumentException"), hskip h1 6) ∧ P_X4_asksShelf a1 S = some (0, setI S 8 1)) ∨ (F_X1_shelved B a1 h1 = some (.inl (hSz h1, "java/util/NoSuchElementException"), hskip h1 6) ∧ P_X4_asksShelf a1 S = some (0, setI (setI S 8 0) 8 2)) ∨ ∃ k z bz d, k ≤ 3 ∧ a1 = I32 k ∧ ZA h z bz d ∧ rep 9999 d (Zs (S.1 0) (16 + 16 * k)) ∧ rep 100000 (sub (S.1 0) (16 + 16 * k)) (Zs (S.1 0) (16 + 16 * k)) ∧ GZ (Zs (S.1 0) (16 + 16 * k)) ∧ F_X1_shelved B a1 h1 = some (.inr (some z), h1) ∧ P_X4_asksShelf a1 S = some (1, setI (setI S 8 0) 8 0) := by
  obtain ⟨dk, kv, hi, tx, st, al, sh, z0, C, D, _, s1, ⟨gg, H, _, _, hs⟩, s3, G⟩ := R.parts
  have f := isSlot_fl a1
  have C1 : hF h1 B = some (.inr (0, [.ref dk, kv, .ref hi, .ref tx])) := by rw [g.2.1 B (o.lt C)]; exact C
  have D1 : hF h1 dk = some (.inr (2, [.ref st, .ref al, .ref sh, .ref z0, .int (S.1 0 193)])) := by rw [g.2.1 dk (o.lt D.1)]; exact D.1
  have H1 : hF h1 sh = some (.inl (3, 4, .inr (.inr gg))) := by rw [g.2.1 sh (o.lt H)]; exact H
  unfold F_X1_shelved P_X4_asksShelf
  rw [isShelf_in]
  by_cases p : isC 3 a1
  · rw [arg_t f p, thr_r, asks_t f p, pb2_s, if_neg (fun z => (fl_0 f).mp z p)]
    obtain ⟨k, hk, rfl⟩ := p
    have hix := ix_of k 4 (by omega) (by decide)
    rw [v_getR C1 rfl, bind_some9, v_getR D1 rfl, bind_some9, v_aldR H1 hix, bind_some9, m_hasZone _ hk, bind_some9]
    rcases hs k (by omega) with ⟨q1, q2⟩ | ⟨z, q1, q2, bz, d, Z, r⟩
    · refine Or.inr (Or.inl ⟨?_, ?_⟩)
      · rw [if_pos q1, such_f rfl m, thr_l]
      · rw [show (setI S 8 0).1 0 (80 + k) = 0 from q2]
        rfl
    · refine Or.inr (Or.inr ⟨k, z, bz, d, hk, rfl, Z, r, ?_, ?_, ?_, ?_⟩)
      · rcases G.2.2.1 k (by omega) with w | ⟨_, w, _⟩
        · rw [w] at q2
          exact absurd q2 (by decide)
        · exact w
      · rcases G.2.2.1 k (by omega) with w | ⟨_, _, w⟩
        · rw [w] at q2
          exact absurd q2 (by decide)
        · exact w
      · rw [if_neg (by rw [q1]; simp), such_t (by decide), thr_r, v_getR C1 rfl, bind_some9, v_getR D1 rfl, bind_some9, v_aldR H1 hix, bind_some9, q1]
      · rw [show (setI S 8 0).1 0 (80 + k) = 1 from q2]
        rfl
  · refine Or.inl ⟨p, ?_, ?_⟩
    · rw [arg_f f p m, thr_l]
    · rw [asks_f f p, pb2_s, if_pos ((fl_0 f).mpr p)]
theorem SM2 (S : MS) (x y : Int32) : SM S (setI (setI S 8 x) 8 y) := (SMi S _).tr (SMi _ _)
theorem q_isWithin (a1 : Int32) (I : LW B L b xs h S) (m : Rm 50000 228000 h) : ∃ res h' r S', F_X1_isWithin B a1 h = some (res, h') ∧ P_X4_isWithin a1 S = some (r, S') ∧ QO "java/lang/IllegalArgumentException" "java/util/NoSuchElementException" True h h' S S' res (fun v => v = r) := by
  obtain ⟨e, o, z, st, R, _⟩ := id I
  obtain ⟨dk, kv, hi, tx, st, al, sh, z0, C, D, ⟨bb, d0, Z0, r0⟩, s1, s2, s3, G⟩ := R.parts
  unfold F_X1_isWithin P_X4_isWithin
  rw [v_isO C, bind_some9]
  rcases t_shelf a1 o R (Gr.rf o) (m.mono (by decide) (by decide)) with ⟨p, e1, e2⟩ | ⟨e1, e2⟩ | ⟨k, zs, bz, d, hk, rfl, Z, r, w2, w3, e1, e2⟩
  · rw [e1, thr_l, e2, pb2_s, if_pos rfl]
    exact ⟨_, _, _, _, rfl, rfl, QO.bad1 I⟩
  · rw [e1, thr_l, e2, pb2_s, if_pos rfl]
    exact ⟨_, _, _, _, rfl, rfl, QO.bad2 (exG I) (SM2 S _ _) (setI_get _ _ _)⟩
  · have r1 : rep 9999 (gtl 9999 d0 4) (otl (Zs (S.1 0) 0) 4) := G.2.1.toEC.rep n9 r0
    have g1 : Gr (fun a => a < hSz h) 2 17 h (mkZ h (gtl 9999 d0 4)) := mkZ_gr o _ (fun a q => q)
    have Z1 := mkZ_ZA o (gtl 9999 d0 4)
    have Zk := Z.gr g1 (o.lt Z.1) (o.lt Z.2.1)
    obtain ⟨v, ev, fv⟩ := z_hasNone Z1 r1
    obtain ⟨v4, t9, ev4, fv4, rt⟩ := m_ready (S := setI (setI S 8 0) 8 0) G.1 G.2.1
    have sm : SM S (setA (setI (setI S 8 0) 8 0) 9 t9) := (SM2 S _ _).tr (SM.a9 _ _)
    have gg : Gr (fun a => a < hSz h) 50000 228000 h (mkZ h (gtl 9999 d0 4)) := g1.mono (by decide) (by decide)
    rw [e1, thr_r, e2, pb2_s, if_neg (by decide), v_getR C rfl, bind_some9, v_getR D.1 rfl, bind_some9, v_isO Z0.1, bind_some9, z_tight o Z0 (m.mono (by decide) (by decide)), b2_s, v_isO Z1.1, bind_some9, ev, bind_some9, ev4, pb2_s]
    by_cases hn : nn (otl (Zs (S.1 0) 0) 4)
    · obtain ⟨u, eu, fu⟩ := z_isInside Z1 Zk r1 r
      obtain ⟨w, ew, fw⟩ := lp_and (Q := fun j => ole (otl (Zs (S.1 0) 0) 4 j) (Zs (S.1 0) (16 + 16 * k) j)) (P := True) (x0 := 1) (B := fun z => P_X4_isInside_B6 9 (0 : Int32) 0 ((16 : Int32) + ((16 : Int32) * I32 k)) z.1 z.2 (setA (setI (setI S 8 0) 8 0) 9 t9)) 16 (by decide) (Or.inl ⟨rfl, True.intro⟩) (fun j hj x => by
        show ∃ y, P_X4_isInside_B6 9 (0 : Int32) 0 ((16 : Int32) + ((16 : Int32) * I32 k)) x (I32 j) _ = _ ∧ _
        unfold P_X4_isInside_B6
        rw [if_neg (n16 hj)]
        by_cases hx : x = 0
        · rw [if_pos hx, i32s j (by omega)]
          exact ⟨0, rfl, fun _ => rfl, fun q => absurd hx q⟩
        · rw [if_neg hx, rd_i (show ix _ j (mlen 9) from ix0 (show j < 16 by omega) (by decide)), bind_some9, rd_i (shelf_ix (by omega) hj), bind_some9, i32s j (by omega), setA_get, setA_ne _ _ (by decide)]
          refine ⟨_, rfl, fun q => absurd q hx, fun _ => ?_⟩
          have q := rep1_lt n5 (rt j hj) (rep_at w2 hj)
          by_cases z : S.1 0 (16 + 16 * k + j) < t9 j
          · rw [if_pos (show (setI (setI S 8 0) 8 0).1 0 (16 + 16 * k + j) < t9 j from z)]
            exact Or.inr ⟨rfl, fun y => q.mpr y z⟩
          · rw [if_neg (show ¬ (setI (setI S 8 0) 8 0).1 0 (16 + 16 * k + j) < t9 j from z)]
            exact Or.inl ⟨rfl, q.mp z⟩) (fun x => by
        show P_X4_isInside_B6 9 (0 : Int32) 0 ((16 : Int32) + ((16 : Int32) * I32 k)) x (I32 16) _ = _
        unfold P_X4_isInside_B6
        exact if_pos (by decide))
      have euw : u = w := fl_eq fu fw ⟨fun q => ⟨True.intro, q⟩, fun q => q.2⟩
      unfold P_X4_isInside
      rw [if_pos ((fl_0 fv).mpr (fun q => q hn)), if_neg (fun q => (fl_0 fv4).mp q hn), bind_some9, eu, bind_some9, ew, bind_some9, fl_okZ fw, bind_some9, bind_some9, euw]
      exact ⟨_, _, _, _, rfl, rfl, QO.ok gg sm (setI_get _ _ _) rfl⟩
    · rw [if_neg (fun q => (fl_0 fv).mp q hn), if_pos ((fl_0 fv4).mpr hn)]
      exact ⟨_, _, _, _, rfl, rfl, QO.ok gg sm (setI_get _ _ _) rfl⟩
end Q3
