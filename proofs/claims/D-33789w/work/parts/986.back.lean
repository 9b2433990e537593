/-! goBack, undo -/
section BK
variable {B L b : Nat} {xs : Nat → Int32} {h h' : HH} {S S' : MS}
theorem m_recR {S S2 : MS} (e : SX (beg S) S2) {c : Nat} (hc : c ≤ 4) (h5 : S.2.1 5 = I32 c) : ∃ S', P_X4_records S2 = some S' ∧ MF S S' 0 ∧ S'.1 0 = S2.1 0 := by
  obtain ⟨S', e1, m, s0⟩ := m_endsR e (v := 0) ⟨by decide, by decide⟩ hc h5
  refine ⟨S', ?_, m, s0⟩
  unfold P_X4_ends at e1
  rw [if_neg (by decide), if_neg (by decide)] at e1
  cases q : P_X4_records S2 with
  | none => rw [q] at e1; cases e1
  | some S3 => rw [q, bind_some9] at e1; cases e1; rfl
theorem st_t {c : Int32} {h : HH} (p : c ≠ 0) : F_X1_needState c h = some (.inr (), h) := by
  unfold F_X1_needState
  rw [if_neg p]
theorem st_f {c : Int32} {h : HH} (p : c = 0) (m : Rm 1 6 h) : F_X1_needState c h = some (.inl (hSz h, "java/lang/IllegalStateException"), hskip h 6) := by
  unfold F_X1_needState
  rw [if_pos p, v_newE m, bind_some9]
theorem x_goBack (I : LW B L b xs h S) (m : Rm 50000 228000 h) : ∃ k h' r S', F_X0_goBack (some B) (some (B + 24)) h = some (k, h') ∧ P_X4_goBack S = some (r, S') ∧ XR B h h' S' k r.toInt64 := by
  obtain ⟨e, o, z, st, R, hpu, ⟨g0', hg0⟩, sc, hb⟩ := id I
  obtain ⟨dk, kv, hi, tx, C, hbx, D, G, K, H, T⟩ := id R
  obtain ⟨c, hc4, h5⟩ := known R
  unfold F_X0_goBack F_X1_goBack P_X4_goBack
  rw [m_begins, bind_some9, v_isO C, bind_some9]
  have b3 : pgI (beg S) 3 = some (S.2.1 3) := by
    show some ((beg S).2.1 3) = _
    rw [beg_i S (by decide)]
  rw [b3, bind_some9]
  rcases K with ⟨k3, rfl⟩ | ⟨k3, kp, rfl, Dk, Gk⟩
  · rw [k3, if_pos rfl, m_fails, pb2_s, v_getN C rfl, bind_some9, if_pos rfl, st_f rfl (m.mono (by decide) (by decide)), thr_l, thr_l]
    refine ⟨1, hskip h 6, 0, setI (beg S) 8 1, if_pos rfl, rfl, XR_of I (by decide) (exG I) ?_ (setI_get _ _ _) _⟩
    exact (show SM S (beg S) from ⟨fun i _ => by rw [beg_0 S (by decide)], beg_0 S (by decide), beg_0 S (by decide), beg_0 S (by decide), beg_i S (by decide), beg_i S (by decide), beg_i S (by decide)⟩).tr (SMi _ _)
  · rw [k3, if_neg (by decide), v_getR C rfl, bind_some9, if_neg (by simp), st_t (by decide), thr_r, m_copies (K := 2) (K' := 0) (o := 0) (o' := 0) (a := (0 : Int32)) (b := (0 : Int32)) (beg S) rfl rfl (by decide) (by decide) (by decide) (by decide) (by decide), bind_some9]
    obtain ⟨S3, e3, mf, s0⟩ := m_recR (S := S) (S2 := mov (beg S) 2 0 0 0 194) (SXset _ _) hc4 h5
    have a0 : ∀ i, i < 194 → S3.1 0 i = S.1 2 i := fun i hi => by
      rw [s0]
      unfold mov
      rw [setA_get, if_pos (by omega), beg_0 S (by decide), Nat.sub_zero, Nat.zero_add]
    have Dk2 : DR 0 h kp (S3.1 0) := Dk.keepX (X := fun _ => False) (KeepX.gr o (Gr.rf o)) noD_F a0
    have Gk2 : GoodS (S3.1 0) := Gk.congr a0
    obtain ⟨st2, al2, sh2, z2, Ck, _, ⟨bz, dz, Zk, rk⟩, _⟩ := id Dk2
    obtain ⟨f, ef⟩ := z_count (a1 := none) (E := none) o Zk rk (Or.inl ⟨rfl, rfl⟩) (m.mono (by decide) (by decide))
    have gc : Gr (fun a => a < hSz h) 1 3 h (hC h f) := arr_ok o f
    have ef : F_X3_count z2 none h = some (I32 (T3 (cw (Zs (S3.1 0) 0) none)), hC h f) := ef
    have kc : KeepX XC h (hC h f) := KeepX.gr o gc
    obtain ⟨h5', ec, g5, k5, R5⟩ := CX.changed (r := I32 (T3 (cw (Zs (S3.1 0) 0) none))) gc.ok (R.gr o gc (SM.rf S)) (Dk2.keepX (X := fun _ => False) (KeepX.gr o gc) noD_F (fun _ _ => rfl)) Gk2 mf.2.1 mf.2.2.1 mf.2.2.2.1 mf.2.2.2.2.1 (mf.2.2.2.2.2.2 rfl)
    have kT : KeepX XC h h5' := ⟨k5.1.trans kc.1, fun a ec ha hx => k5.2.1 a ec (kc.2.1 a ec ha hx) hx, fun a cc fs ha => (kc.2.2 a cc fs ha).elim fun fs' q => k5.2.2 a cc fs' q⟩
    have gT : Gr (fun _ => False) 1 3 h h5' := ((gc.sub (P' := fun _ => False) (fun a w => w.elim)).tr g5).mono (by decide) (by decide)
    have C1 : hF (hC h f) B = some (.inr (0, [.ref dk, .ref kp, .ref hi, .ref tx])) := by rw [gc.2.1 B (o.lt C)]; exact C
    have RJ : CX h5' B (MSJ S3 (T3 (cw (Zs (S3.1 0) 0) none)) (T3 (w2 (Zs (S3.1 0) 0) none 0))) := R5.sm gT.ok (SM.msj _ _ _)
    obtain ⟨h6, e6, xr⟩ := out_put e o (by decide) (by decide) gT kT RJ ((msj8 _ _ _).trans mf.1) (kT.2.1 _ _ hg0 xc_out) (I32 (T3 (cw (Zs (S3.1 0) 0) none))).toInt64
    refine ⟨0, h6, _, _, ?_, ?_, xr⟩
    · rw [v_getR C rfl, bind_some9, bind_some9, v_getR Ck.1 rfl, bind_some9, v_isO Zk.1, bind_some9, ef, b2_s, v_isO C1, bind_some9, ec, b2_s, thr_r, e6, bind_some9]
    · rw [e3, bind_some9, m_count Gk2, pb2_s]
theorem dec17 : ∀ a, a < 17 → ∀ c, c < 5 → F_J3_dec (I32 ((a + (c + 1)) % 17)) (I32 17) = I32 ((a + c) % 17) := by decide
theorem m_copies4 (S : MS) {c : Nat} (hc : c < 4) : P_X4_copies 4 ((194 : Int32) * I32 c) 0 (0 : Int32) S = some (mov S 4 (194 * c) 0 0 194) := by
  have e : (194 : Int32) * I32 c = I32 (194 * c) := by
    have : ∀ c, c < 4 → (194 : Int32) * I32 c = I32 (194 * c) := by decide
    exact this c hc
  have h4 : mlen 4 = 776 := rfl
  exact m_copies (K := 4) (K' := 0) (o := 194 * c) (o' := 0) S e rfl (by rw [h4]; omega) (by decide) (by decide) (by decide) (by decide)
theorem x_undo (I : LW B L b xs h S) (m : Rm 50000 228000 h) : ∃ k h' r S', F_X0_undo (some B) (some (B + 24)) h = some (k, h') ∧ P_X4_undo S = some (r, S') ∧ XR B h h' S' k r.toInt64 := by
  obtain ⟨e, o, z, st, R, hpu, ⟨g0', hg0⟩, sc, hb⟩ := id I
  obtain ⟨dk, kv, hi, tx, C, hbx, D, G, K, ⟨ea, hd, c, q, q1, q2, q3, q4, q5, q6, q7, q8⟩, T⟩ := id R
  unfold F_X0_undo F_X1_undo P_X4_undo F_J3_isEmpty
  rw [v_isO C, bind_some9, v_getR C rfl, bind_some9, v_isO q1, bind_some9, v_getI q1 rfl, bind_some9, v_getI q1 rfl, bind_some9, bind_some9]
  show ∃ k h' r S', _ ∧ (Option.bind (some (setI S 8 0)) _) = _ ∧ _
  rw [bind_some9]
  have p5 : pgI (setI S 8 0) 5 = some (I32 c) := by
    show some ((setI S 8 0).2.1 5) = _
    rw [setI_ne _ _ (by decide), q7]
  rw [p5, bind_some9]
  cases c with
  | zero =>
    rw [if_pos (show I32 0 = 0 from rfl), m_fails, pb2_s, if_pos (show I32 hd = I32 ((hd + 0) % 17) by rw [Nat.add_zero, mod17 q5]), if_neg (by decide), st_f rfl (m.mono (by decide) (by decide)), thr_l, thr_l]
    exact ⟨1, hskip h 6, 0, setI (setI S 8 0) 8 1, if_pos rfl, rfl, XR_of I (by decide) (exG I) (SM2 S _ _) (setI_get _ _ _) _⟩
  | succ c =>
    obtain ⟨d, w1, w2', w3⟩ := q8 c (by omega)
    have hix : ix (I32 ((hd + c) % 17)) ((hd + c) % 17) 17 := ix_of _ _ (Nat.mod_lt _ (by decide)) (by decide)
    obtain ⟨st2, al2, sh2, z2, Cd, Cd2, Zd⟩ := id w2'
    obtain ⟨h1, e1⟩ : ∃ h1, h1 = hset h hi (.inr (9, [.ref ea, .int (I32 hd), .int (I32 ((hd + c) % 17))])) := ⟨_, rfl⟩
    obtain ⟨h2, e2⟩ : ∃ h2, h2 = hset h1 ea (.inl (2, 17, .inr (.inr (va_up q ((hd + c) % 17) none)))) := ⟨_, rfl⟩
    obtain ⟨h3, e3⟩ : ∃ h3, h3 = hset h2 B (.inr (0, [.ref d, kv, .ref hi, .ref tx])) := ⟨_, rfl⟩
    have nhe : hi ≠ ea := fun w => by rw [w, q2] at q1; cases q1
    have nhB : hi ≠ B := fun w => by rw [w, C] at q1; cases q1
    have neB : ea ≠ B := fun w => by rw [w, C] at q2; cases q2
    have g1 : Gr (fun a => a < hSz h ∧ a ≠ hi) 0 0 h h1 := by rw [e1]; exact Gr.set o q1 (fun z => z.2 rfl)
    have A1 : hF h1 ea = some (.inl (2, 17, .inr (.inr q))) := by rw [g1.2.1 ea ⟨o.lt q2, fun w => nhe w.symm⟩]; exact q2
    have g2 : Gr (fun a => a < hSz h1 ∧ a ≠ ea) 0 0 h1 h2 := by rw [e2]; exact Gr.set g1.ok A1 (fun z => z.2 rfl)
    have C1 : hF h1 B = some (.inr (0, [.ref dk, kv, .ref hi, .ref tx])) := by rw [g1.2.1 B ⟨o.lt C, fun w => nhB w.symm⟩]; exact C
    have C2 : hF h2 B = some (.inr (0, [.ref dk, kv, .ref hi, .ref tx])) := by rw [g2.2.1 B ⟨g1.ok.lt C1, fun w => neB w.symm⟩]; exact C1
    have g3 : Gr (fun a => a < hSz h2 ∧ a ≠ B) 0 0 h2 h3 := by rw [e3]; exact Gr.set g2.ok C2 (fun z => z.2 rfl)
    have H1 : hF h1 hi = some (.inr (9, [.ref ea, .int (I32 hd), .int (I32 ((hd + c) % 17))])) := by rw [e1]; exact hF_set_eq _ _ _
    have H2 : hF h2 hi = some (.inr (9, [.ref ea, .int (I32 hd), .int (I32 ((hd + c) % 17))])) := by rw [g2.2.1 hi ⟨g1.ok.lt H1, nhe⟩]; exact H1
    have H3 : hF h3 hi = some (.inr (9, [.ref ea, .int (I32 hd), .int (I32 ((hd + c) % 17))])) := by rw [g3.2.1 hi ⟨g2.ok.lt H2, nhB⟩]; exact H2
    have A2 : hF h2 ea = some (.inl (2, 17, .inr (.inr (va_up q ((hd + c) % 17) none)))) := by rw [e2]; exact hF_set_eq _ _ _
    have A3' : hF h3 ea = some (.inl (2, 17, .inr (.inr (va_up q ((hd + c) % 17) none)))) := by rw [g3.2.1 ea ⟨g2.ok.lt A2, neB⟩]; exact A2
    have C3 : hF h3 B = some (.inr (0, [.ref d, kv, .ref hi, .ref tx])) := by rw [e3]; exact hF_set_eq _ _ _
    have k1 : KeepX (fun k => k = (0, 9) ∨ k = (3, 17) ∨ k = (0, 0)) h h1 := KeepX.one o g1 q1 H1 (Or.inl rfl) rfl
    have k2 : KeepX (fun k => k = (0, 9) ∨ k = (3, 17) ∨ k = (0, 0)) h1 h2 := KeepX.one g1.ok g2 A1 A2 (Or.inr (Or.inl rfl)) rfl
    have k3 : KeepX (fun k => k = (0, 9) ∨ k = (3, 17) ∨ k = (0, 0)) h2 h3 := KeepX.one g2.ok g3 C2 C3 (Or.inr (Or.inr rfl)) rfl
    have kx : KeepX (fun k => k = (0, 9) ∨ k = (3, 17) ∨ k = (0, 0)) h h3 := ⟨k3.1.trans (k2.1.trans k1.1), fun a ec ha hx => k3.2.1 a ec (k2.2.1 a ec (k1.2.1 a ec ha hx) hx) hx, fun a cc fs ha => (k1.2.2 a cc fs ha).elim fun f1 w => (k2.2.2 a cc f1 w).elim fun f2 w => k3.2.2 a cc f2 w⟩
    have kX : KeepX XC h h3 := ⟨kx.1, fun a ec ha hx => kx.2.1 a ec ha (fun w => hx (by rcases w with w | w | w; exact Or.inr (Or.inl w); exact Or.inr (Or.inr (Or.inl w)); exact Or.inl w)), kx.2.2⟩
    have nD : noD (fun k => k = (0, 9) ∨ k = (3, 17) ∨ k = (0, 0)) := ⟨by decide, by decide, by decide, by decide, by decide, by decide, fun n hn w => (by rcases w with w | w | w; cases w; (cases w; exact absurd hn (by decide)); cases w), by decide, by decide⟩
    have gT : Gr (fun _ => False) 0 0 h h3 := ((g1.sub (P' := fun _ => False) (fun a w => w.elim)).tr (g2.sub (fun a w => w.elim))).tr (g3.sub (fun a w => w.elim))
    -- the model
    obtain ⟨S1, eS1⟩ : ∃ S1, S1 = setI (setI S 8 0) 5 (I32 c) := ⟨_, rfl⟩
    obtain ⟨S2, eS2⟩ : ∃ S2, S2 = mov S1 4 (194 * c) 0 0 194 := ⟨_, rfl⟩
    have t0 : ∀ j, j < 194 → S2.1 0 j = S.1 4 (194 * c + j) := fun j hj => by
      rw [eS2]
      unfold mov
      rw [setA_get, if_pos (by omega), eS1, Nat.sub_zero]
      rfl
    have tK : ∀ K', K' ≠ 0 → S2.1 K' = S.1 K' := fun K' hK => by
      rw [eS2]
      unfold mov
      rw [setA_ne _ _ hK, eS1]
      rfl
    have ti : ∀ K', K' ≠ 8 → K' ≠ 5 → S2.2.1 K' = S.2.1 K' := fun K' h8 h5 => by
      rw [eS2, eS1]
      show (setI (setI S 8 0) 5 (I32 c)).2.1 K' = _
      rw [setI_ne _ _ h5, setI_ne _ _ h8]
    have ti5 : S2.2.1 5 = I32 c := by
      rw [eS2, eS1]
      exact setI_get _ _ _
    have ti8 : S2.2.1 8 = 0 := by
      rw [eS2, eS1]
      show (setI (setI S 8 0) 5 (I32 c)).2.1 8 = _
      rw [setI_ne _ _ (by decide), setI_get]
    have RX : CX h3 B S2 := by
      refine ⟨d, kv, hi, tx, C3, by rw [kx.b]; exact hbx, w2'.keepX kx nD t0, w3.congr t0, K.keepX kx nD (tK 2 (by decide)) (ti 3 (by decide) (by decide)), ⟨ea, hd, c, _, H3, A3', by rw [kx.b]; exact q3, by rw [kx.b]; exact q4, q5, by omega, ti5, fun i hic => ?_⟩, T.keepX kx (by decide) (fun n w => by rcases w with w | w | w <;> cases w) (tK 6 (by decide)) (ti 7 (by decide) (by decide))⟩
      obtain ⟨d', u1, u2, u3⟩ := q8 i (by omega)
      refine ⟨d', ?_, by rw [tK 4 (by decide)]; exact u2.keepX kx nD (fun _ _ => rfl), by rw [tK 4 (by decide)]; exact u3⟩
      unfold va_up
      rw [if_neg (by omega)]
      exact u1
    obtain ⟨h6, e6, xr⟩ := out_put e o (by decide) (by decide) gT kX RX ti8 (kX.2.1 _ _ hg0 xc_out) (I32 c).toInt64
    refine ⟨0, h6, I32 c, S2, ?_, ?_, xr⟩
    · have ne : ¬ I32 hd = I32 ((hd + (c + 1)) % 17) := fun w => ne17 hd q5 c (by omega) w
      have eP1 : putV h 9 2 (some hi) (.int (I32 ((hd + c) % 17))) = some h1 := by
        rw [e1]
        exact v_putV q1 (show (2 : Nat) < 3 by decide) (by omega)
      have eP2 : astR h1 2 (some ea) (I32 ((hd + c) % 17)) none = some h2 := by
        rw [e2]
        exact v_astR A1 hix (by rw [g1.b]; exact q4) rfl (Or.inl rfl)
      have eP3 : putV h2 0 0 (some B) (va_rf (some d)) = some h3 := by
        rw [e3]
        exact v_putV C2 (show (0 : Nat) < 4 by decide) (by rw [g2.b, g1.b]; omega)
      have Cd3 : hF h2 d = some (.inr (2, [.ref st2, .ref al2, .ref sh2, .ref z2, .int (S.1 4 (194 * c + 193))])) := k2.2.1 _ _ (k1.2.1 _ _ Cd.1 (by intro w; rcases w with w | w | w <;> cases w)) (by intro w; rcases w with w | w | w <;> cases w)
      have eq9 : alen h (some ea) = some (I32 17) := v_alen q2 (by decide)
      have eq10 : alen h3 (some ea) = some (I32 17) := v_alen A3' (by decide)
      unfold F_J3_removeLast F_J3_pollLast F_J3_elementAt F_J3_size
      rw [if_neg ne, if_pos rfl, st_t (by decide), thr_r, v_getR C rfl, bind_some9, v_isO q1, bind_some9, v_isO q1, bind_some9, v_getR q1 rfl, bind_some9, v_getI q1 rfl, bind_some9, eq9, bind_some9, dec17 hd q5 c (by omega), v_aldR q2 hix, bind_some9, bind_some9, w1, if_neg (by simp), eP1, bind_some9, eP2, bind_some9, b2_s, if_neg (by simp), b2_s, v_castO Cd3, bind_some9, eP3, bind_some9, v_getR C3 rfl, bind_some9, v_isO H3, bind_some9, v_getI H3 rfl, bind_some9, v_getI H3 rfl, bind_some9, v_getR H3 rfl, bind_some9, eq10, bind_some9, bind_some9, thr_r, sub17 hd q5 c (by omega), e6, bind_some9]
    · have n0 : ¬ I32 (c + 1) = 0 := fun w => by have := (i32z (by omega)).mp w; omega
      rw [if_neg n0, bind_some9, show I32 (c + 1) - (1 : Int32) = I32 c from by
        have := i32sub1 (c + 1) (by omega) (by omega)
        rwa [Nat.add_sub_cancel] at this]
      show Option.bind (some (setI (setI S 8 0) 5 (I32 c))) _ = _
      rw [bind_some9, ← eS1, show pgI S1 5 = some (I32 c) from by
        show some (S1.2.1 5) = _
        rw [eS1, setI_get], bind_some9, m_copies4 S1 (by omega), bind_some9, ← eS2, show pgI S2 5 = some (I32 c) from by
        show some (S2.2.1 5) = _
        rw [ti5], bind_some9]
end BK
