/-! queries that count -/
def hC (h : HH) (f : Nat → Int32) : HH := hset (hpush h (.inl (0, 3, .inl fun _ => 0)) 3) (hSz h) (.inl (0, 3, .inl f))
theorem hC_push (h : HH) (f : Nat → Int32) : hC h f = hpush h (.inl (0, 3, .inl f)) 3 := hset_push_eq _ _ _ _
theorem i32z {n : Nat} (h : n < 2147483648) : I32 n = 0 ↔ n = 0 := ⟨fun q => by
  have := congrArg Int32.toInt q
  rw [big_t h] at this
  have e : (0 : Int32).toInt = 0 := by decide
  omega, fun q => by rw [q]; rfl⟩
theorem i32le0 {n : Nat} (h : n < 2147483648) : I32 n ≤ 0 ↔ n = 0 := by
  rw [show (0 : Int32) = I32 0 from rfl, big_le h (by decide)]
  omega
section Q9
variable {B L b : Nat} {xs : Nat → Int32} {h h' : HH} {S S' : MS}
theorem f_moments (I : LW B L b xs h S) (m : Rm 1 3 h) : ∃ f, F_X1_moments B h = some (I32 (T3 (cw (Zs (S.1 0) 0) none)), hC h f) := by
  obtain ⟨dk, kv, hi, tx, st, al, sh, z0, C, D, ⟨bb, d0, Z0, r0⟩, s1, s2, s3, G⟩ := I.2.2.2.2.1.parts
  obtain ⟨f, e⟩ := z_count (a1 := none) (E := none) I.2.1 Z0 r0 (Or.inl ⟨rfl, rfl⟩) m
  refine ⟨f, ?_⟩
  unfold F_X1_moments
  rw [v_getR C rfl, bind_some9, v_getR D.1 rfl, bind_some9, v_isO Z0.1, bind_some9, e, b2_s]
  rfl
theorem gC (o : OKH h) (f : Nat → Int32) : Gr (fun a => a < hSz h) 50000 228000 h (hC h f) := (arr_ok o f).mono (by decide) (by decide)
theorem smC (S : MS) (x : Int32) (n s : Nat) : SM S (MSJ (setI S 8 x) n s) := (SMi S _).tr (SM.msj _ _ _)
theorem smC8 (S : MS) (x : Int32) (n s : Nat) : (MSJ (setI S 8 x) n s).2.1 8 = x := (msj8 _ _ _).trans (setI_get _ _ _)
theorem x_moments (I : LW B L b xs h S) (m : Rm 50000 228000 h) : ∃ v h' S', F_X1_moments B h = some (v, h') ∧ P_X4_moments S = some (v, S') ∧ XQ B h h' S' := by
  obtain ⟨_, _, _, _, _, _, _, _, _, _, _, _, _, _, G⟩ := I.2.2.2.2.1.parts
  obtain ⟨f, e⟩ := f_moments I (m.mono (by decide) (by decide))
  refine ⟨_, _, _, e, ?_, xq_of I (gC I.2.1 f) (smC S 0 (T3 (cw (Zs (S.1 0) 0) none)) (T3 (w2 (Zs (S.1 0) 0) none 0)))⟩
  unfold P_X4_moments
  rw [m_toldCount G, pb2_s]
theorem x_isEmptyByMoments (I : LW B L b xs h S) (m : Rm 50000 228000 h) : ∃ v h' S', F_X1_isEmptyByMoments B h = some (v, h') ∧ P_X4_isEmptyByMoments S = some (v, S') ∧ XQ B h h' S' := by
  obtain ⟨dk, kv, hi, tx, st, al, sh, z0, C, D, ⟨bb, d0, Z0, r0⟩, s1, s2, s3, G⟩ := I.2.2.2.2.1.parts
  obtain ⟨f, e⟩ := z_count (a1 := none) (E := none) I.2.1 Z0 r0 (Or.inl ⟨rfl, rfl⟩) (m.mono (by decide) (by decide))
  obtain ⟨w, t9, ew, fw⟩ := m_hasNone G
  have h0 := T3_0 G.2.1
  have le := T3_le (Zs (S.1 0) 0) none
  have q : (if I32 (T3 (cw (Zs (S.1 0) 0) none)) = 0 then (1 : Int32) else (0 : Int32)) = w := by
    by_cases hn : nn (otl (Zs (S.1 0) 0) 4)
    · rw [if_neg (fun z => h0.mp ((i32z (by omega)).mp z) hn), (fl_0 fw).mpr (fun z => z hn)]
    · rw [if_pos ((i32z (by omega)).mpr (h0.mpr hn)), (fl_1 fw).mpr hn]
  refine ⟨w, hC h f, setA (setI S 8 0) 9 t9, ?_, ?_, xq_of I (gC I.2.1 f) ((SMi S _).tr (SM.a9 _ _))⟩
  · unfold F_X1_isEmptyByMoments
    rw [v_getR C rfl, bind_some9, v_getR D.1 rfl, bind_some9, v_isO Z0.1, bind_some9, e, b2_s, q]
    rfl
  · unfold P_X4_isEmptyByMoments
    rw [ew, pb2_s, fl_okZ fw, bind_some9]
theorem x_momentsTightened (I : LW B L b xs h S) (m : Rm 50000 228000 h) : ∃ v h' S', F_X1_momentsTightened B h = some (v, h') ∧ P_X4_momentsTightened S = some (v, S') ∧ XQ B h h' S' := by
  obtain ⟨e, o, z, st, R, _⟩ := id I
  obtain ⟨dk, kv, hi, tx, st, al, sh, z0, C, D, ⟨bb, d0, Z0, r0⟩, s1, s2, s3, G⟩ := R.parts
  have r1 : rep 9999 (gtl 9999 d0 4) (otl (Zs (S.1 0) 0) 4) := G.2.1.toEC.rep n9 r0
  have g1 : Gr (fun a => a < hSz h) 2 17 h (mkZ h (gtl 9999 d0 4)) := mkZ_gr o _ (fun a q => q)
  have Z1 := mkZ_ZA o (gtl 9999 d0 4)
  obtain ⟨v, ev, fv⟩ := z_hasNone Z1 r1
  obtain ⟨f, ef⟩ := z_count (a1 := none) (E := none) g1.ok Z1 r1 (Or.inl ⟨rfl, rfl⟩) ((m.gr g1 (by decide) (by decide)).mono (by decide) (by decide))
  rw [cw_tight] at ef
  have h0 := T3_0 G.2.1
  have M : P_X4_momentsTightened S = some (I32 (T3 (cw (Zs (S.1 0) 0) none)), MSJ (setI S 8 0) (T3 (cw (Zs (S.1 0) 0) none)) (T3 (w2 (Zs (S.1 0) 0) none 0))) := by
    unfold P_X4_momentsTightened
    rw [m_toldCount G, pb2_s]
  unfold F_X1_momentsTightened
  rw [v_getR C rfl, bind_some9, v_getR D.1 rfl, bind_some9, v_isO Z0.1, bind_some9, z_tight o Z0 (m.mono (by decide) (by decide)), b2_s, v_isO Z1.1, bind_some9, ev, bind_some9]
  by_cases hn : nn (otl (Zs (S.1 0) 0) 4)
  · rw [if_pos ((fl_0 fv).mpr (fun q => q hn)), bind_some9, ef, b2_s]
    exact ⟨_, _, _, rfl, M, xq_of I ((g1.tr ((arr_ok g1.ok f).sub (fun a (q : a < hSz h) => Nat.lt_of_lt_of_le q g1.2.2.2.1))).mono (by decide) (by decide)) (smC S 0 _ _)⟩
  · rw [if_neg (fun q => (fl_0 fv).mp q hn)]
    refine ⟨_, _, _, rfl, ?_, xq_of I (g1.mono (by decide) (by decide)) (smC S 0 (T3 (cw (Zs (S.1 0) 0) none)) (T3 (w2 (Zs (S.1 0) 0) none 0)))⟩
    rw [M, h0.mpr hn]
    rfl
theorem q_momentsBeyond (a1 : Int32) (I : LW B L b xs h S) (m : Rm 50000 228000 h) : ∃ res h' r S', F_X1_momentsBeyond B a1 h = some (res, h') ∧ P_X4_momentsBeyond a1 S = some (r, S') ∧ QO "java/lang/IllegalArgumentException" "java/util/NoSuchElementException" True h h' S S' res (fun v => v = r) := by
  obtain ⟨e, o, z, st, R, _⟩ := id I
  obtain ⟨dk, kv, hi, tx, st, al, sh, z0, C, D, ⟨bb, d0, Z0, r0⟩, s1, s2, s3, G⟩ := R.parts
  unfold F_X1_momentsBeyond P_X4_momentsBeyond
  rw [v_getR C rfl, bind_some9, v_getR D.1 rfl, bind_some9, v_isO C, bind_some9]
  rcases t_shelf a1 o R (Gr.rf o) (m.mono (by decide) (by decide)) with ⟨p, e1, e2⟩ | ⟨e1, e2⟩ | ⟨k, zs, bz, d, hk, rfl, Z, r, w2', w3, e1, e2⟩
  · rw [e1, thr_l, e2, pb2_s, if_pos rfl]
    exact ⟨_, _, _, _, rfl, rfl, QO.bad1 I⟩
  · rw [e1, thr_l, e2, pb2_s, if_pos rfl]
    exact ⟨_, _, _, _, rfl, rfl, QO.bad2 (exG I) (SM2 S _ _) (setI_get _ _ _)⟩
  · obtain ⟨f, ef⟩ := z_count (a1 := some zs) (E := some (Zs (S.1 0) (16 + 16 * k))) o Z0 r0 (Or.inr ⟨zs, bz, d, _, rfl, rfl, Z, r⟩) (m.mono (by decide) (by decide))
    rw [e1, thr_r, e2, pb2_s, if_neg (by decide), v_isO Z0.1, bind_some9, ef, b2_s, m_moments (S := setI (setI S 8 0) 8 0) (E := some (Zs (S.1 0) (16 + 16 * k))) G (Or.inr ⟨k, hk, rfl, rfl, w2'⟩), bind_some9, msj11, bind_some9]
    exact ⟨_, _, _, _, rfl, rfl, QO.ok (gC o f) ((SM2 S _ _).tr (SM.msj _ _ _)) ((msj8 _ _ _).trans (setI_get _ _ _)) rfl⟩
theorem x_share (I : LW B L b xs h S) (m : Rm 50000 228000 h) : ∃ v h' S', F_X1_share B h = some (v, h') ∧ P_X4_share S = some (v, S') ∧ XQ B h h' S' := by
  obtain ⟨dk, kv, hi, tx, st, al, sh, z0, C, D, _, s1, s2, s3, G⟩ := I.2.2.2.2.1.parts
  obtain ⟨f, e⟩ := f_moments I (m.mono (by decide) (by decide))
  unfold F_X1_share P_X4_share P_X4_part
  rw [v_isO C, bind_some9, e, b2_s, share_ok, bind_some9]
  refine ⟨_, _, _, rfl, ?_, xq_of I (gC I.2.1 f) (smC S 0 (T3 (cw (Zs (S.1 0) 0) none)) (T3 (w2 (Zs (S.1 0) 0) none 0)))⟩
  show pb2 (Option.bind (some (setI S 8 0)) _) _ = _
  rw [bind_some9, m_count (S := setI S 8 0) G, pb2_s, share_ok, bind_some9, pb2_s]
  rfl
theorem fbits (v : UInt32) (h1 h2 : HH) : F_J19_floatToIntBits v h1 = F_J19_floatToIntBits v h2 := rfl
theorem dbits (v : UInt64) (h1 h2 : HH) : F_J20_doubleToLongBits v h1 = F_J20_doubleToLongBits v h2 := rfl
theorem fbits_s (v : UInt32) (h1 : HH) : ∃ w, F_J19_floatToIntBits v h1 = some w := by
  unfold F_J19_floatToIntBits
  split
  · exact ⟨_, rfl⟩
  · exact ⟨_, rfl⟩
theorem dbits_s (v : UInt64) (h1 : HH) : ∃ w, F_J20_doubleToLongBits v h1 = some w := by
  unfold F_J20_doubleToLongBits
  split
  · exact ⟨_, rfl⟩
  · exact ⟨_, rfl⟩
theorem x_shareBits (I : LW B L b xs h S) (m : Rm 50000 228000 h) : ∃ v h' S', F_X1_shareBits B h = some (v, h') ∧ P_X4_shareBits S = some (v, S') ∧ XQ B h h' S' := by
  obtain ⟨dk, kv, hi, tx, C, _⟩ := id I.2.2.2.2.1
  obtain ⟨v, h', S', e1, e2, q⟩ := x_share I m
  obtain ⟨w, ew⟩ := fbits_s v h'
  refine ⟨w, h', S', ?_, ?_, q⟩
  · unfold F_X1_shareBits
    rw [v_isO C, bind_some9, e1, b2_s, ew, bind_some9]
  · unfold P_X4_shareBits
    unfold P_X4_share at e2
    cases hp : P_X4_part S with
    | none => rw [hp] at e2; cases e2
    | some r =>
      obtain ⟨v', S2⟩ := r
      rw [hp, pb2_s] at e2
      cases e2
      rw [pb2_s, fbits v hNil h', ew, bind_some9]
/-- a moment -/
def isM (a : Int32) : Prop := (0 : Int32).toInt ≤ a.toInt ∧ a.toInt ≤ (999 : Int32).toInt
theorem isM_in (a : Int32) : F_X1_isBetween (a.toInt64) (0 : Int64) (999 : Int64) = F_X4_in a 0 999 := between_in a 0 999
theorem isMoment_fl (a1 a2 a3 : Int32) : fl (F_X4_isMoment a1 a2 a3) (isM a1 ∧ isM a2 ∧ isM a3) := by
  unfold F_X4_isMoment
  rw [fl_id (in_fl a3 0 999)]
  exact fl_if0 (in_fl a1 0 999) (fun _ => fl_if0 (in_fl a2 0 999) (fun _ => in_fl a3 0 999))
theorem f_isMoment {X : HH} {a : Nat} {f : Nat → Int32} (A : hF X a = some (.inl (0, 3, .inl f))) : ∃ v, F_X1_isMoment (some a) X = some v ∧ fl v (isM (f 0) ∧ isM (f 1) ∧ isM (f 2)) := by
  obtain ⟨v, e, hv⟩ := lp_inv0 (B := fun z => F_X1_isMoment_B10 (some a) (I32 3) z.1 z.2 X) (Q := fun v => fl v (∀ c, c < 3 → isM (f c))) (fuel := 100000) (x := ((1 : Int32), (0 : Int32))) (fun j z => z.2 = I32 j ∧ fl z.1 (∀ c, c < j → isM (f c))) 3 (fun j hj y hy => by
    obtain ⟨x, jj⟩ := y
    obtain ⟨e1, hx⟩ := hy
    have e1 : jj = I32 j := e1
    subst e1
    refine ⟨(x &&& F_X4_in (f j) 0 999, I32 (j + 1)), ?_, rfl, fl_congr (fl_and hx (in_fl (f j) 0 999)) ⟨fun q c hc => ?_, fun q => ⟨fun c hc => q c (by omega), q j (by omega)⟩⟩⟩
    · show F_X1_isMoment_B10 (some a) (I32 3) x (I32 j) X = _
      unfold F_X1_isMoment_B10
      rw [if_neg (show ¬ I32 3 ≤ I32 j from nge3 hj), v_aldI A (ix_of j 3 hj (by decide)), bind_some9, i32s j (by omega), isM_in]
    · by_cases ec : c = j
      · rw [ec]
        exact q.2
      · exact q.1 c (by omega)) (fun y hy => by
    obtain ⟨x, jj⟩ := y
    obtain ⟨e1, hx⟩ := hy
    have e1 : jj = I32 3 := e1
    subst e1
    refine ⟨x, ?_, hx⟩
    show F_X1_isMoment_B10 (some a) (I32 3) x (I32 3) X = _
    unfold F_X1_isMoment_B10
    exact if_pos (by decide)) ⟨rfl, Or.inl ⟨rfl, fun c hc => absurd hc (Nat.not_lt_zero c)⟩⟩ (by decide)
  refine ⟨v, ?_, fl_congr hv ⟨fun q => ⟨q 0 (by decide), q 1 (by decide), q 2 (by decide)⟩, fun q c hc => ?_⟩⟩
  · unfold F_X1_isMoment
    rw [v_alen A (by decide), bind_some9, e, bind_some9, fl_okZ hv, bind_some9]
  · have : c = 0 ∨ c = 1 ∨ c = 2 := by omega
    rcases this with rfl | rfl | rfl
    · exact q.1
    · exact q.2.1
    · exact q.2.2
def ar3 (a1 a2 a3 : Int32) : Nat → Int32 := upd (upd (upd (fun _ => 0) 0 a1) 1 a2) 2 a3
theorem mk3 (o : OKH h) (m : Rm 1 3 h) (a1 a2 a3 : Int32) {β : Type} (F : HH → Option β) : (Option.bind (newA h 0 (3 : Int32)) fun h1 => Option.bind (astI h1 (some (hSz h)) (0 : Int32) a1) fun h2 => Option.bind (astI h2 (some (hSz h)) (1 : Int32) a2) fun h3 => Option.bind (astI h3 (some (hSz h)) (2 : Int32) a3) fun h4 => F h4) = F (hpush h (.inl (0, 3, .inl (ar3 a1 a2 a3))) 3) := by
  rw [v_newA (t := 0) (n := 3) (by decide) (by decide) (by decide) m, bind_some9, show zeroA 0 = (.inl fun _ => 0 : AV) from rfl, arr_put o (show ix 0 0 3 from ⟨by decide, by decide, by decide⟩), bind_some9, arr_put o (show ix 1 1 3 from ⟨by decide, by decide, by decide⟩), bind_some9, arr_put o (show ix 2 2 3 from ⟨by decide, by decide, by decide⟩), bind_some9]
  rfl
theorem ar3_yv (a1 a2 a3 : Int32) : ∀ i, i < 4 → yv (ar3 a1 a2 a3) i = yv (fun c => if c = 0 then a1 else if c = 1 then a2 else a3) i := fun i hi => by
  rcases or4 hi with rfl | rfl | rfl | rfl <;> rfl
theorem q_hasMoment (a1 a2 a3 : Int32) (I : LW B L b xs h S) (m : Rm 50000 228000 h) : ∃ res h' r S', F_X1_hasMoment B a1 a2 a3 h = some (res, h') ∧ P_X4_hasMoment a1 a2 a3 S = some (r, S') ∧ QO "java/lang/IllegalArgumentException" "" False h h' S S' res (fun v => v = r) := by
  obtain ⟨dk, kv, hi, tx, st, al, sh, z0, C, D, ⟨bb, d0, Z0, r0⟩, s1, s2, s3, G⟩ := I.2.2.2.2.1.parts
  have o := I.2.1
  obtain ⟨h4, e4⟩ : ∃ h4, h4 = hpush h (.inl (0, 3, .inl (ar3 a1 a2 a3))) 3 := ⟨_, rfl⟩
  have g4 : Gr (fun a => a < hSz h) 1 3 h h4 := by rw [e4]; exact Gr.push o _ _ (Nat.lt_irrefl _)
  have A4 : hF h4 (hSz h) = some (.inl (0, 3, .inl (ar3 a1 a2 a3))) := by rw [e4]; exact hF_push_eq _ _ _
  obtain ⟨v, ev, fv⟩ := f_isMoment A4
  have fM := isMoment_fl a1 a2 a3
  have fv : fl v (isM a1 ∧ isM a2 ∧ isM a3) := fv
  have m4 := m.gr g4 (by decide) (by decide)
  unfold F_X1_hasMoment P_X4_hasMoment
  rw [mk3 o (m.mono (by decide) (by decide)), ← e4, ev, bind_some9]
  by_cases p : isM a1 ∧ isM a2 ∧ isM a3
  · obtain ⟨h5, e5⟩ : ∃ h5, h5 = hpush h4 (.inl (0, 3, .inl (ar3 a1 a2 a3))) 3 := ⟨_, rfl⟩
    have g5 : Gr (fun a => a < hSz h4) 1 3 h4 h5 := by rw [e5]; exact Gr.push g4.ok _ _ (Nat.lt_irrefl _)
    have A5 : hF h5 (hSz h4) = some (.inl (0, 3, .inl (ar3 a1 a2 a3))) := by rw [e5]; exact hF_push_eq _ _ _
    have g6 : Gr (fun a => a < hSz h) 2 6 h h5 := g4.tr (g5.sub (fun a (q : a < hSz h) => Nat.lt_of_lt_of_le q g4.2.2.2.1))
    have Z5 := Z0.gr g6 (o.lt Z0.1) (o.lt Z0.2.1)
    have bd3 : ∀ x, x = a1 ∨ x = a2 ∨ x = a3 → -9 ≤ x.toInt ∧ x.toInt ≤ 5000 := fun x hx => by
      have e0 : (0 : Int32).toInt = 0 := by decide
      have e9 : (999 : Int32).toInt = 999 := by decide
      unfold isM at p
      rw [e0, e9] at p
      rcases hx with rfl | rfl | rfl <;> omega
    obtain ⟨u, eu, fu⟩ := z_has Z5 r0 A5 (fun c hc => by
      have : c = 0 ∨ c = 1 ∨ c = 2 := by omega
      rcases this with rfl | rfl | rfl
      · exact bd3 _ (Or.inl rfl)
      · exact bd3 _ (Or.inr (Or.inl rfl))
      · exact bd3 _ (Or.inr (Or.inr rfl)))
    obtain ⟨w, ew, fw⟩ := m_allows (S := setI S 8 0) (o := 0) (a2 := (0 : Int32)) (a3 := a1) (a4 := a2) (a5 := a3) (D := Zs (S.1 0) 0) (fun j hj => by rw [Nat.zero_add]; exact ix0 (show j < 194 by omega) (by decide)) G.1 bd3
    have euw : u = w := fl_eq fu fw (sat_cg (ar3_yv a1 a2 a3))
    rw [arg_t fv p, thr_r, asks_t fM p, pb2_s, if_neg (fun z => (fl_0 fM).mp z p), v_getR (show hF h4 B = some (.inr (0, [.ref dk, kv, .ref hi, .ref tx])) by rw [g4.2.1 B (o.lt C)]; exact C) rfl, bind_some9, v_getR (show hF h4 dk = some (.inr (2, [.ref st, .ref al, .ref sh, .ref z0, .int (S.1 0 193)])) by rw [g4.2.1 dk (o.lt D.1)]; exact D.1) rfl, bind_some9, mk3 g4.ok (m4.mono (by decide) (by decide)), ← e5, v_isO Z5.1, bind_some9, eu, bind_some9, fl_okZ fu, bind_some9, ew, bind_some9, fl_id fw, ← euw]
    exact ⟨_, _, _, _, rfl, rfl, QO.ok (g6.mono (by decide) (by decide)) (SMi S _) (setI_get _ _ _) rfl⟩
  · rw [arg_f fv p (m4.mono (by decide) (by decide)), thr_l, asks_f fM p, pb2_s, if_pos ((fl_0 fM).mpr p)]
    exact ⟨_, _, _, _, rfl, rfl, (g4.tr ((Gr.skip (P := fun a => a < hSz h4) g4.ok 6 (Nat.lt_irrefl _)).sub (fun a (q : a < hSz h) => Nat.lt_of_lt_of_le q g4.2.2.2.1))).mono (by decide) (by decide), SMi S _, Or.inl ⟨setI_get _ _ _, _, rfl⟩⟩
/-- the sum over the moments -/
theorem z_sum {z bz cl : Nat} {d : ZS} {D : OD} (hcl : cl < 3) (o : OKH h) (Z : ZA h z bz d) (r : rep 9999 d D) (m : Rm 1 3 h) : ∃ f, F_X3_sum_2 z (I32 cl) h = some (Int64.ofNat (T3 (w2 D none (I32 cl))), hC h f) := by
  obtain ⟨r', e, f, e2⟩ := lp_inv0 (B := fun y => F_X3_sum_2_B10 z (I32 cl) (some (hSz h)) y.1 y.2.1 y.2.2) (Q := fun r => ∃ f, r = (Int64.ofNat (T3 (w2 D none (I32 cl))), hC h f)) (fuel := 100000) (x := ((0 : Int64), (0 : Int32), hpush h (.inl (0, 3, .inl fun _ => 0)) 3)) (fun k y => y.1 = Int64.ofNat (sumN (lin (w2 D none (I32 cl))) k) ∧ y.2.1 = I32 k ∧ ∃ f, y.2.2 = hC h f) 29791 (fun k hk y hy => by
    obtain ⟨x, kk, Y⟩ := y
    obtain ⟨e1, e2, f1, e3⟩ := hy
    have e1 : x = Int64.ofNat (sumN (lin (w2 D none (I32 cl))) k) := e1
    have e2 : kk = I32 k := e2
    have e4 : Y = hC h f1 := e3
    clear e3
    subst e1
    subst e2
    have gY : Gr (fun p => p < hSz h) 1 3 h Y := by rw [e4]; exact arr_ok o f1
    have AY : hF Y (hSz h) = some (.inl (0, 3, .inl f1)) := by rw [e4]; exact hF_set_eq _ _ _
    obtain ⟨f', ef, hf'⟩ := z_decodes hk AY (by rw [gY.b]; exact o.2)
    have eY : hset Y (hSz h) (.inl (0, 3, .inl f')) = hC h f' := by rw [e4]; exact hset_set _ _ _ _
    have gY2 : Gr (fun p => p < hSz h) 1 3 h (hC h f') := arr_ok o f'
    have Z2 := Z.gr gY2 (o.lt Z.1) (o.lt Z.2.1)
    have A2 : hF (hC h f') (hSz h) = some (.inl (0, 3, .inl f')) := hF_set_eq _ _ _
    obtain ⟨q1, q2⟩ := dg_mo hf'
    obtain ⟨v, ev, fv⟩ := z_has Z2 r A2 q2
    have sv := sat_cg (D := D) q1
    refine ⟨(Int64.ofNat (sumN (lin (w2 D none (I32 cl))) (k + 1)), I32 (k + 1), hC h f'), ?_, rfl, rfl, f', rfl⟩
    show F_X3_sum_2_B10 z (I32 cl) (some (hSz h)) _ (I32 k) Y = _
    unfold F_X3_sum_2_B10
    rw [if_neg (ne29791 hk), ef, bind_some9, eY, v_isO Z2.1, bind_some9, ev, bind_some9, i32sB]
    have st : ∀ u : Nat, u = lin (w2 D none (I32 cl)) k → Int64.ofNat (sumN (lin (w2 D none (I32 cl))) k) + Int64.ofNat u = Int64.ofNat (sumN (lin (w2 D none (I32 cl))) (k + 1)) := fun u hu => by
      rw [big_add64, hu]
      rfl
    by_cases hs : sat D (mo (k % 31) (k / 31 % 31) (k / 31 / 31 % 31))
    · have e6 : lin (w2 D none (I32 cl)) k = dg k cl % 31 := by
        unfold lin w2
        rw [if_pos (bq_t.mpr ⟨hs, fun e he => by cases he⟩)]
        have : cl = 0 ∨ cl = 1 ∨ cl = 2 := by omega
        rcases this with rfl | rfl | rfl <;> rfl
      rw [if_neg (fun w => (fl_0 fv).mp w (sv.mpr hs)), v_aldI A2 (ix_of cl 3 hcl (by decide)), bind_some9, hf' cl hcl, to64 _ (by omega), st (dg k cl % 31) e6.symm]
    · rw [if_pos ((fl_0 fv).mpr (fun w => hs (sv.mp w))), show Int64.ofNat (sumN (lin (w2 D none (I32 cl))) k) + (0 : Int64) = _ from st 0 (by unfold lin w2; rw [bq_f.mpr (fun w => hs w.1)]; rfl)]) (fun y hy => by
    obtain ⟨x, kk, Y⟩ := y
    obtain ⟨e1, e2, f1, e3⟩ := hy
    have e1 : x = Int64.ofNat (sumN (lin (w2 D none (I32 cl))) 29791) := e1
    have e2 : kk = I32 29791 := e2
    have e3 : Y = hC h f1 := e3
    subst e1
    subst e2
    subst e3
    refine ⟨_, ?_, f1, rfl⟩
    show F_X3_sum_2_B10 z (I32 cl) (some (hSz h)) _ (I32 29791) _ = _
    unfold F_X3_sum_2_B10
    rw [if_pos (show (29791 : Int32) ≤ I32 29791 from Int32.le_refl _), lin_T]) ⟨rfl, rfl, fun _ => 0, (hset_self (hF_push_eq _ _ _)).symm⟩ (by decide)
  refine ⟨f, ?_⟩
  unfold F_X3_sum_2
  rw [v_newA (t := 0) (n := 3) (by decide) (by decide) (by decide) m, bind_some9, show zeroA 0 = (.inl fun _ => 0 : AV) from rfl, e, e2, bind_some9]
theorem q_meanBits (a1 : Int32) (I : LW B L b xs h S) (m : Rm 50000 228000 h) : ∃ res h' r S', F_X1_meanBits B a1 h = some (res, h') ∧ P_X4_meanBits a1 S = some (r, S') ∧ QO "java/lang/IllegalArgumentException" "java/util/NoSuchElementException" True h h' S S' res (fun v => v = r) := by
  obtain ⟨dk, kv, hi, tx, st, al, sh, z0, C, D, ⟨bb, d0, Z0, r0⟩, s1, s2, s3, G⟩ := I.2.2.2.2.1.parts
  have o := I.2.1
  have f := isClock_fl a1
  have le := T3_le (Zs (S.1 0) 0) none
  unfold F_X1_meanBits P_X4_meanBits
  rw [isClock_in]
  by_cases p : isC 2 a1
  · obtain ⟨ff, e⟩ := f_moments I (m.mono (by decide) (by decide))
    have g1 : Gr (fun a => a < hSz h) 1 3 h (hC h ff) := arr_ok o ff
    have m1 := m.gr g1 (by decide) (by decide)
    rw [arg_t f p, thr_r, asks_t f p, pb2_s, if_neg (fun z => (fl_0 f).mp z p), v_isO C, bind_some9, e, b2_s, m_moments (S := setI S 8 0) (E := none) G (Or.inl ⟨by decide, rfl⟩), bind_some9, msj11, bind_some9]
    obtain ⟨n, hn⟩ : ∃ n, n = T3 (cw (Zs (S.1 0) 0) none) := ⟨_, rfl⟩
    have e0 : (setI S 8 0).1 0 = S.1 0 := rfl
    rw [e0, ← hn]
    rw [← hn] at le
    obtain ⟨c, hc, rfl⟩ := p
    have pi : ∀ x, piI (MSJ (setI S 8 0) n (T3 (w2 (Zs (S.1 0) 0) none (I32 c)))) 8 x = some (setI (MSJ (setI S 8 0) n (T3 (w2 (Zs (S.1 0) 0) none (I32 c)))) 8 x) := fun x => rfl
    have sm : ∀ x, SM S (setI (MSJ (setI S 8 0) n (T3 (w2 (Zs (S.1 0) 0) none (I32 c)))) 8 x) := fun x => (smC S 0 _ _).tr (SMi _ _)
    have p11 : ∀ x, pgI (setI (MSJ (setI S 8 0) n (T3 (w2 (Zs (S.1 0) 0) none (I32 c)))) 8 x) 11 = some (I32 n) := fun x => by
      show some ((setI (MSJ (setI S 8 0) n (T3 (w2 (Zs (S.1 0) 0) none (I32 c)))) 8 x).2.1 11) = _
      rw [setI_ne _ _ (by decide)]
      exact msj11 _ _ _
    rw [pi, bind_some9, p11, bind_some9]
    by_cases z : n = 0
    · rw [if_pos ((i32le0 (by omega)).mpr z), such_f rfl (m1.mono (by decide) (by decide)), thr_l, if_pos ((i32z (by omega)).mpr z), if_pos ((i32z (by omega)).mpr z)]
      exact ⟨_, _, _, _, rfl, rfl, QO.bad2 ((g1.tr ((Gr.skip (P := fun a => a < hSz (hC h ff)) g1.ok 6 (Nat.lt_irrefl _)).sub (fun a (q : a < hSz h) => Nat.lt_of_lt_of_le q g1.2.2.2.1))).mono (by decide) (by decide)) (sm _) (setI_get _ _ _)⟩
    · have nz : ¬ I32 n = 0 := fun q => z ((i32z (by omega)).mp q)
      have Z1 := Z0.gr g1 (o.lt Z0.1) (o.lt Z0.2.1)
      obtain ⟨f2, e2⟩ := z_sum (cl := c) (by omega) g1.ok Z1 r0 (m1.mono (by decide) (by decide))
      have g2 : Gr (fun a => a < hSz (hC h ff)) 1 3 (hC h ff) (hC (hC h ff) f2) := arr_ok g1.ok f2
      obtain ⟨w, ew⟩ := dbits_s (FP.ddiv (FP.l2d (Int64.ofNat (T3 (w2 (Zs (S.1 0) 0) none (I32 c))))) (FP.i2d (I32 n))) (hC (hC h ff) f2)
      rw [if_neg (fun q => z ((i32le0 (by omega)).mp q)), such_t (by decide), thr_r, v_getR (show hF (hC h ff) B = some (.inr (0, [.ref dk, kv, .ref hi, .ref tx])) by rw [g1.2.1 B (o.lt C)]; exact C) rfl, bind_some9, v_getR (show hF (hC h ff) dk = some (.inr (2, [.ref st, .ref al, .ref sh, .ref z0, .int (S.1 0 193)])) by rw [g1.2.1 dk (o.lt D.1)]; exact D.1) rfl, bind_some9, v_isO Z1.1, bind_some9, e2, b2_s, mean_ok _ (by omega) (by omega), bind_some9, ew, bind_some9]
      rw [if_neg nz, if_neg nz]
      show ∃ res h' r S', _ ∧ (Option.bind (some (Int64.ofNat (T3 (w2 (Zs (S.1 0) 0) none (I32 c))))) _) = _ ∧ _
      rw [bind_some9, bind_some9, mean_ok _ (by omega) (by omega), bind_some9, dbits _ hNil (hC (hC h ff) f2), ew, bind_some9]
      exact ⟨_, _, _, _, rfl, rfl, QO.ok ((g1.tr (g2.sub (fun a (q : a < hSz h) => Nat.lt_of_lt_of_le q g1.2.2.2.1))).mono (by decide) (by decide)) (sm _) (setI_get _ _ _) rfl⟩
  · rw [arg_f f p (m.mono (by decide) (by decide)), thr_l, asks_f f p, pb2_s, if_pos ((fl_0 f).mpr p)]
    exact ⟨_, _, _, _, rfl, rfl, QO.bad1 I⟩
end Q9
