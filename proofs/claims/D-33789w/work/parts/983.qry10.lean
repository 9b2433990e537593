/-! keep, longestDelay -/
section Q10
variable {B L b : Nat} {xs : Nat → Int32} {h h' : HH} {S S' : MS}
theorem x_keep (I : LW B L b xs h S) (m : Rm 50000 228000 h) : ∃ v h' S', F_X1_keep B h = some (v, h') ∧ P_X4_keep S = some (v, S') ∧ XQ B h h' S' := by
  obtain ⟨e, o, z, st, R, _⟩ := id I
  obtain ⟨dk, kv, hi, tx, C, hb, ⟨st, al, sh, z0, D, d3, Zr, dr⟩, G, K, H, T⟩ := id R
  obtain ⟨bb, d0, Z0, r0⟩ := id Zr
  obtain ⟨h2, e2⟩ : ∃ h2, h2 = hset h B (.inr (0, [.ref dk, .ref dk, .ref hi, .ref tx])) := ⟨_, rfl⟩
  have C2 : hF h2 B = some (.inr (0, [.ref dk, .ref dk, .ref hi, .ref tx])) := by rw [e2]; exact hF_set_eq _ _ _
  have g2 : Gr (fun a => a < hSz h ∧ a ≠ B) 0 0 h h2 := by rw [e2]; exact Gr.set o C (fun z => z.2 rfl)
  have kx : KeepX (fun k => k = (0, 0)) h h2 := KeepX.one o g2 C C2 rfl rfl
  have nD : noD (fun k => k = (0, 0)) := ⟨by decide, by decide, by decide, by decide, by decide, by decide, fun n _ z => (by cases z), by decide, by decide⟩
  obtain ⟨S1, e1⟩ : ∃ S1, S1 = setI (setI S 8 0) 3 1 := ⟨_, rfl⟩
  obtain ⟨S2, eS⟩ : ∃ S2, S2 = mov S1 0 0 2 0 194 := ⟨_, rfl⟩
  have s10 : S1.1 = S.1 := by rw [e1]; rfl
  have s20 : S2.1 0 = S.1 0 := by rw [eS]; unfold mov; rw [setA_ne _ _ (by decide), s10]
  have s24 : S2.1 4 = S.1 4 := by rw [eS]; unfold mov; rw [setA_ne _ _ (by decide), s10]
  have s26 : S2.1 6 = S.1 6 := by rw [eS]; unfold mov; rw [setA_ne _ _ (by decide), s10]
  have s22 : ∀ i, i < 194 → S2.1 2 i = S.1 0 i := fun i hi => by
    rw [eS]
    unfold mov
    rw [setA_get, if_pos (by omega), s10, Nat.sub_zero, Nat.zero_add]
  have i3 : S2.2.1 3 = 1 := by rw [eS, e1]; exact setI_get _ _ _
  have i5 : S2.2.1 5 = S.2.1 5 := by rw [eS, e1]; show (setI (setI S 8 0) 3 1).2.1 5 = _; rw [setI_ne _ _ (by decide), setI_ne _ _ (by decide)]
  have i7 : S2.2.1 7 = S.2.1 7 := by rw [eS, e1]; show (setI (setI S 8 0) 3 1).2.1 7 = _; rw [setI_ne _ _ (by decide), setI_ne _ _ (by decide)]
  have Dd : DR 0 h dk (S.1 0) := ⟨st, al, sh, z0, D, d3, Zr, dr⟩
  have R2 : CX h2 B S2 := ⟨dk, .ref dk, hi, tx, C2, by rw [g2.b]; exact hb, Dd.keepX kx nD (fun i _ => by rw [s20]), by rw [s20]; exact G, Or.inr ⟨i3, dk, rfl, Dd.keepX kx nD s22, G.congr s22⟩, H.keepX kx nD (by decide) (by decide) s24 i5, T.keepX kx (by decide) (fun n z => by cases z) s26 i7⟩
  have Z2 : ZA h2 z0 bb d0 := Z0.gr g2 ⟨o.lt Z0.1, fun q => by have := Z0.1; rw [q, C] at this; cases this⟩ ⟨o.lt Z0.2.1, fun q => by have := Z0.2.1; rw [q, C] at this; cases this⟩
  have D2 : hF h2 dk = some (.inr (2, [.ref st, .ref al, .ref sh, .ref z0, .int (S.1 0 193)])) := by rw [g2.2.1 dk ⟨o.lt D.1, fun q => by have := D.1; rw [q, C] at this; cases this⟩]; exact D.1
  obtain ⟨f, ef⟩ := z_count (a1 := none) (E := none) g2.ok Z2 r0 (Or.inl ⟨rfl, rfl⟩) ((m.gr g2 (by decide) (by decide)).mono (by decide) (by decide))
  have gc : Gr (fun a => a < hSz h2) 50000 228000 h2 (hC h2 f) := gC g2.ok f
  have kc : KeepX (fun k => k = (0, 0)) h2 (hC h2 f) := KeepX.gr g2.ok gc
  have gc1 : Gr (fun a => a < hSz h2) 1 3 h2 (hC h2 f) := arr_ok g2.ok f
  refine ⟨I32 (T3 (cw (Zs (S.1 0) 0) none)), hC h2 f, MSJ S2 (T3 (cw (Zs (S.1 0) 0) none)) (T3 (w2 (Zs (S.1 0) 0) none 0)), ?_, ?_, ((g2.sub (P' := fun _ => False) (fun a w => w.elim)).tr (gc1.sub (fun a w => w.elim))).mono (by decide) (by decide), ⟨kc.1.trans kx.1, fun a ec ha hx => kc.2.1 a ec (kx.2.1 a ec ha (fun z => hx (Or.inl z))) (fun z => hx (Or.inl z)), fun a cc fs ha => (kx.2.2 a cc fs ha).elim fun fs' q => kc.2.2 a cc fs' q⟩, R2.gr g2.ok gc (SM.msj _ _ _)⟩
  · unfold F_X1_keep F_X1_moments
    have eP : putV h 0 1 (some B) (va_rf (some dk)) = some h2 := by
      rw [e2]
      exact v_putV C (show (1 : Nat) < 4 by decide) (by omega)
    rw [v_getR C rfl, bind_some9, eP, bind_some9, v_isO C2, bind_some9, v_getR C2 rfl, bind_some9, v_getR D2 rfl, bind_some9, v_isO Z2.1, bind_some9, ef, b2_s, b2_s]
    rfl
  · unfold P_X4_keep
    show Option.bind (some (setI S 8 0)) _ = _
    rw [bind_some9]
    show Option.bind (some (setI (setI S 8 0) 3 1)) _ = _
    rw [bind_some9, ← e1, m_copies (K := 0) (K' := 2) (o := 0) (o' := 0) (a := (0 : Int32)) (b := (0 : Int32)) S1 rfl rfl (by decide) (by decide) (by decide) (by decide) (by decide), bind_some9, ← eS, m_count (S := S2) (by rw [s20]; exact G), pb2_s, s20]
def U (D : OD) (A : Nat → Int) (t : Int) : Prop := sat D (fun i => if i = 3 then 0 else A i + t)
theorem U_up {D : OD} {A : Nat → Int} {t t' : Int} (u : U D A t) (le : t ≤ t') (hu : ∀ c, c < 3 → ∀ s, D (4 * c + 3) = some s → A c + t' ≤ s) : U D A t' := fun i hi j hj s hs => by
  have q := u i hi j hj s hs
  by_cases i3 : i = 3
  · by_cases j3 : j = 3
    · simp only [i3, j3, if_true] at q ⊢
      omega
    · simp only [i3, j3, if_true, if_false] at q ⊢
      omega
  · by_cases j3 : j = 3
    · subst j3
      have := hu i (by omega) s hs
      simp only [i3, if_true, if_false]
      omega
    · simp only [i3, j3, if_false] at q ⊢
      omega
theorem U_le {D : OD} {A : Nat → Int} {t : Int} (u : U D A t) {c : Nat} (hc : c < 3) {s : Int} (hs : D (4 * c + 3) = some s) : A c + t ≤ s := by
  have q := u c (by omega) 3 (by decide) s hs
  simp only [if_true] at q
  rw [if_neg (by omega)] at q
  omega
theorem add_t {x y : Int32} (h1 : -1000000 ≤ x.toInt ∧ x.toInt ≤ 1000000) (h2 : -1000000 ≤ y.toInt ∧ y.toInt ≤ 1000000) : (x + y).toInt = x.toInt + y.toInt := by
  rw [Int32.toInt_add]
  exact Int.bmod_eq_of_le (by omega) (by omega)
def A3 (a1 a2 a3 : Int32) : Nat → Int := fun c => if c = 0 then a1.toInt else if c = 1 then a2.toInt else a3.toInt
theorem U_yv {D : OD} {a1 a2 a3 w : Int32} (p : isM a1 ∧ isM a2 ∧ isM a3) (hw : -1000000 ≤ w.toInt ∧ w.toInt ≤ 1000000) {f : Nat → Int32} (hf : f 0 = a1 + w ∧ f 1 = a2 + w ∧ f 2 = a3 + w) : sat D (yv f) ↔ U D (A3 a1 a2 a3) w.toInt := by
  have e0 : (0 : Int32).toInt = 0 := by decide
  have e9 : (999 : Int32).toInt = 999 := by decide
  unfold isM at p
  rw [e0, e9] at p
  refine sat_cg (fun i hi => ?_)
  unfold yv A3
  rcases or4 hi with rfl | rfl | rfl | rfl
  · show (f 0).toInt = a1.toInt + w.toInt
    rw [hf.1, add_t (by omega) hw]
  · show (f 1).toInt = a2.toInt + w.toInt
    rw [hf.2.1, add_t (by omega) hw]
  · show (f 2).toInt = a3.toInt + w.toInt
    rw [hf.2.2, add_t (by omega) hw]
  · rfl
theorem f_mostTold {D : OD} (C : ∃ dk kv hi tx st al sh z0 bb d0, ∃ w : Int32, hF h B = some (.inr (0, [.ref dk, kv, .ref hi, .ref tx])) ∧ hF h dk = some (.inr (2, [.ref st, .ref al, .ref sh, .ref z0, .int w])) ∧ ZA h z0 bb d0 ∧ rep 9999 d0 D) (hD : ∀ i, i < 16 → ∀ t, D i = some t → -30 ≤ t ∧ t ≤ 999) : ∃ n, F_X1_mostTold B h = some (I32 n) ∧ 999 ≤ n ∧ n ≤ 1000 ∧ ∀ c, c < 3 → ∀ t, D (4 * c + 3) = some t → t + 1 ≤ (n : Int) := by
  obtain ⟨dk, kv, hi, tx, st, al, sh, z0, bb, d0, w, C, Dd, Z0, r0⟩ := C
  obtain ⟨v, e, n, e2, n1, n2, hn⟩ := lp_inv0 (B := fun z => F_X1_mostTold_B6 B z.1 z.2 h) (Q := fun v => ∃ n, v = I32 n ∧ 999 ≤ n ∧ n ≤ 1000 ∧ ∀ c, c < 3 → ∀ t, D (4 * c + 3) = some t → t + 1 ≤ (n : Int)) (fuel := 100000) (x := ((999 : Int32), (0 : Int32))) (fun j z => z.2 = I32 j ∧ ∃ n, z.1 = I32 n ∧ 999 ≤ n ∧ n ≤ 1000 ∧ ∀ c, c < j → ∀ t, D (4 * c + 3) = some t → t + 1 ≤ (n : Int)) 3 (fun j hj y hy => by
    obtain ⟨x, jj⟩ := y
    obtain ⟨e1, n, e2, n1, n2, hn⟩ := hy
    have e1 : jj = I32 j := e1
    have e2 : x = I32 n := e2
    subst e1
    subst e2
    have st1 : F_X1_mostTold_B6 B (I32 n) (I32 j) h = some (.inl ((if d0 (4 * j + 3) = (9999 : Int32) then I32 n else F_J11_max (I32 n) (d0 (4 * j + 3) + (1 : Int32))), I32 (j + 1))) := by
      unfold F_X1_mostTold_B6
      rw [if_neg (nge3 hj), v_getR C rfl, bind_some9, v_getR Dd rfl, bind_some9, v_isO Z0.1, bind_some9, show F_X3_at z0 (I32 j) (3 : Int32) h = some (d0 (4 * j + 3)) from z_at (j := 3) (by omega) (by decide) Z0, bind_some9, i32s j (by omega)]
    have rj := r0 (4 * j + 3) (by omega)
    cases hDj : D (4 * j + 3) with
    | none =>
      rw [hDj] at rj
      have rj : d0 (4 * j + 3) = 9999 := rj
      rw [if_pos rj] at st1
      refine ⟨_, st1, rfl, n, rfl, n1, n2, fun c hc t ht => ?_⟩
      by_cases ec : c = j
      · rw [ec, hDj] at ht
        cases ht
      · exact hn c (by omega) t ht
    | some s =>
      rw [hDj] at rj
      have bs := hD (4 * j + 3) (by omega) s hDj
      rw [if_neg (rep1_ne n9 rj)] at st1
      have es : (d0 (4 * j + 3) + (1 : Int32)).toInt = s + 1 := by
        have e1 : (1 : Int32).toInt = 1 := by decide
        rw [add_t (by rw [rj.1]; omega) (by rw [e1]; decide), rj.1, e1]
      have en : (I32 n).toInt = (n : Int) := big_t (by omega)
      refine ⟨_, st1, rfl, ?_⟩
      unfold F_J11_max
      by_cases q : (I32 n).toInt < (d0 (4 * j + 3) + (1 : Int32)).toInt
      · have hx : (if (d0 (4 * j + 3) + (1 : Int32)) ≤ I32 n then I32 n else d0 (4 * j + 3) + (1 : Int32)) = d0 (4 * j + 3) + (1 : Int32) := if_neg (fun w => by have := Int32.le_iff_toInt_le.mp w; omega)
        refine ⟨(s + 1).toNat, ?_, by omega, by omega, fun c hc t ht => ?_⟩
        · show (if _ then _ else _) = _
          have e8 : d0 (4 * j + 3) + (1 : Int32) = I32 (s + 1).toNat := Int32.toInt_inj.mp (by rw [es, big_t (by omega)]; omega)
          first
            | rw [hx, e8]
            | (rw [if_pos (Int32.lt_iff_toInt_lt.mpr q), e8])
            | (rw [if_neg (fun w => by have := Int32.lt_iff_toInt_lt.mp w; omega), e8])
        · by_cases ec : c = j
          · rw [ec, hDj] at ht
            cases ht
            omega
          · have := hn c (by omega) t ht
            omega
      · refine ⟨n, ?_, n1, n2, fun c hc t ht => ?_⟩
        · show (if _ then _ else _) = _
          first
            | rw [if_pos (Int32.le_iff_toInt_le.mpr (by omega))]
            | (rw [if_neg (fun w => q (Int32.lt_iff_toInt_lt.mp w))])
        · by_cases ec : c = j
          · rw [ec, hDj] at ht
            cases ht
            omega
          · exact hn c (by omega) t ht) (fun y hy => by
    obtain ⟨x, jj⟩ := y
    obtain ⟨e1, hx⟩ := hy
    have e1 : jj = I32 3 := e1
    subst e1
    refine ⟨x, ?_, hx⟩
    show F_X1_mostTold_B6 B x (I32 3) h = _
    unfold F_X1_mostTold_B6
    exact if_pos (by decide)) ⟨rfl, 999, rfl, Nat.le_refl _, by decide, fun c hc => absurd hc (Nat.not_lt_zero c)⟩ (by decide)
  refine ⟨n, ?_, n1, n2, hn⟩
  unfold F_X1_mostTold
  rw [e, e2, bind_some9]
def PD (D : OD) (a1 a2 a3 : Int32) (t : Nat) : Prop := U D (A3 a1 a2 a3) (t : Int)
theorem f_delays {D : OD} {a1 a2 a3 : Int32} (p : isM a1 ∧ isM a2 ∧ isM a3) (C : ∃ dk kv hi tx st al sh z0 bb d0, ∃ w : Int32, hF h B = some (.inr (0, [.ref dk, kv, .ref hi, .ref tx])) ∧ hF h dk = some (.inr (2, [.ref st, .ref al, .ref sh, .ref z0, .int w])) ∧ ZA h z0 bb d0 ∧ rep 9999 d0 D) (o : OKH h) (m : Rm 1010 3030 h) {n : Nat} (n1 : 999 ≤ n) (n2 : n ≤ 1000) : ∃ v X, lp (fun z => F_X1_longestDelay_B33 B a1 a2 a3 (I32 n) z.1 z.2.1 z.2.2) 100000 ((-1 : Int32), (0 : Int32), h) = some (v, X) ∧ Gr (fun a => a < hSz h) 1001 3003 h X ∧ ((v = -1 ∧ ∀ t, t ≤ n → ¬ PD D a1 a2 a3 t) ∨ ∃ t, t ≤ n ∧ v = I32 t ∧ PD D a1 a2 a3 t ∧ ∀ t', t < t' → t' ≤ n → ¬ PD D a1 a2 a3 t') := by
  obtain ⟨dk, kv, hi, tx, st, al, sh, z0, bb, d0, w, C, Dd, Z0, r0⟩ := C
  obtain ⟨r, e, v, X, e2, gX, hv⟩ := lp_inv0 (B := fun z => F_X1_longestDelay_B33 B a1 a2 a3 (I32 n) z.1 z.2.1 z.2.2) (Q := fun r => ∃ v X, r = (v, X) ∧ Gr (fun a => a < hSz h) 1001 3003 h X ∧ ((v = -1 ∧ ∀ t, t ≤ n → ¬ PD D a1 a2 a3 t) ∨ ∃ t, t ≤ n ∧ v = I32 t ∧ PD D a1 a2 a3 t ∧ ∀ t', t < t' → t' ≤ n → ¬ PD D a1 a2 a3 t')) (fuel := 100000) (x := ((-1 : Int32), (0 : Int32), h)) (fun k z => z.2.1 = I32 k ∧ Gr (fun a => a < hSz h) k (3 * k) h z.2.2 ∧ ((z.1 = -1 ∧ ∀ t, t < k → ¬ PD D a1 a2 a3 t) ∨ ∃ t, t < k ∧ z.1 = I32 t ∧ PD D a1 a2 a3 t ∧ ∀ t', t < t' → t' < k → ¬ PD D a1 a2 a3 t')) (n + 1) (fun k hk y hy => by
    obtain ⟨x, kk, X⟩ := y
    obtain ⟨e1, gX, hx⟩ := hy
    have e1 : kk = I32 k := e1
    subst e1
    have gX : Gr (fun a => a < hSz h) k (3 * k) h X := gX
    obtain ⟨Y, eY⟩ : ∃ Y, Y = hpush X (.inl (0, 3, .inl (ar3 (a1 + I32 k) (a2 + I32 k) (a3 + I32 k)))) 3 := ⟨_, rfl⟩
    have gY : Gr (fun a => a < hSz X) 1 3 X Y := by rw [eY]; exact Gr.push gX.ok _ _ (Nat.lt_irrefl _)
    have gT : Gr (fun a => a < hSz h) (k + 1) (3 * k + 3) h Y := gX.tr (gY.sub (fun a (q : a < hSz h) => Nat.lt_of_lt_of_le q gX.2.2.2.1))
    have AY : hF Y (hSz X) = some (.inl (0, 3, .inl (ar3 (a1 + I32 k) (a2 + I32 k) (a3 + I32 k)))) := by rw [eY]; exact hF_push_eq _ _ _
    have tk : (I32 k).toInt = (k : Int) := big_t (by omega)
    have e0 : (0 : Int32).toInt = 0 := by decide
    have e9 : (999 : Int32).toInt = 999 := by decide
    have p' := p
    unfold isM at p'
    rw [e0, e9] at p'
    have t1 : (a1 + I32 k).toInt = a1.toInt + k := by rw [add_t (by omega) (by omega), tk]
    have t2 : (a2 + I32 k).toInt = a2.toInt + k := by rw [add_t (by omega) (by omega), tk]
    have t3 : (a3 + I32 k).toInt = a3.toInt + k := by rw [add_t (by omega) (by omega), tk]
    have ZY := Z0.gr gT (o.lt Z0.1) (o.lt Z0.2.1)
    obtain ⟨u, eu, fu⟩ := z_has ZY r0 AY (fun c hc => by
      have : c = 0 ∨ c = 1 ∨ c = 2 := by omega
      rcases this with rfl | rfl | rfl
      · show -9 ≤ (a1 + I32 k).toInt ∧ (a1 + I32 k).toInt ≤ 5000
        omega
      · show -9 ≤ (a2 + I32 k).toInt ∧ (a2 + I32 k).toInt ≤ 5000
        omega
      · show -9 ≤ (a3 + I32 k).toInt ∧ (a3 + I32 k).toInt ≤ 5000
        omega)
    have fu : fl u (PD D a1 a2 a3 k) := fl_congr fu (by
      have := U_yv (D := D) p (w := I32 k) (by omega) (f := ar3 (a1 + I32 k) (a2 + I32 k) (a3 + I32 k)) ⟨rfl, rfl, rfl⟩
      rw [tk] at this
      exact this)
    refine ⟨(if u = 0 then x else I32 k, I32 (k + 1), Y), ?_, rfl, gT, ?_⟩
    · show F_X1_longestDelay_B33 B a1 a2 a3 (I32 n) x (I32 k) X = _
      unfold F_X1_longestDelay_B33
      rw [if_neg (fun q => by have := Int32.lt_iff_toInt_lt.mp q; rw [big_t (by omega), tk] at this; omega), v_getR (show hF X B = some (.inr (0, [.ref dk, kv, .ref hi, .ref tx])) by rw [gX.2.1 B (o.lt C)]; exact C) rfl, bind_some9, v_getR (show hF X dk = some (.inr (2, [.ref st, .ref al, .ref sh, .ref z0, .int w])) by rw [gX.2.1 dk (o.lt Dd)]; exact Dd) rfl, bind_some9, mk3 gX.ok ((m.gr gX (by omega) (by omega)).mono (by omega) (by omega)), ← eY, v_isO ZY.1, bind_some9, eu, bind_some9, i32s k (by omega)]
    · show ((if u = 0 then x else I32 k) = -1 ∧ _) ∨ ∃ t, t < k + 1 ∧ (if u = 0 then x else I32 k) = I32 t ∧ _
      by_cases hp : PD D a1 a2 a3 k
      · rw [if_neg (fun q => (fl_0 fu).mp q hp)]
        exact Or.inr ⟨k, by omega, rfl, hp, fun t' h1 h2 => by omega⟩
      · rw [if_pos ((fl_0 fu).mpr hp)]
        rcases hx with ⟨q1, q2⟩ | ⟨t, q1, q2, q3, q4⟩
        · refine Or.inl ⟨q1, fun t ht => ?_⟩
          by_cases et : t = k
          · rw [et]
            exact hp
          · exact q2 t (by omega)
        · refine Or.inr ⟨t, by omega, q2, q3, fun t' h1 h2 => ?_⟩
          by_cases et : t' = k
          · rw [et]
            exact hp
          · exact q4 t' h1 (by omega)) (fun y hy => by
    obtain ⟨x, kk, X⟩ := y
    obtain ⟨e1, gX, hx⟩ := hy
    have e1 : kk = I32 (n + 1) := e1
    subst e1
    have gX : Gr (fun a => a < hSz h) (n + 1) (3 * (n + 1)) h X := gX
    refine ⟨(x, X), ?_, x, X, rfl, gX.mono (by omega) (by omega), ?_⟩
    · show F_X1_longestDelay_B33 B a1 a2 a3 (I32 n) x (I32 (n + 1)) X = _
      unfold F_X1_longestDelay_B33
      exact if_pos (Int32.lt_iff_toInt_lt.mpr (by rw [big_t (by omega), big_t (by omega)]; omega))
    · rcases hx with ⟨q1, q2⟩ | ⟨t, q1, q2, q3, q4⟩
      · exact Or.inl ⟨q1, fun t ht => q2 t (by omega)⟩
      · exact Or.inr ⟨t, by omega, q2, q3, fun t' h1 h2 => q4 t' h1 (by omega)⟩) ⟨rfl, (Gr.rf o).mono (Nat.zero_le _) (Nat.zero_le _), Or.inl ⟨rfl, fun t ht => absurd ht (Nat.not_lt_zero t)⟩⟩ (by omega)
  exact ⟨v, X, by rw [e, e2], gX, hv⟩
theorem m_least3 {a1 a2 a3 : Int32} (p : isM a1 ∧ isM a2 ∧ isM a3) (G : GoodS (S.1 0)) : ∃ w, lp (fun z => P_X4_longestDelay_B22 a1 a2 a3 z.1 z.2 S) 100000 ((100000 : Int32), (0 : Int32)) = some w ∧ ((w = 100000 ∧ ∀ c, c < 3 → Zs (S.1 0) 0 (4 * c + 3) = none) ∨ ∃ c s, c < 3 ∧ Zs (S.1 0) 0 (4 * c + 3) = some s ∧ w.toInt = s - A3 a1 a2 a3 c ∧ ∀ c' s', c' < 3 → Zs (S.1 0) 0 (4 * c' + 3) = some s' → w.toInt ≤ s' - A3 a1 a2 a3 c') := by
  have e0 : (0 : Int32).toInt = 0 := by decide
  have e9 : (999 : Int32).toInt = 999 := by decide
  unfold isM at p
  rw [e0, e9] at p
  obtain ⟨w, e, hw⟩ := lp_inv0 (B := fun z => P_X4_longestDelay_B22 a1 a2 a3 z.1 z.2 S) (Q := fun w => ((w = 100000 ∧ ∀ c, c < 3 → Zs (S.1 0) 0 (4 * c + 3) = none) ∨ ∃ c s, c < 3 ∧ Zs (S.1 0) 0 (4 * c + 3) = some s ∧ w.toInt = s - A3 a1 a2 a3 c ∧ ∀ c' s', c' < 3 → Zs (S.1 0) 0 (4 * c' + 3) = some s' → w.toInt ≤ s' - A3 a1 a2 a3 c')) (fuel := 100000) (x := ((100000 : Int32), (0 : Int32))) (fun j z => z.2 = I32 j ∧ ((z.1 = 100000 ∧ ∀ c, c < j → Zs (S.1 0) 0 (4 * c + 3) = none) ∨ ∃ c s, c < j ∧ Zs (S.1 0) 0 (4 * c + 3) = some s ∧ z.1.toInt = s - A3 a1 a2 a3 c ∧ ∀ c' s', c' < j → Zs (S.1 0) 0 (4 * c' + 3) = some s' → z.1.toInt ≤ s' - A3 a1 a2 a3 c')) 3 (fun j hj y hy => by
    obtain ⟨x, jj⟩ := y
    obtain ⟨e1, hx⟩ := hy
    have e1 : jj = I32 j := e1
    subst e1
    have hx : (x = 100000 ∧ ∀ c, c < j → Zs (S.1 0) 0 (4 * c + 3) = none) ∨ ∃ c s, c < j ∧ Zs (S.1 0) 0 (4 * c + 3) = some s ∧ x.toInt = s - A3 a1 a2 a3 c ∧ ∀ c' s', c' < j → Zs (S.1 0) 0 (4 * c' + 3) = some s' → x.toInt ≤ s' - A3 a1 a2 a3 c' := hx
    obtain ⟨y, ey⟩ : ∃ y, y = (if I32 j = 0 then a1 else (if I32 j = (1 : Int32) then a2 else a3)) := ⟨_, rfl⟩
    have ty : y.toInt = A3 a1 a2 a3 j ∧ 0 ≤ y.toInt ∧ y.toInt ≤ 999 := by
      have : j = 0 ∨ j = 1 ∨ j = 2 := by omega
      rw [ey]
      rcases this with rfl | rfl | rfl
      · exact ⟨rfl, p.1⟩
      · exact ⟨rfl, p.2.1⟩
      · exact ⟨rfl, p.2.2⟩
    have st1 : P_X4_longestDelay_B22 a1 a2 a3 x (I32 j) S = some (.inl ((if S.1 0 (4 * j + 3) = (100000 : Int32) then x else F_X4_less x (S.1 0 (4 * j + 3) - y)), I32 (j + 1))) := by
      unfold P_X4_longestDelay_B22
      rw [if_neg (nge3 hj), rd_i (show ix (((0 : Int32) + ((4 : Int32) * I32 j)) + (3 : Int32)) (4 * j + 3) (mlen 0) from ix04 (i := j) (j := 3) (by omega) (by decide) (by decide)), bind_some9, i32s j (by omega), ey]
    have rj := gz_at G (i := 4 * j + 3) (by omega)
    cases hDj : Zs (S.1 0) 0 (4 * j + 3) with
    | none =>
      rw [hDj] at rj
      have rj : S.1 0 (4 * j + 3) = 100000 := rj
      rw [if_pos rj] at st1
      refine ⟨_, st1, rfl, ?_⟩
      rcases hx with ⟨q1, q2⟩ | ⟨c, s, q1, q2, q3, q4⟩
      · refine Or.inl ⟨q1, fun c hc => ?_⟩
        by_cases ec : c = j
        · rw [ec]
          exact hDj
        · exact q2 c (by omega)
      · refine Or.inr ⟨c, s, by omega, q2, q3, fun c' s' hc hs => ?_⟩
        by_cases ec : c' = j
        · rw [ec, hDj] at hs
          cases hs
        · exact q4 c' s' (by omega) hs
    | some s =>
      rw [hDj] at rj
      have bs := G.2.1.2.2.1 (4 * j + 3) (by omega) s hDj
      rw [if_neg (rep1_ne n5 rj), less_min] at st1
      have es : (S.1 0 (4 * j + 3) - y).toInt = s - A3 a1 a2 a3 j := by rw [sub_t (by rw [rj.1]; omega) (by omega), rj.1, ty.1]
      have ys := ty.1
      refine ⟨_, st1, rfl, Or.inr ?_⟩
      show ∃ c s, c < j + 1 ∧ _ ∧ (gmin x (S.1 0 (4 * j + 3) - y)).toInt = _ ∧ ∀ c' s', c' < j + 1 → _ → (gmin x (S.1 0 (4 * j + 3) - y)).toInt ≤ _
      unfold gmin
      by_cases q : S.1 0 (4 * j + 3) - y < x
      · rw [if_pos q]
        have q' := Int32.lt_iff_toInt_lt.mp q
        refine ⟨j, s, by omega, hDj, es, fun c' s' hc hs => ?_⟩
        by_cases ec : c' = j
        · rw [ec, hDj] at hs
          cases hs
          rw [ec]
          omega
        · rcases hx with ⟨q1, q2⟩ | ⟨c, s2, q1, q2, q3, q4⟩
          · rw [q2 c' (by omega)] at hs
            cases hs
          · have := q4 c' s' (by omega) hs
            omega
      · rw [if_neg q]
        have q' : ¬ (S.1 0 (4 * j + 3) - y).toInt < x.toInt := fun w => q (Int32.lt_iff_toInt_lt.mpr w)
        rcases hx with ⟨q1, q2⟩ | ⟨c, s2, q1, q2, q3, q4⟩
        · have e5 : x.toInt = 100000 := by rw [q1]; decide
          omega
        · refine ⟨c, s2, by omega, q2, q3, fun c' s' hc hs => ?_⟩
          by_cases ec : c' = j
          · rw [ec, hDj] at hs
            cases hs
            rw [ec]
            omega
          · exact q4 c' s' (by omega) hs) (fun y hy => by
    obtain ⟨x, jj⟩ := y
    obtain ⟨e1, hx⟩ := hy
    have e1 : jj = I32 3 := e1
    subst e1
    refine ⟨x, ?_, hx⟩
    show P_X4_longestDelay_B22 a1 a2 a3 x (I32 3) S = _
    unfold P_X4_longestDelay_B22
    exact if_pos (by decide)) ⟨rfl, Or.inl ⟨rfl, fun c hc => absurd hc (Nat.not_lt_zero c)⟩⟩ (by decide)
  exact ⟨w, e, hw⟩
theorem q_longestDelay (a1 a2 a3 : Int32) (I : LW B L b xs h S) (m : Rm 50000 228000 h) : ∃ res h' r S', F_X1_longestDelay B a1 a2 a3 h = some (res, h') ∧ P_X4_longestDelay a1 a2 a3 S = some (r, S') ∧ QO "java/lang/IllegalArgumentException" "java/util/NoSuchElementException" True h h' S S' res (fun v => v = r) := by
  obtain ⟨dk, kv, hi, tx, st, al, sh, z0, C, D, ⟨bb, d0, Z0, r0⟩, s1, s2, s3, G⟩ := I.2.2.2.2.1.parts
  have o := I.2.1
  obtain ⟨h4, e4⟩ : ∃ h4, h4 = hpush h (.inl (0, 3, .inl (ar3 a1 a2 a3))) 3 := ⟨_, rfl⟩
  have g4 : Gr (fun a => a < hSz h) 1 3 h h4 := by rw [e4]; exact Gr.push o _ _ (Nat.lt_irrefl _)
  have A4 : hF h4 (hSz h) = some (.inl (0, 3, .inl (ar3 a1 a2 a3))) := by rw [e4]; exact hF_push_eq _ _ _
  obtain ⟨v, ev, fv⟩ := f_isMoment A4
  have fM := isMoment_fl a1 a2 a3
  have fv : fl v (isM a1 ∧ isM a2 ∧ isM a3) := fv
  have m4 := m.gr g4 (by decide) (by decide)
  have CD : ∃ dk kv hi tx st al sh z0 bb d0, ∃ w : Int32, hF h4 B = some (.inr (0, [.ref dk, kv, .ref hi, .ref tx])) ∧ hF h4 dk = some (.inr (2, [.ref st, .ref al, .ref sh, .ref z0, .int w])) ∧ ZA h4 z0 bb d0 ∧ rep 9999 d0 (Zs (S.1 0) 0) := ⟨dk, kv, hi, tx, st, al, sh, z0, bb, d0, S.1 0 193, by rw [g4.2.1 B (o.lt C)]; exact C, by rw [g4.2.1 dk (o.lt D.1)]; exact D.1, Z0.gr g4 (o.lt Z0.1) (o.lt Z0.2.1), r0⟩
  unfold F_X1_longestDelay P_X4_longestDelay
  rw [mk3 o (m.mono (by decide) (by decide)), ← e4, ev, bind_some9]
  by_cases p : isM a1 ∧ isM a2 ∧ isM a3
  · obtain ⟨n, en, n1, n2, hn⟩ := f_mostTold CD G.2.1.2.2.1
    obtain ⟨t9, X, eX, gX, hX⟩ := f_delays p CD g4.ok (m4.mono (by decide) (by decide)) n1 n2
    obtain ⟨w, ew, hw⟩ := m_least3 (S := setI S 8 0) p G
    have gT : Gr (fun a => a < hSz h) 1002 3006 h X := (g4.tr (gX.sub (fun a (q : a < hSz h) => Nat.lt_of_lt_of_le q g4.2.2.2.1))).mono (by decide) (by decide)
    have mX : Rm 1 6 X := (m.gr gT (by decide) (by decide)).mono (by decide) (by decide)
    have gE : Gr (fun a => a < hSz h) 50000 228000 h (hskip X 6) := (gT.tr ((Gr.skip (P := fun a => a < hSz X) gT.ok 6 (Nat.lt_irrefl _)).sub (fun a (q : a < hSz h) => Nat.lt_of_lt_of_le q gT.2.2.2.1))).mono (by decide) (by decide)
    have e0 : (0 : Int32).toInt = 0 := by decide
    have e9 : (999 : Int32).toInt = 999 := by decide
    have p' := p
    unfold isM at p'
    rw [e0, e9] at p'
    rw [arg_t fv p, thr_r, asks_t fM p, pb2_s, if_neg (fun z => (fl_0 fM).mp z p), v_isO (show hF h4 B = some (.inr (0, [.ref dk, kv, .ref hi, .ref tx])) by rw [g4.2.1 B (o.lt C)]; exact C), bind_some9, en, bind_some9, eX, bind_some9, ew, bind_some9]
    -- none on both sides
    have bad : (∀ t, t ≤ n → PD (Zs (S.1 0) 0) a1 a2 a3 t → PD (Zs (S.1 0) 0) a1 a2 a3 n) → (if t9 = (-1 : Int32) then (0 : Int32) else (if I32 n ≤ t9 then (0 : Int32) else (1 : Int32))) = 0 := fun hb => by
      rcases hX with ⟨q1, _⟩ | ⟨t, q1, q2, q3, q4⟩
      · rw [if_pos q1]
      · have : t = n := Classical.byContradiction fun ne => q4 n (by omega) (Nat.le_refl _) (hb t q1 q3)
        rw [q2, this]
        by_cases z : I32 n = (-1 : Int32)
        · rw [if_pos z]
        · rw [if_neg z, if_pos (Int32.le_refl _)]
    have fin : ∀ R : Option (Int32 × MS), R = some (0, setI (setI S 8 0) 8 2) → (∀ t, t ≤ n → PD (Zs (S.1 0) 0) a1 a2 a3 t → PD (Zs (S.1 0) 0) a1 a2 a3 n) → ∃ res h' r S', thr (F_X1_needSuch (if t9 = (-1 : Int32) then (0 : Int32) else (if I32 n ≤ t9 then (0 : Int32) else (1 : Int32))) X) (fun q h27 => some (.inl q, h27)) (fun u28 h27 => some ((.inr t9 : (Nat × String) ⊕ Int32), h27)) = some (res, h') ∧ R = some (r, S') ∧ QO "java/lang/IllegalArgumentException" "java/util/NoSuchElementException" True h h' S S' res (fun v => v = r) := fun R hR hb => by
      rw [bad hb, such_f rfl mX, thr_l, hR]
      exact ⟨_, _, _, _, rfl, rfl, QO.bad2 gE (SM2 S _ _) (setI_get _ _ _)⟩
    rcases hw with ⟨w1, w2'⟩ | ⟨c, s, hc, hs, w1, w2'⟩
    · refine fin _ ?_ (fun t ht q => U_up q (by omega) (fun c hc s hs => by rw [show Zs (S.1 0) 0 (4 * c + 3) = none from w2' c hc] at hs; cases hs))
      rw [w1, if_pos (by decide)]
      unfold P_X4_longestDelay_T134
      rw [if_pos rfl, m_fails, pb2_s]
    · have bs := G.2.1.2.2.1 (4 * c + 3) (by omega) s hs
      have bA : 0 ≤ A3 a1 a2 a3 c ∧ A3 a1 a2 a3 c ≤ 999 := by
        unfold A3
        split
        · omega
        · split
          · omega
          · omega
      have fi := in_fl w 0 99999
      have e99 : (99999 : Int32).toInt = 99999 := by decide
      rw [e0, e99] at fi
      have none : (¬ (0 ≤ w.toInt ∧ U (Zs (S.1 0) 0) (A3 a1 a2 a3) w.toInt)) → ∀ t, t ≤ n → PD (Zs (S.1 0) 0) a1 a2 a3 t → PD (Zs (S.1 0) 0) a1 a2 a3 n := fun hN t ht q => by
        exfalso
        have le := U_le q hc hs
        exact hN ⟨by omega, U_up q (by omega) (fun c' hc' s' hs' => by have := w2' c' s' hc' hs'; omega)⟩
      by_cases hw0 : 0 ≤ w.toInt
      · have bd3 : ∀ x, x = a1 + w ∨ x = a2 + w ∨ x = a3 + w → -9 ≤ x.toInt ∧ x.toInt ≤ 5000 := fun x hx => by
          rcases hx with rfl | rfl | rfl
          · rw [add_t (by omega) (by omega)]
            omega
          · rw [add_t (by omega) (by omega)]
            omega
          · rw [add_t (by omega) (by omega)]
            omega
        obtain ⟨u, eu, fu⟩ := m_allows (S := setI S 8 0) (o := 0) (a2 := (0 : Int32)) (a3 := a1 + w) (a4 := a2 + w) (a5 := a3 + w) (D := Zs (S.1 0) 0) (fun j hj => by rw [Nat.zero_add]; exact ix0 (show j < 194 by omega) (by decide)) G.1 bd3
        have fu : fl u (U (Zs (S.1 0) 0) (A3 a1 a2 a3) w.toInt) := fl_congr fu (U_yv p (by omega) ⟨rfl, rfl, rfl⟩)
        rw [if_neg (fun q => (fl_0 fi).mp q ⟨hw0, by omega⟩), eu, bind_some9]
        by_cases hU : U (Zs (S.1 0) 0) (A3 a1 a2 a3) w.toInt
        · rw [if_neg (fun q => (fl_0 fu).mp q hU)]
          have lw : w.toInt + 1 ≤ (n : Int) := by
            have := hn c hc s hs
            omega
          have pw : PD (Zs (S.1 0) 0) a1 a2 a3 w.toInt.toNat := by
            unfold PD
            rw [show ((w.toInt.toNat : Nat) : Int) = w.toInt by omega]
            exact hU
          have hv : t9 = w := by
            rcases hX with ⟨_, q2⟩ | ⟨t, q1, q2, q3, q4⟩
            · exact absurd pw (q2 _ (by omega))
            · have le := U_le q3 hc hs
              have : t = w.toInt.toNat := Classical.byContradiction fun ne => q4 w.toInt.toNat (by omega) (by omega) pw
              rw [q2, this]
              exact Int32.toInt_inj.mp (by rw [big_t (by omega)]; omega)
          have tm : (-1 : Int32).toInt = -1 := by decide
          rw [hv]
          show ∃ res h' r S', thr (F_X1_needSuch (if w = (-1 : Int32) then (0 : Int32) else (if I32 n ≤ w then (0 : Int32) else (1 : Int32))) X) (fun q h27 => some (.inl q, h27)) (fun u28 h27 => some ((.inr w : (Nat × String) ⊕ Int32), h27)) = some (res, h') ∧ _
          rw [if_neg (show ¬ w = (-1 : Int32) from fun q => by rw [q] at hw0; omega), if_neg (show ¬ I32 n ≤ w from fun q => by have := Int32.le_iff_toInt_le.mp q; rw [big_t (by omega)] at this; omega), such_t (by decide), thr_r]
          unfold P_X4_longestDelay_T134
          rw [if_neg (by decide)]
          exact ⟨_, _, _, _, rfl, rfl, QO.ok (gT.mono (by decide) (by decide)) (SMi S _) (setI_get _ _ _) rfl⟩
        · refine fin _ ?_ (none (fun q => hU q.2))
          rw [if_pos ((fl_0 fu).mpr hU)]
          unfold P_X4_longestDelay_T134
          rw [if_pos rfl, m_fails, pb2_s]
      · refine fin _ ?_ (none (fun q => hw0 q.1))
        rw [if_pos ((fl_0 fi).mpr (fun q => hw0 q.1))]
        unfold P_X4_longestDelay_T134
        rw [if_pos rfl, m_fails, pb2_s]
  · rw [arg_f fv p (m4.mono (by decide) (by decide)), thr_l, asks_f fM p, pb2_s, if_pos ((fl_0 fM).mpr p)]
    exact ⟨_, _, _, _, rfl, rfl, (g4.tr ((Gr.skip (P := fun a => a < hSz h4) g4.ok 6 (Nat.lt_irrefl _)).sub (fun a (q : a < hSz h) => Nat.lt_of_lt_of_le q g4.2.2.2.1))).mono (by decide) (by decide), SMi S _, Or.inl ⟨setI_get _ _ _, _, rfl⟩⟩
end Q10
