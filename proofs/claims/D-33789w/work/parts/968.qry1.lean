/-! queries: what they leave, and the simple ones -/
def XQ0 : Nat := 50000
def QO {α : Type} (e1 e2 : String) (ok2 : Prop) (h h' : HH) (S S' : MS) (res : (Nat × String) ⊕ α) (P : α → Prop) : Prop := Gr (fun a => a < hSz h) 50000 228000 h h' ∧ SM S S' ∧ ((S'.2.1 8 = 1 ∧ ∃ q, res = .inl (q, e1)) ∨ (ok2 ∧ S'.2.1 8 = 2 ∧ ∃ q, res = .inl (q, e2)) ∨ (S'.2.1 8 = 0 ∧ ∃ v, res = .inr v ∧ P v))
section Q1
variable {B L b : Nat} {xs : Nat → Int32} {h h' : HH} {S S' : MS}
theorem XR_of (I : LW B L b xs h S) {k : Int32} (hk : k ≠ 0) (g : Gr (fun a => a < hSz h) 50000 228000 h h') (sm : SM S S') (h8 : S'.2.1 8 = k) (x : Int64) : XR B h h' S' k x := by
  obtain ⟨e, o, z, st, R, hpu, ⟨g0, hg0⟩, sc, hb⟩ := id I
  have kx : KeepX XC h h' := KeepX.gr o g
  exact out_ex hk (Nat.le_refl _) (Nat.le_refl _) (g.sub (fun a w => w.elim)) kx (R.gr o g sm) h8 (kx.2.1 _ _ hg0 xc_out) x
theorem q_done {α : Type} {e1 e2 : String} {ok2 : Prop} {res : (Nat × String) ⊕ α} {P : α → Prop} (I : LW B L b xs h S) {F1 : Option (((Nat × String) ⊕ α) × HH)} (E : F1 = some (res, h')) (Q : QO e1 e2 ok2 h h' S S' res P) (A : Nat × String → HH → Option (Int32 × HH)) (h1 : ∀ q, A (q, e1) h' = some ((1 : Int32), h')) (h2 : ok2 → ∀ q, A (q, e2) h' = some ((2 : Int32), h')) (val : α → Int64) {x : Int64} (hx : ∀ v, P v → val v = x) : ∃ k h'', thr F1 A (fun v h2 => Option.bind (astJ h2 (some (B + 24)) (0 : Int32) (val v)) fun h6 => some ((0 : Int32), h6)) = some (k, h'') ∧ XR B h h'' S' k x := by
  obtain ⟨e, o, z, st, R, hpu, ⟨g0, hg0⟩, sc, hb⟩ := id I
  obtain ⟨g, sm, c⟩ := Q
  rw [E]
  rcases c with ⟨h8, q, rfl⟩ | ⟨k2, h8, q, rfl⟩ | ⟨h8, v, rfl, hv⟩
  · exact ⟨1, h', h1 q, XR_of I (by decide) g sm h8 x⟩
  · exact ⟨2, h', h2 k2 q, XR_of I (by decide) g sm h8 x⟩
  · have kx : KeepX XC h h' := KeepX.gr o g
    obtain ⟨h3, e3, xr⟩ := out_put e o (Nat.le_refl _) (Nat.le_refl _) (g.sub (P' := fun _ => False) (fun a w => w.elim)) kx (R.gr o g sm) h8 (kx.2.1 _ _ hg0 xc_out) (val v)
    rw [hx v hv] at xr
    refine ⟨0, h3, ?_, xr⟩
    show Option.bind (astJ h' (some (B + 24)) 0 _) _ = _
    rw [e3, bind_some9]
theorem xq_of (I : LW B L b xs h S) (g : Gr (fun a => a < hSz h) 50000 228000 h h') (sm : SM S S') : XQ B h h' S' := ⟨g.sub (fun a w => w.elim), KeepX.gr I.2.1 g, I.2.2.2.2.1.gr I.2.1 g sm⟩
theorem m_asks {a : Int32} {P : Prop} (f : fl a P) (S : MS) : P_X4_asks a S = some (a, setI S 8 (if a = 0 then (1 : Int32) else (0 : Int32))) := by
  unfold P_X4_asks
  show Option.bind (some (setI S 8 _)) _ = _
  rw [bind_some9, fl_okZ f, bind_some9]
theorem asks_t {a : Int32} {P : Prop} (f : fl a P) (p : P) (S : MS) : P_X4_asks a S = some (a, setI S 8 0) := by
  rw [m_asks f, if_neg (fun z => (fl_0 f).mp z p)]
theorem asks_f {a : Int32} {P : Prop} (f : fl a P) (p : ¬ P) (S : MS) : P_X4_asks a S = some (a, setI S 8 1) := by
  rw [m_asks f, if_pos ((fl_0 f).mpr p)]
theorem arg_t {c : Int32} {h : HH} {P : Prop} (f : fl c P) (p : P) : F_X1_needArgument c h = some (.inr (), h) := by
  unfold F_X1_needArgument
  rw [if_neg (fun z => (fl_0 f).mp z p)]
theorem arg_f {c : Int32} {h : HH} {P : Prop} (f : fl c P) (p : ¬ P) (m : Rm 1 6 h) : F_X1_needArgument c h = some (.inl (hSz h, "java/lang/IllegalArgumentException"), hskip h 6) := by
  unfold F_X1_needArgument
  rw [if_pos ((fl_0 f).mpr p), v_newE m, bind_some9]
theorem such_t {c : Int32} {h : HH} (p : c ≠ 0) : F_X1_needSuch c h = some (.inr (), h) := by
  unfold F_X1_needSuch
  rw [if_neg p]
theorem such_f {c : Int32} {h : HH} (p : c = 0) (m : Rm 1 6 h) : F_X1_needSuch c h = some (.inl (hSz h, "java/util/NoSuchElementException"), hskip h 6) := by
  unfold F_X1_needSuch
  rw [if_pos p, v_newE m, bind_some9]
theorem there_t {c : Int32} {h : HH} (p : c ≠ 9999) : F_X1_there c h = some (.inr c, h) := by
  unfold F_X1_there
  rw [if_neg p, such_t (by decide), thr_r]
theorem there_f {h : HH} (m : Rm 1 6 h) : F_X1_there (9999 : Int32) h = some (.inl (hSz h, "java/util/NoSuchElementException"), hskip h 6) := by
  unfold F_X1_there
  rw [if_pos rfl, such_f rfl m, thr_l]
theorem SM.a9 (S : MS) (t : ZS) : SM S (setA S 9 t) := ⟨fun _ _ => by rw [setA_ne _ _ (by decide)], setA_ne _ _ (by decide), setA_ne _ _ (by decide), setA_ne _ _ (by decide), rfl, rfl, rfl⟩
theorem SM.a10 (S : MS) (t : ZS) : SM S (setA S 10 t) := ⟨fun _ _ => by rw [setA_ne _ _ (by decide)], setA_ne _ _ (by decide), setA_ne _ _ (by decide), setA_ne _ _ (by decide), rfl, rfl, rfl⟩
theorem rep2 {x y : Int32} {a : Option Int} (h1 : rep1 9999 x a) (h2 : rep1 100000 y a) : (x = 9999 ∧ y = 100000) ∨ (x ≠ 9999 ∧ y ≠ 100000 ∧ x = y) := by
  cases a with
  | none => exact Or.inl ⟨h1, h2⟩
  | some t => exact Or.inr ⟨rep1_ne n9 h1, rep1_ne n5 h2, Int32.toInt_inj.mp (h1.1.trans h2.1.symm)⟩
/-- the component's desk and zone -/
theorem CX.parts {B : Nat} (R : CX h B S) : ∃ dk kv hi tx st al sh z0, hF h B = some (.inr (0, [.ref dk, kv, .ref hi, .ref tx])) ∧ DC h dk st al sh z0 (S.1 0 193) ∧ ZR h z0 (Zs (S.1 0) 0) ∧ StR 0 h st (S.1 0) ∧ ShR 0 h sh (S.1 0) ∧ LiR 0 h al (S.1 0) ∧ GoodS (S.1 0) := by
  obtain ⟨dk, kv, hi, tx, C, hb, ⟨st, al, sh, z0, D, _, Z, s1, s2, s3⟩, G, _⟩ := R
  exact ⟨dk, kv, hi, tx, st, al, sh, z0, C, D, Z, s1, s2, s3, G⟩
theorem gz_at {s : Nat → Int32} (G : GoodS s) {i : Nat} (hi : i < 16) : rep1 100000 (s i) (Zs s 0 i) := by
  have := G.1 i hi
  unfold sub at this
  rwa [Nat.zero_add] at this
/-- the tightened zone, or the exception -/
theorem t_one (I : LW B L b xs h S) (m : Rm 10 60 h) : ∃ d1, rep 9999 d1 (otl (Zs (S.1 0) 0) 4) ∧ Gr (fun a => a < hSz h) 2 17 h (mkZ h d1) ∧ ZA (mkZ h d1) (hSz h) (hSz h + 1) d1 ∧ ((nn (otl (Zs (S.1 0) 0) 4) ∧ F_X1_tightOne B h = some (.inr (some (hSz h)), mkZ h d1)) ∨ (¬ nn (otl (Zs (S.1 0) 0) 4) ∧ F_X1_tightOne B h = some (.inl (hSz (mkZ h d1), "java/util/NoSuchElementException"), hskip (mkZ h d1) 6) ∧ Gr (fun a => a < hSz h) 3 23 h (hskip (mkZ h d1) 6))) := by
  obtain ⟨e, o, z, st, R, _⟩ := id I
  obtain ⟨dk, kv, hi, tx, st, al, sh, z0, C, D, ⟨bb, d0, Z0, r0⟩, s1, s2, s3, G⟩ := R.parts
  have r1 : rep 9999 (gtl 9999 d0 4) (otl (Zs (S.1 0) 0) 4) := G.2.1.toEC.rep n9 r0
  have g1 : Gr (fun a => a < hSz h) 2 17 h (mkZ h (gtl 9999 d0 4)) := mkZ_gr o _ (fun a q => q)
  have Z1 := mkZ_ZA o (gtl 9999 d0 4)
  obtain ⟨v, ev, fv⟩ := z_hasNone Z1 r1
  refine ⟨_, r1, g1, Z1, ?_⟩
  unfold F_X1_tightOne
  rw [v_getR C rfl, bind_some9, v_getR D.1 rfl, bind_some9, v_isO Z0.1, bind_some9, z_tight o Z0 (m.mono (by decide) (by decide)), b2_s, v_isO Z1.1, bind_some9, ev, bind_some9]
  by_cases hn : nn (otl (Zs (S.1 0) 0) 4)
  · refine Or.inl ⟨hn, ?_⟩
    rw [if_pos ((fl_0 fv).mpr (fun q => q hn)), such_t (by decide), thr_r]
  · have m1 : Rm 1 6 (mkZ h (gtl 9999 d0 4)) := (m.gr g1 (by decide) (by decide)).mono (by decide) (by decide)
    refine Or.inr ⟨hn, ?_, (g1.tr ((Gr.skip (P := fun a => a < hSz (mkZ h (gtl 9999 d0 4))) g1.ok 6 (Nat.lt_irrefl _)).sub (fun a (q : a < hSz h) => Nat.lt_of_lt_of_le q g1.2.2.2.1))).mono (by decide) (by decide)⟩
    rw [if_neg (fun q => (fl_0 fv).mp q hn), such_f rfl m1, thr_l]
theorem exG (I : LW B L b xs h S) : Gr (fun a => a < hSz h) 50000 228000 h (hskip h 6) := (Gr.skip (P := fun a => a < hSz h) I.2.1 6 (Nat.lt_irrefl _)).mono (by decide) (by decide)
theorem SMi (S : MS) (x : Int32) : SM S (setI S 8 x) := SM.seti S x
theorem q_told (a1 a2 : Int32) (I : LW B L b xs h S) (m : Rm 50000 228000 h) : ∃ res h' r S', F_X1_told B a1 a2 h = some (res, h') ∧ P_X4_told a1 a2 S = some (r, S') ∧ QO "java/lang/IllegalArgumentException" "java/util/NoSuchElementException" True h h' S S' res (fun v => v = r) := by
  obtain ⟨dk, kv, hi, tx, st, al, sh, z0, C, D, ⟨bb, d0, Z0, r0⟩, s1, s2, s3, G⟩ := I.2.2.2.2.1.parts
  have f := arePair_fl a1 a2
  unfold F_X1_told P_X4_told
  rw [arePair_in]
  by_cases p : isP a1 a2
  · rw [arg_t f p, thr_r, asks_t f p, pb2_s, if_neg (fun z => (fl_0 f).mp z p)]
    obtain ⟨i, j, hi', hj, hij, rfl, rfl⟩ := p
    rw [v_getR C rfl, bind_some9, v_getR D.1 rfl, bind_some9, v_isO Z0.1, bind_some9, z_at hi' hj Z0, bind_some9]
    have ri : rd (setI S 8 0) 0 (((0 : Int32) + ((4 : Int32) * I32 i)) + I32 j) = some (S.1 0 (4 * i + j)) := rd_i (ix04 hi' hj (by decide))
    unfold P_X4_bound
    rw [ri, bind_some9]
    rcases rep2 (r0 (4 * i + j) (by omega)) (gz_at G (i := 4 * i + j) (by omega)) with ⟨q1, q2⟩ | ⟨q1, q2, q3⟩
    · rw [q1, q2, there_f (m.mono (by decide) (by decide)), thr_l, if_pos rfl, m_fails, pb2_s, pb2_s]
      exact ⟨_, _, _, _, rfl, rfl, exG I, (SMi S _).tr (SMi _ _), Or.inr (Or.inl ⟨True.intro, setI_get _ _ _, _, rfl⟩)⟩
    · rw [there_t q1, thr_r, if_neg q2, bind_some9, pb2_s]
      exact ⟨_, _, _, _, rfl, rfl, (Gr.rf I.2.1).mono (by decide) (by decide), SMi S _, Or.inr (Or.inr ⟨setI_get _ _ _, _, rfl, q3⟩)⟩
  · rw [arg_f f p (m.mono (by decide) (by decide)), thr_l, asks_f f p, pb2_s, if_pos ((fl_0 f).mpr p)]
    exact ⟨_, _, _, _, rfl, rfl, exG I, SMi S _, Or.inl ⟨setI_get _ _ _, _, rfl⟩⟩
end Q1
