/-! the acts on the zone through the law's wrappers -/
theorem v_astJ {h : HH} {a j n : Nat} {f : Nat → Int64} {i : Int32} {x : Int64} (q : hF h a = some (.inl (4, n, .inr (.inl f)))) (hi : ix i j n) (hb : hB h ≤ a) : astJ h (some a) i x = some (hset h a (.inl (4, n, .inr (.inl (vp_updL f j x))))) := by
  unfold astJ
  rw [v_aget q hi, ← hi.2.1]
  exact if_pos hb
theorem arr_put {h : HH} (o : OKH h) {n j k : Nat} {f : Nat → Int32} {i v : Int32} (hi : ix i j n) : astI (hpush h (.inl (0, n, .inl f)) k) (some (hSz h)) i v = some (hpush h (.inl (0, n, .inl (upd f j v))) k) := by
  rw [v_astI (hF_push_eq _ _ _) hi o.2, hset_push_eq]
/-- the answer laid into the array of answers -/
theorem out_put {B : Nat} {h h' : HH} {S' : MS} {g0 : Nat → Int64} (e : hB h = B) (o : OKH h) {c s : Nat} (hc : c ≤ 50000) (hs : s ≤ 228000) (g : Gr (fun _ => False) c s h h') (k : KeepX XC h h') (R : CX h' B S') (h8 : S'.2.1 8 = 0) (og : outA h' B g0) (x : Int64) : ∃ h2, astJ h' (some (B + 24)) (0 : Int32) x = some h2 ∧ XR B h h2 S' 0 x := by
  have e' : hB h' = B := (hB_of g.1).trans e
  have g2 : Gr (fun a => a < hSz h' ∧ a ≠ B + 24) 0 0 h' (hset h' (B + 24) (.inl (4, 1, .inr (.inl (vp_updL g0 0 x))))) := Gr.set g.ok og (fun z => z.2 rfl)
  have k2 : KeepX (fun k => k = (5, 1)) h' (hset h' (B + 24) (.inl (4, 1, .inr (.inl (vp_updL g0 0 x))))) := KeepX.one g.ok g2 og (hF_set_eq _ _ _) rfl rfl
  refine ⟨_, v_astJ og ⟨by decide, rfl, by decide⟩ (by omega), (g.tr (g2.sub (fun a z => z.elim))).mono (by omega) (by omega), ⟨k2.1.trans k.1, fun a ec ha hx => k2.2.1 a ec (k.2.1 a ec ha (fun z => hx (Or.inl z))) (fun z => hx (Or.inr z)), fun a cc fs ha => (k.2.2 a cc fs ha).elim fun fs' q => k2.2.2 a cc fs' q⟩, R.keepX k2 ⟨by decide, by decide, by decide, by decide, by decide, by decide, fun n _ z => (by cases z), by decide, by decide⟩ (by decide) (by decide) (by decide) (by decide) (fun n z => (by cases z)) (SM.rf S'), h8, _, hF_set_eq _ _ _, fun _ => ?_⟩
  simp [vp_updL]
/-- an exception: nothing is answered -/
theorem out_ex {B : Nat} {h h' : HH} {S' : MS} {g0 : Nat → Int64} {k : Int32} (hk : k ≠ 0) {c s : Nat} (hc : c ≤ 50000) (hs : s ≤ 228000) (g : Gr (fun _ => False) c s h h') (kx : KeepX XC h h') (R : CX h' B S') (h8 : S'.2.1 8 = k) (og : outA h' B g0) (x : Int64) : XR B h h' S' k x :=
  ⟨g.mono hc hs, ⟨kx.1, fun a ec ha hx => kx.2.1 a ec ha (fun z => hx (Or.inl z)), kx.2.2⟩, R, h8, g0, og, fun z => absurd z hk⟩
theorem xc_out : ¬ XC (5, 1) := fun h => by rcases h with h | h | h | h | ⟨_, _, h⟩ <;> cases h
theorem i32_le0 {m : Nat} (h : m ≤ 20000) : (I32 m ≤ 0) ↔ m = 0 := by
  rw [show (0 : Int32) = I32 0 from rfl, i32le h (by decide)]
  omega
theorem i32_eq0 {m : Nat} (h : m ≤ 20000) : (I32 m = 0) ↔ m = 0 := ⟨fun e => i32inj h (by decide) (show I32 m = I32 0 from e), fun e => by rw [e]; rfl⟩
theorem vr1_b {u r : Int32} (v : vr1 u r) : (if (if u ≤ 0 then (0 : Int32) else (1 : Int32)) = 0 then (0 : Int64) else (1 : Int64)) = (if (if r = (1 : Int32) then (1 : Int32) else (0 : Int32)) = 0 then (0 : Int64) else (1 : Int64)) := by
  obtain ⟨⟨m, hm, rfl⟩, rfl⟩ := v
  by_cases h : m = 0
  · subst h
    decide
  · rw [if_neg (fun q => h ((i32_le0 (by omega)).mp q)), if_neg (fun q => h ((i32_eq0 (by omega)).mp q))]
    decide
section N11
variable {S : MS} {D B : OD}
theorem mo_n11 {S S' : MS} {w v : Int32} {y x : Option (Int32 × OD)} {vr : Int32 → Int32 → Prop} (m : MOut S S' w v y) (hx : (x = none ∧ y = none) ∨ ∃ u u' K, x = some (u, K) ∧ y = some (u', K) ∧ GZ K ∧ noF u' ∧ vr u u') : v ≠ -11 := by
  rcases hx with ⟨_, rfl⟩ | ⟨u, u', K, _, rfl, _, nf, _⟩
  · have m : v = -12 := m
    rw [m]
    decide
  · have := m.1
    rw [this]
    exact nf.1
theorem n_tighten (hr : rep 100000 (sub (S.1 0) 0) D) (G : GZ D) (hb : rep 100000 (sub (S.1 1) 0) B) {v : Int32} {S' : MS} (e : P_X4_goTighten S = some (v, S')) : v ≠ -11 := by
  obtain ⟨v', S2, e2, _, mo⟩ := m_goTighten hr G hb
  rw [e] at e2
  cases e2
  by_cases h : nn (otl D 4) ∧ takeOK (otl D 4)
  · rw [if_pos (bq_t.mpr h)] at mo
    rw [mo.1]
    exact (dcnt_noF _ _).1
  · rw [bq_f.mpr h] at mo
    have mo : v = -12 := mo
    rw [mo]
    decide
theorem n_delay (hr : rep 100000 (sub (S.1 0) 0) D) (G : GZ D) {v : Int32} {S' : MS} (e : P_X4_goDelay S = some (v, S')) : v ≠ -11 := by
  obtain ⟨v', S2, e2, _, mo⟩ := m_goDelay hr G
  rw [e] at e2
  cases e2
  exact mo_n11 (vr := vrE) mo (hx_work (f := fun _ => ocnt (otl D 4) 3) (fun hn2 => ⟨EC_delay (G.Tt hn2), nn_delay (G.Tt hn2)⟩) (fun hn2 k => ⟨ocnt_noF _, rfl⟩))
theorem n_back (hr : rep 100000 (sub (S.1 0) 0) D) (G : GZ D) (hb : rep 100000 (sub (S.1 1) 0) B) {v : Int32} {S' : MS} (e : P_X4_goWayBack S = some (v, S')) : v ≠ -11 := by
  obtain ⟨v', S2, e2, _, mo⟩ := m_goWayBack hr G hb
  rw [e] at e2
  cases e2
  exact mo_n11 (vr := vrB B D) mo (hx_workB (fun hn2 => ⟨EC_back (G.Tt hn2), nn_back (G.Tt hn2)⟩) (fun k q => dcnt_congr q _ 16 (Nat.le_refl _)))
end N11
theorem beg_rep {S : MS} (G : GoodS (S.1 0)) : rep 100000 (sub ((beg S).1 1) 0) (Zs (S.1 0) 0) := fun i hi => by
  have h := G.1 i hi
  unfold sub at h ⊢
  rw [Nat.zero_add] at h ⊢
  rw [beg_1 S (by omega)]
  exact h
theorem m_only {v r : Int32} {S S' : MS} (e : P_X4_ends v S = some (r, S')) : P_X4_only v S = some (r, setI S' 8 (if S'.2.1 8 ≤ 0 then (0 : Int32) else (1 : Int32))) := by
  unfold P_X4_only
  rw [e, pb2_s]
  rfl
theorem SM.seti (S : MS) (x : Int32) : SM S (setI S 8 x) := ⟨fun _ _ => rfl, rfl, rfl, rfl, setI_ne _ _ (by decide), setI_ne _ _ (by decide), setI_ne _ _ (by decide)⟩

section X0
variable {B L b : Nat} {xs : Nat → Int32} {h : HH} {S : MS}
theorem x_tell (a1 a2 a3 : Int32) (I : LW B L b xs h S) (m : Rm 50000 228000 h) : ∃ k h' r S', F_X0_tell (some B) a1 a2 a3 (some (B + 24)) h = some (k, h') ∧ P_X4_tell a1 a2 a3 S = some (r, S') ∧ XR B h h' S' k (if r = 0 then (0 : Int64) else (1 : Int64)) := by
  obtain ⟨e, o, z, st, R, hpu, ⟨g0, hg0⟩, sc, hb⟩ := id I
  obtain ⟨dk, kv, hi, tx, C, hbx, D, G, K, H, T⟩ := id R
  have Gb : GoodS ((beg S).1 0) := by rw [beg_0 S (by decide)]; exact G
  obtain ⟨h1, eh1⟩ : ∃ h1, h1 = hpush h (.inl (0, 3, .inl (upd (upd (upd (fun _ => 0) 0 a1) 1 a2) 2 a3))) 3 := ⟨_, rfl⟩
  have g1 : Gr (fun a => a < hSz h) 1 3 h h1 := by rw [eh1]; exact Gr.push o _ _ (Nat.lt_irrefl _)
  have sz1 : hSz h < hSz h1 := by rw [eh1]; exact Nat.lt_succ_self _
  obtain ⟨v, S2, r, S3, res, h2, eg, ee, ea, gA, kA, RA, hc⟩ := act_go (x := B) (sign := 100) (args := some (hSz h)) (GO := P_X4_goTell a1 a2 a3 (beg S)) (vr := vr1) g1.ok (z.gr o g1 (Nat.le_refl _)) (R.gr o g1 (SM.rf S)) ((m.gr g1 (by decide) (by decide)).mono (by decide) (by decide)) (fun h4 o4 g4 D4 hl m4 => by
    obtain ⟨_, _, _, _, Cd, _⟩ := id D4
    rw [dn_100 Cd.1 (show hF h4 (hSz h) = some (.inl (0, 3, .inl (upd (upd (upd (fun _ => 0) 0 a1) 1 a2) 2 a3))) from by rw [g4.2.1 _ sz1, eh1]; exact hF_push_eq _ _ _) (by decide)]
    exact j_tells a1 a2 a3 o4 hl D4 Gb m4)
  have ca : hF h1 B = some (.inr (0, [.ref dk, kv, .ref hi, .ref tx])) := by rw [g1.2.1 B (o.lt C)]; exact C
  have e1 : F_X1_tell B a1 a2 a3 h = some (reMap (fun v => if v ≤ 0 then (0 : Int32) else (1 : Int32)) res, h2) := by
    unfold F_X1_tell
    rw [v_newA (t := 0) (n := 3) (by decide) (by decide) (by decide) (m.mono (by decide) (by decide)), bind_some9, show zeroA 0 = (.inl fun _ => 0 : AV) from rfl, arr_put o (show ix 0 0 3 from ⟨by decide, by decide, by decide⟩), bind_some9, arr_put o (show ix 1 1 3 from ⟨by decide, by decide, by decide⟩), bind_some9, arr_put o (show ix 2 2 3 from ⟨by decide, by decide, by decide⟩), bind_some9, ← eh1, v_isO ca, bind_some9]
    exact thr_map (fun v => if v ≤ 0 then (0 : Int32) else (1 : Int32)) ea
  have eM : P_X4_tell a1 a2 a3 S = some ((if r = (1 : Int32) then (1 : Int32) else (0 : Int32)), S3) := by
    unfold P_X4_tell
    rw [m_begins, bind_some9, eg, pb2_s, ee, pb2_s]
  have gT := (g1.sub (P' := fun _ => False) (fun a w => w.elim)).tr gA
  have kT : KeepX XC h h2 := ⟨kA.1.trans g1.1, fun a ec ha hx => kA.2.1 a ec (by rw [g1.2.1 a (o.lt ha)]; exact ha) hx, fun a cc fs ha => kA.2.2 a cc fs (by rw [g1.2.1 a (o.lt ha)]; exact ha)⟩
  have og : outA h2 B g0 := kT.2.1 _ _ hg0 xc_out
  unfold F_X0_tell
  rw [v_isO C, bind_some9, e1]
  rcases hc with ⟨_, q, rfl, h8⟩ | ⟨q, rfl, h8⟩ | ⟨u, rfl, hv, h8⟩
  · refine ⟨1, h2, _, _, ?_, eM, out_ex (by decide) (by decide) (by decide) gT kT RA h8 og _⟩
    show (if ("java/lang/IllegalArgumentException" : String) = "java/lang/IllegalArgumentException" then some ((1 : Int32), h2) else if ("java/lang/IllegalArgumentException" : String) = "java/lang/IllegalStateException" then some ((2 : Int32), h2) else none) = _
    exact if_pos rfl
  · refine ⟨2, h2, _, _, ?_, eM, out_ex (by decide) (by decide) (by decide) gT kT RA h8 og _⟩
    show (if ("java/lang/IllegalStateException" : String) = "java/lang/IllegalArgumentException" then some ((1 : Int32), h2) else if ("java/lang/IllegalStateException" : String) = "java/lang/IllegalStateException" then some ((2 : Int32), h2) else none) = _
    rw [if_neg (by decide), if_pos rfl]
  · obtain ⟨h3, e3, xr⟩ := out_put e o (by decide) (by decide) gT kT RA h8 og (if (if u ≤ 0 then (0 : Int32) else (1 : Int32)) = 0 then (0 : Int64) else (1 : Int64))
    rw [vr1_b hv] at xr
    refine ⟨0, h3, _, _, ?_, eM, xr⟩
    show Option.bind (astJ h2 (some (B + 24)) 0 _) _ = _
    rw [e3, bind_some9]
theorem x_forget (a1 a2 : Int32) (I : LW B L b xs h S) (m : Rm 50000 228000 h) : ∃ k h' r S', F_X0_forget (some B) a1 a2 (some (B + 24)) h = some (k, h') ∧ P_X4_forget a1 a2 S = some (r, S') ∧ XR B h h' S' k (if r = 0 then (0 : Int64) else (1 : Int64)) := by
  obtain ⟨e, o, z, st, R, hpu, ⟨g0, hg0⟩, sc, hb⟩ := id I
  obtain ⟨dk, kv, hi, tx, C, hbx, D, G, K, H, T⟩ := id R
  have Gb : GoodS ((beg S).1 0) := by rw [beg_0 S (by decide)]; exact G
  obtain ⟨h1, eh1⟩ : ∃ h1, h1 = hpush h (.inl (0, 2, .inl (upd (upd (fun _ => 0) 0 a1) 1 a2))) 2 := ⟨_, rfl⟩
  have g1 : Gr (fun a => a < hSz h) 1 2 h h1 := by rw [eh1]; exact Gr.push o _ _ (Nat.lt_irrefl _)
  have sz1 : hSz h < hSz h1 := by rw [eh1]; exact Nat.lt_succ_self _
  obtain ⟨v, S2, r, S3, res, h2, eg, ee, ea, gA, kA, RA, hc⟩ := act_go (x := B) (sign := 120) (args := some (hSz h)) (GO := P_X4_goForget a1 a2 (beg S)) (vr := vr1) g1.ok (z.gr o g1 (Nat.le_refl _)) (R.gr o g1 (SM.rf S)) ((m.gr g1 (by decide) (by decide)).mono (by decide) (by decide)) (fun h4 o4 g4 D4 hl m4 => by
    obtain ⟨_, _, _, _, Cd, _⟩ := id D4
    rw [dn_120 Cd.1 (show hF h4 (hSz h) = some (.inl (0, 2, .inl (upd (upd (fun _ => 0) 0 a1) 1 a2))) from by rw [g4.2.1 _ sz1, eh1]; exact hF_push_eq _ _ _) (by decide)]
    exact j_forgets a1 a2 o4 hl D4 Gb m4)
  have ca : hF h1 B = some (.inr (0, [.ref dk, kv, .ref hi, .ref tx])) := by rw [g1.2.1 B (o.lt C)]; exact C
  have e1 : F_X1_forget B a1 a2 h = some (reMap (fun v => if v ≤ 0 then (0 : Int32) else (1 : Int32)) res, h2) := by
    unfold F_X1_forget
    rw [v_newA (t := 0) (n := 2) (by decide) (by decide) (by decide) (m.mono (by decide) (by decide)), bind_some9, show zeroA 0 = (.inl fun _ => 0 : AV) from rfl, arr_put o (show ix 0 0 2 from ⟨by decide, by decide, by decide⟩), bind_some9, arr_put o (show ix 1 1 2 from ⟨by decide, by decide, by decide⟩), bind_some9, ← eh1, v_isO ca, bind_some9]
    exact thr_map (fun v => if v ≤ 0 then (0 : Int32) else (1 : Int32)) ea
  have eM : P_X4_forget a1 a2 S = some ((if r = (1 : Int32) then (1 : Int32) else (0 : Int32)), S3) := by
    unfold P_X4_forget
    rw [m_begins, bind_some9, eg, pb2_s, ee, pb2_s]
  have gT := (g1.sub (P' := fun _ => False) (fun a w => w.elim)).tr gA
  have kT : KeepX XC h h2 := ⟨kA.1.trans g1.1, fun a ec ha hx => kA.2.1 a ec (by rw [g1.2.1 a (o.lt ha)]; exact ha) hx, fun a cc fs ha => kA.2.2 a cc fs (by rw [g1.2.1 a (o.lt ha)]; exact ha)⟩
  have og : outA h2 B g0 := kT.2.1 _ _ hg0 xc_out
  unfold F_X0_forget
  rw [v_isO C, bind_some9, e1]
  rcases hc with ⟨_, q, rfl, h8⟩ | ⟨q, rfl, h8⟩ | ⟨u, rfl, hv, h8⟩
  · refine ⟨1, h2, _, _, ?_, eM, out_ex (by decide) (by decide) (by decide) gT kT RA h8 og _⟩
    show (if ("java/lang/IllegalArgumentException" : String) = "java/lang/IllegalArgumentException" then some ((1 : Int32), h2) else if ("java/lang/IllegalArgumentException" : String) = "java/lang/IllegalStateException" then some ((2 : Int32), h2) else none) = _
    exact if_pos rfl
  · refine ⟨2, h2, _, _, ?_, eM, out_ex (by decide) (by decide) (by decide) gT kT RA h8 og _⟩
    show (if ("java/lang/IllegalStateException" : String) = "java/lang/IllegalArgumentException" then some ((1 : Int32), h2) else if ("java/lang/IllegalStateException" : String) = "java/lang/IllegalStateException" then some ((2 : Int32), h2) else none) = _
    rw [if_neg (by decide), if_pos rfl]
  · obtain ⟨h3, e3, xr⟩ := out_put e o (by decide) (by decide) gT kT RA h8 og (if (if u ≤ 0 then (0 : Int32) else (1 : Int32)) = 0 then (0 : Int64) else (1 : Int64))
    rw [vr1_b hv] at xr
    refine ⟨0, h3, _, _, ?_, eM, xr⟩
    show Option.bind (astJ h2 (some (B + 24)) 0 _) _ = _
    rw [e3, bind_some9]
theorem x_tighten (I : LW B L b xs h S) (m : Rm 50000 228000 h) : ∃ k h' r S', F_X0_tighten (some B) (some (B + 24)) h = some (k, h') ∧ P_X4_tighten S = some (r, S') ∧ XR B h h' S' k r.toInt64 := by
  obtain ⟨e, o, z, st, R, hpu, ⟨g0, hg0⟩, sc, hb⟩ := id I
  obtain ⟨dk, kv, hi, tx, C, hbx, D, G, K, H, T⟩ := id R
  have Gb : GoodS ((beg S).1 0) := by rw [beg_0 S (by decide)]; exact G
  obtain ⟨h1, eh1⟩ : ∃ h1, h1 = hpush h (.inl (0, 0, .inl (fun _ => 0))) 0 := ⟨_, rfl⟩
  have g1 : Gr (fun a => a < hSz h) 1 0 h h1 := by rw [eh1]; exact Gr.push o _ _ (Nat.lt_irrefl _)
  have sz1 : hSz h < hSz h1 := by rw [eh1]; exact Nat.lt_succ_self _
  obtain ⟨v, S2, r, S3, res, h2, eg, ee, ea, gA, kA, RA, hc⟩ := act_go (x := B) (sign := 116) (args := some (hSz h)) (GO := P_X4_goTighten (beg S)) (vr := vrB (Zs (S.1 0) 0) (Zs ((beg S).1 0) 0)) g1.ok (z.gr o g1 (Nat.le_refl _)) (R.gr o g1 (SM.rf S)) ((m.gr g1 (by decide) (by decide)).mono (by decide) (by decide)) (fun h4 o4 g4 D4 hl m4 => by
    obtain ⟨_, _, _, _, Cd, _⟩ := id D4
    rw [dn_116 Cd.1 (show hF h4 (hSz h) = some (.inl (0, 0, .inl (fun _ => 0))) from by rw [g4.2.1 _ sz1, eh1]; exact hF_push_eq _ _ _) (by decide)]
    exact j_tightens o4 hl D4 Gb (beg_rep G) m4)
  have ca : hF h1 B = some (.inr (0, [.ref dk, kv, .ref hi, .ref tx])) := by rw [g1.2.1 B (o.lt C)]; exact C
  have e1 : F_X1_tighten B h = some (res, h2) := by
    unfold F_X1_tighten
    rw [v_newA (t := 0) (n := 0) (by decide) (by decide) (by decide) (m.mono (by decide) (by decide)), bind_some9, show zeroA 0 = (.inl fun _ => 0 : AV) from rfl, ← eh1, v_isO ca, bind_some9]
    exact thr_same ea
  have eM : P_X4_tighten S = some (r, setI S3 8 (if S3.2.1 8 ≤ 0 then (0 : Int32) else (1 : Int32))) := by
    unfold P_X4_tighten
    rw [m_begins, bind_some9, eg, pb2_s, m_only ee, pb2_s]
  have gT := (g1.sub (P' := fun _ => False) (fun a w => w.elim)).tr gA
  have kT : KeepX XC h h2 := ⟨kA.1.trans g1.1, fun a ec ha hx => kA.2.1 a ec (by rw [g1.2.1 a (o.lt ha)]; exact ha) hx, fun a cc fs ha => kA.2.2 a cc fs (by rw [g1.2.1 a (o.lt ha)]; exact ha)⟩
  have og : outA h2 B g0 := kT.2.1 _ _ hg0 xc_out
  unfold F_X0_tighten
  rw [v_isO C, bind_some9, e1]
  rcases hc with ⟨hv, q, rfl, h8⟩ | ⟨q, rfl, h8⟩ | ⟨u, rfl, hv, h8⟩
  · exact absurd hv (n_tighten Gb.1 Gb.2.1 (beg_rep G) eg)
  · refine ⟨1, h2, _, _, ?_, eM, out_ex (by decide) (by decide) (by decide) gT kT (RA.sm gA.ok (SM.seti _ _)) (by rw [setI_get, h8]; rfl) og _⟩
    show (if ("java/lang/IllegalStateException" : String) = "java/lang/IllegalStateException" then some ((1 : Int32), h2) else none) = _
    exact if_pos rfl
  · have hv : r = u := hv (fun i hi => by rw [beg_0 S (by decide)])
    subst hv
    obtain ⟨h3, e3, xr⟩ := out_put e o (by decide) (by decide) gT kT (RA.sm gA.ok (SM.seti S3 (if S3.2.1 8 ≤ 0 then (0 : Int32) else (1 : Int32)))) (by rw [setI_get, h8]; rfl) og r.toInt64
    refine ⟨0, h3, _, _, ?_, eM, xr⟩
    show Option.bind (astJ h2 (some (B + 24)) 0 _) _ = _
    rw [e3, bind_some9]
theorem x_reset (a1 a2 : Int32) (I : LW B L b xs h S) (m : Rm 50000 228000 h) : ∃ k h' r S', F_X0_reset (some B) a1 a2 (some (B + 24)) h = some (k, h') ∧ P_X4_reset a1 a2 S = some (r, S') ∧ XR B h h' S' k r.toInt64 := by
  obtain ⟨e, o, z, st, R, hpu, ⟨g0, hg0⟩, sc, hb⟩ := id I
  obtain ⟨dk, kv, hi, tx, C, hbx, D, G, K, H, T⟩ := id R
  have Gb : GoodS ((beg S).1 0) := by rw [beg_0 S (by decide)]; exact G
  obtain ⟨h1, eh1⟩ : ∃ h1, h1 = hpush h (.inl (0, 2, .inl (upd (upd (fun _ => 0) 0 a1) 1 a2))) 2 := ⟨_, rfl⟩
  have g1 : Gr (fun a => a < hSz h) 1 2 h h1 := by rw [eh1]; exact Gr.push o _ _ (Nat.lt_irrefl _)
  have sz1 : hSz h < hSz h1 := by rw [eh1]; exact Nat.lt_succ_self _
  obtain ⟨v, S2, r, S3, res, h2, eg, ee, ea, gA, kA, RA, hc⟩ := act_go (x := B) (sign := 114) (args := some (hSz h)) (GO := P_X4_goReset a1 a2 (beg S)) (vr := vrE) g1.ok (z.gr o g1 (Nat.le_refl _)) (R.gr o g1 (SM.rf S)) ((m.gr g1 (by decide) (by decide)).mono (by decide) (by decide)) (fun h4 o4 g4 D4 hl m4 => by
    obtain ⟨_, _, _, _, Cd, _⟩ := id D4
    rw [dn_114 Cd.1 (show hF h4 (hSz h) = some (.inl (0, 2, .inl (upd (upd (fun _ => 0) 0 a1) 1 a2))) from by rw [g4.2.1 _ sz1, eh1]; exact hF_push_eq _ _ _) (by decide)]
    exact j_resets a1 a2 o4 hl D4 Gb m4)
  have ca : hF h1 B = some (.inr (0, [.ref dk, kv, .ref hi, .ref tx])) := by rw [g1.2.1 B (o.lt C)]; exact C
  have e1 : F_X1_reset B a1 a2 h = some (res, h2) := by
    unfold F_X1_reset
    rw [v_newA (t := 0) (n := 2) (by decide) (by decide) (by decide) (m.mono (by decide) (by decide)), bind_some9, show zeroA 0 = (.inl fun _ => 0 : AV) from rfl, arr_put o (show ix 0 0 2 from ⟨by decide, by decide, by decide⟩), bind_some9, arr_put o (show ix 1 1 2 from ⟨by decide, by decide, by decide⟩), bind_some9, ← eh1, v_isO ca, bind_some9]
    exact thr_same ea
  have eM : P_X4_reset a1 a2 S = some (r, S3) := by
    unfold P_X4_reset
    rw [m_begins, bind_some9, eg, pb2_s, ee, pb2_s]
  have gT := (g1.sub (P' := fun _ => False) (fun a w => w.elim)).tr gA
  have kT : KeepX XC h h2 := ⟨kA.1.trans g1.1, fun a ec ha hx => kA.2.1 a ec (by rw [g1.2.1 a (o.lt ha)]; exact ha) hx, fun a cc fs ha => kA.2.2 a cc fs (by rw [g1.2.1 a (o.lt ha)]; exact ha)⟩
  have og : outA h2 B g0 := kT.2.1 _ _ hg0 xc_out
  unfold F_X0_reset
  rw [v_isO C, bind_some9, e1]
  rcases hc with ⟨_, q, rfl, h8⟩ | ⟨q, rfl, h8⟩ | ⟨u, rfl, hv, h8⟩
  · refine ⟨1, h2, _, _, ?_, eM, out_ex (by decide) (by decide) (by decide) gT kT RA h8 og _⟩
    show (if ("java/lang/IllegalArgumentException" : String) = "java/lang/IllegalArgumentException" then some ((1 : Int32), h2) else if ("java/lang/IllegalArgumentException" : String) = "java/lang/IllegalStateException" then some ((2 : Int32), h2) else none) = _
    exact if_pos rfl
  · refine ⟨2, h2, _, _, ?_, eM, out_ex (by decide) (by decide) (by decide) gT kT RA h8 og _⟩
    show (if ("java/lang/IllegalStateException" : String) = "java/lang/IllegalArgumentException" then some ((1 : Int32), h2) else if ("java/lang/IllegalStateException" : String) = "java/lang/IllegalStateException" then some ((2 : Int32), h2) else none) = _
    rw [if_neg (by decide), if_pos rfl]
  · have hv : r = u := hv
    subst hv
    obtain ⟨h3, e3, xr⟩ := out_put e o (by decide) (by decide) gT kT RA h8 og r.toInt64
    refine ⟨0, h3, _, _, ?_, eM, xr⟩
    show Option.bind (astJ h2 (some (B + 24)) 0 _) _ = _
    rw [e3, bind_some9]
theorem x_delay (I : LW B L b xs h S) (m : Rm 50000 228000 h) : ∃ k h' r S', F_X0_delay (some B) (some (B + 24)) h = some (k, h') ∧ P_X4_delay S = some (r, S') ∧ XR B h h' S' k r.toInt64 := by
  obtain ⟨e, o, z, st, R, hpu, ⟨g0, hg0⟩, sc, hb⟩ := id I
  obtain ⟨dk, kv, hi, tx, C, hbx, D, G, K, H, T⟩ := id R
  have Gb : GoodS ((beg S).1 0) := by rw [beg_0 S (by decide)]; exact G
  obtain ⟨h1, eh1⟩ : ∃ h1, h1 = hpush h (.inl (0, 0, .inl (fun _ => 0))) 0 := ⟨_, rfl⟩
  have g1 : Gr (fun a => a < hSz h) 1 0 h h1 := by rw [eh1]; exact Gr.push o _ _ (Nat.lt_irrefl _)
  have sz1 : hSz h < hSz h1 := by rw [eh1]; exact Nat.lt_succ_self _
  obtain ⟨v, S2, r, S3, res, h2, eg, ee, ea, gA, kA, RA, hc⟩ := act_go (x := B) (sign := 119) (args := some (hSz h)) (GO := P_X4_goDelay (beg S)) (vr := vrE) g1.ok (z.gr o g1 (Nat.le_refl _)) (R.gr o g1 (SM.rf S)) ((m.gr g1 (by decide) (by decide)).mono (by decide) (by decide)) (fun h4 o4 g4 D4 hl m4 => by
    obtain ⟨_, _, _, _, Cd, _⟩ := id D4
    rw [dn_119 Cd.1 (show hF h4 (hSz h) = some (.inl (0, 0, .inl (fun _ => 0))) from by rw [g4.2.1 _ sz1, eh1]; exact hF_push_eq _ _ _) (by decide)]
    exact j_delays o4 hl D4 Gb m4)
  have ca : hF h1 B = some (.inr (0, [.ref dk, kv, .ref hi, .ref tx])) := by rw [g1.2.1 B (o.lt C)]; exact C
  have e1 : F_X1_delay B h = some (res, h2) := by
    unfold F_X1_delay
    rw [v_newA (t := 0) (n := 0) (by decide) (by decide) (by decide) (m.mono (by decide) (by decide)), bind_some9, show zeroA 0 = (.inl fun _ => 0 : AV) from rfl, ← eh1, v_isO ca, bind_some9]
    exact thr_same ea
  have eM : P_X4_delay S = some (r, setI S3 8 (if S3.2.1 8 ≤ 0 then (0 : Int32) else (1 : Int32))) := by
    unfold P_X4_delay
    rw [m_begins, bind_some9, eg, pb2_s, m_only ee, pb2_s]
  have gT := (g1.sub (P' := fun _ => False) (fun a w => w.elim)).tr gA
  have kT : KeepX XC h h2 := ⟨kA.1.trans g1.1, fun a ec ha hx => kA.2.1 a ec (by rw [g1.2.1 a (o.lt ha)]; exact ha) hx, fun a cc fs ha => kA.2.2 a cc fs (by rw [g1.2.1 a (o.lt ha)]; exact ha)⟩
  have og : outA h2 B g0 := kT.2.1 _ _ hg0 xc_out
  unfold F_X0_delay
  rw [v_isO C, bind_some9, e1]
  rcases hc with ⟨hv, q, rfl, h8⟩ | ⟨q, rfl, h8⟩ | ⟨u, rfl, hv, h8⟩
  · exact absurd hv (n_delay Gb.1 Gb.2.1 eg)
  · refine ⟨1, h2, _, _, ?_, eM, out_ex (by decide) (by decide) (by decide) gT kT (RA.sm gA.ok (SM.seti _ _)) (by rw [setI_get, h8]; rfl) og _⟩
    show (if ("java/lang/IllegalStateException" : String) = "java/lang/IllegalStateException" then some ((1 : Int32), h2) else none) = _
    exact if_pos rfl
  · have hv : r = u := hv
    subst hv
    obtain ⟨h3, e3, xr⟩ := out_put e o (by decide) (by decide) gT kT (RA.sm gA.ok (SM.seti S3 (if S3.2.1 8 ≤ 0 then (0 : Int32) else (1 : Int32)))) (by rw [setI_get, h8]; rfl) og r.toInt64
    refine ⟨0, h3, _, _, ?_, eM, xr⟩
    show Option.bind (astJ h2 (some (B + 24)) 0 _) _ = _
    rw [e3, bind_some9]
theorem x_goBackInTime (I : LW B L b xs h S) (m : Rm 50000 228000 h) : ∃ k h' r S', F_X0_goBackInTime (some B) (some (B + 24)) h = some (k, h') ∧ P_X4_goBackInTime S = some (r, S') ∧ XR B h h' S' k r.toInt64 := by
  obtain ⟨e, o, z, st, R, hpu, ⟨g0, hg0⟩, sc, hb⟩ := id I
  obtain ⟨dk, kv, hi, tx, C, hbx, D, G, K, H, T⟩ := id R
  have Gb : GoodS ((beg S).1 0) := by rw [beg_0 S (by decide)]; exact G
  obtain ⟨h1, eh1⟩ : ∃ h1, h1 = hpush h (.inl (0, 0, .inl (fun _ => 0))) 0 := ⟨_, rfl⟩
  have g1 : Gr (fun a => a < hSz h) 1 0 h h1 := by rw [eh1]; exact Gr.push o _ _ (Nat.lt_irrefl _)
  have sz1 : hSz h < hSz h1 := by rw [eh1]; exact Nat.lt_succ_self _
  obtain ⟨v, S2, r, S3, res, h2, eg, ee, ea, gA, kA, RA, hc⟩ := act_go (x := B) (sign := 98) (args := some (hSz h)) (GO := P_X4_goWayBack (beg S)) (vr := vrB (Zs (S.1 0) 0) (Zs ((beg S).1 0) 0)) g1.ok (z.gr o g1 (Nat.le_refl _)) (R.gr o g1 (SM.rf S)) ((m.gr g1 (by decide) (by decide)).mono (by decide) (by decide)) (fun h4 o4 g4 D4 hl m4 => by
    obtain ⟨_, _, _, _, Cd, _⟩ := id D4
    rw [dn_98 Cd.1 (show hF h4 (hSz h) = some (.inl (0, 0, .inl (fun _ => 0))) from by rw [g4.2.1 _ sz1, eh1]; exact hF_push_eq _ _ _) (by decide)]
    exact j_goesBack o4 hl D4 Gb (beg_rep G) m4)
  have ca : hF h1 B = some (.inr (0, [.ref dk, kv, .ref hi, .ref tx])) := by rw [g1.2.1 B (o.lt C)]; exact C
  have e1 : F_X1_goBackInTime B h = some (res, h2) := by
    unfold F_X1_goBackInTime
    rw [v_newA (t := 0) (n := 0) (by decide) (by decide) (by decide) (m.mono (by decide) (by decide)), bind_some9, show zeroA 0 = (.inl fun _ => 0 : AV) from rfl, ← eh1, v_isO ca, bind_some9]
    exact thr_same ea
  have eM : P_X4_goBackInTime S = some (r, setI S3 8 (if S3.2.1 8 ≤ 0 then (0 : Int32) else (1 : Int32))) := by
    unfold P_X4_goBackInTime
    rw [m_begins, bind_some9, eg, pb2_s, m_only ee, pb2_s]
  have gT := (g1.sub (P' := fun _ => False) (fun a w => w.elim)).tr gA
  have kT : KeepX XC h h2 := ⟨kA.1.trans g1.1, fun a ec ha hx => kA.2.1 a ec (by rw [g1.2.1 a (o.lt ha)]; exact ha) hx, fun a cc fs ha => kA.2.2 a cc fs (by rw [g1.2.1 a (o.lt ha)]; exact ha)⟩
  have og : outA h2 B g0 := kT.2.1 _ _ hg0 xc_out
  unfold F_X0_goBackInTime
  rw [v_isO C, bind_some9, e1]
  rcases hc with ⟨hv, q, rfl, h8⟩ | ⟨q, rfl, h8⟩ | ⟨u, rfl, hv, h8⟩
  · exact absurd hv (n_back Gb.1 Gb.2.1 (beg_rep G) eg)
  · refine ⟨1, h2, _, _, ?_, eM, out_ex (by decide) (by decide) (by decide) gT kT (RA.sm gA.ok (SM.seti _ _)) (by rw [setI_get, h8]; rfl) og _⟩
    show (if ("java/lang/IllegalStateException" : String) = "java/lang/IllegalStateException" then some ((1 : Int32), h2) else none) = _
    exact if_pos rfl
  · have hv : r = u := hv (fun i hi => by rw [beg_0 S (by decide)])
    subst hv
    obtain ⟨h3, e3, xr⟩ := out_put e o (by decide) (by decide) gT kT (RA.sm gA.ok (SM.seti S3 (if S3.2.1 8 ≤ 0 then (0 : Int32) else (1 : Int32)))) (by rw [setI_get, h8]; rfl) og r.toInt64
    refine ⟨0, h3, _, _, ?_, eM, xr⟩
    show Option.bind (astJ h2 (some (B + 24)) 0 _) _ = _
    rw [e3, bind_some9]
theorem x_setFree (a1 : Int32) (I : LW B L b xs h S) (m : Rm 50000 228000 h) : ∃ k h' r S', F_X0_setFree (some B) a1 (some (B + 24)) h = some (k, h') ∧ P_X4_setFree a1 S = some (r, S') ∧ XR B h h' S' k r.toInt64 := by
  obtain ⟨e, o, z, st, R, hpu, ⟨g0, hg0⟩, sc, hb⟩ := id I
  obtain ⟨dk, kv, hi, tx, C, hbx, D, G, K, H, T⟩ := id R
  have Gb : GoodS ((beg S).1 0) := by rw [beg_0 S (by decide)]; exact G
  obtain ⟨h1, eh1⟩ : ∃ h1, h1 = hpush h (.inl (0, 1, .inl (upd (fun _ => 0) 0 a1))) 1 := ⟨_, rfl⟩
  have g1 : Gr (fun a => a < hSz h) 1 1 h h1 := by rw [eh1]; exact Gr.push o _ _ (Nat.lt_irrefl _)
  have sz1 : hSz h < hSz h1 := by rw [eh1]; exact Nat.lt_succ_self _
  obtain ⟨v, S2, r, S3, res, h2, eg, ee, ea, gA, kA, RA, hc⟩ := act_go (x := B) (sign := 102) (args := some (hSz h)) (GO := P_X4_goFree a1 (beg S)) (vr := vrB (Zs (S.1 0) 0) (Zs ((beg S).1 0) 0)) g1.ok (z.gr o g1 (Nat.le_refl _)) (R.gr o g1 (SM.rf S)) ((m.gr g1 (by decide) (by decide)).mono (by decide) (by decide)) (fun h4 o4 g4 D4 hl m4 => by
    obtain ⟨_, _, _, _, Cd, _⟩ := id D4
    rw [dn_102 Cd.1 (show hF h4 (hSz h) = some (.inl (0, 1, .inl (upd (fun _ => 0) 0 a1))) from by rw [g4.2.1 _ sz1, eh1]; exact hF_push_eq _ _ _) (by decide)]
    exact j_frees a1 o4 hl D4 Gb (beg_rep G) m4)
  have ca : hF h1 B = some (.inr (0, [.ref dk, kv, .ref hi, .ref tx])) := by rw [g1.2.1 B (o.lt C)]; exact C
  have e1 : F_X1_setFree B a1 h = some (res, h2) := by
    unfold F_X1_setFree
    rw [v_newA (t := 0) (n := 1) (by decide) (by decide) (by decide) (m.mono (by decide) (by decide)), bind_some9, show zeroA 0 = (.inl fun _ => 0 : AV) from rfl, arr_put o (show ix 0 0 1 from ⟨by decide, by decide, by decide⟩), bind_some9, ← eh1, v_isO ca, bind_some9]
    exact thr_same ea
  have eM : P_X4_setFree a1 S = some (r, S3) := by
    unfold P_X4_setFree
    rw [m_begins, bind_some9, eg, pb2_s, ee, pb2_s]
  have gT := (g1.sub (P' := fun _ => False) (fun a w => w.elim)).tr gA
  have kT : KeepX XC h h2 := ⟨kA.1.trans g1.1, fun a ec ha hx => kA.2.1 a ec (by rw [g1.2.1 a (o.lt ha)]; exact ha) hx, fun a cc fs ha => kA.2.2 a cc fs (by rw [g1.2.1 a (o.lt ha)]; exact ha)⟩
  have og : outA h2 B g0 := kT.2.1 _ _ hg0 xc_out
  unfold F_X0_setFree
  rw [v_isO C, bind_some9, e1]
  rcases hc with ⟨_, q, rfl, h8⟩ | ⟨q, rfl, h8⟩ | ⟨u, rfl, hv, h8⟩
  · refine ⟨1, h2, _, _, ?_, eM, out_ex (by decide) (by decide) (by decide) gT kT RA h8 og _⟩
    show (if ("java/lang/IllegalArgumentException" : String) = "java/lang/IllegalArgumentException" then some ((1 : Int32), h2) else if ("java/lang/IllegalArgumentException" : String) = "java/lang/IllegalStateException" then some ((2 : Int32), h2) else none) = _
    exact if_pos rfl
  · refine ⟨2, h2, _, _, ?_, eM, out_ex (by decide) (by decide) (by decide) gT kT RA h8 og _⟩
    show (if ("java/lang/IllegalStateException" : String) = "java/lang/IllegalArgumentException" then some ((1 : Int32), h2) else if ("java/lang/IllegalStateException" : String) = "java/lang/IllegalStateException" then some ((2 : Int32), h2) else none) = _
    rw [if_neg (by decide), if_pos rfl]
  · have hv : r = u := hv (fun i hi => by rw [beg_0 S (by decide)])
    subst hv
    obtain ⟨h3, e3, xr⟩ := out_put e o (by decide) (by decide) gT kT RA h8 og r.toInt64
    refine ⟨0, h3, _, _, ?_, eM, xr⟩
    show Option.bind (astJ h2 (some (B + 24)) 0 _) _ = _
    rw [e3, bind_some9]
theorem x_copyClock (a1 a2 : Int32) (I : LW B L b xs h S) (m : Rm 50000 228000 h) : ∃ k h' r S', F_X0_copyClock (some B) a1 a2 (some (B + 24)) h = some (k, h') ∧ P_X4_copyClock a1 a2 S = some (r, S') ∧ XR B h h' S' k r.toInt64 := by
  obtain ⟨e, o, z, st, R, hpu, ⟨g0, hg0⟩, sc, hb⟩ := id I
  obtain ⟨dk, kv, hi, tx, C, hbx, D, G, K, H, T⟩ := id R
  have Gb : GoodS ((beg S).1 0) := by rw [beg_0 S (by decide)]; exact G
  obtain ⟨h1, eh1⟩ : ∃ h1, h1 = hpush h (.inl (0, 2, .inl (upd (upd (fun _ => 0) 0 a1) 1 a2))) 2 := ⟨_, rfl⟩
  have g1 : Gr (fun a => a < hSz h) 1 2 h h1 := by rw [eh1]; exact Gr.push o _ _ (Nat.lt_irrefl _)
  have sz1 : hSz h < hSz h1 := by rw [eh1]; exact Nat.lt_succ_self _
  obtain ⟨v, S2, r, S3, res, h2, eg, ee, ea, gA, kA, RA, hc⟩ := act_go (x := B) (sign := 99) (args := some (hSz h)) (GO := P_X4_goCopy a1 a2 (beg S)) (vr := vrE) g1.ok (z.gr o g1 (Nat.le_refl _)) (R.gr o g1 (SM.rf S)) ((m.gr g1 (by decide) (by decide)).mono (by decide) (by decide)) (fun h4 o4 g4 D4 hl m4 => by
    obtain ⟨_, _, _, _, Cd, _⟩ := id D4
    rw [dn_99 Cd.1 (show hF h4 (hSz h) = some (.inl (0, 2, .inl (upd (upd (fun _ => 0) 0 a1) 1 a2))) from by rw [g4.2.1 _ sz1, eh1]; exact hF_push_eq _ _ _) (by decide)]
    exact j_copies a1 a2 o4 hl D4 Gb m4)
  have ca : hF h1 B = some (.inr (0, [.ref dk, kv, .ref hi, .ref tx])) := by rw [g1.2.1 B (o.lt C)]; exact C
  have e1 : F_X1_copyClock B a1 a2 h = some (res, h2) := by
    unfold F_X1_copyClock
    rw [v_newA (t := 0) (n := 2) (by decide) (by decide) (by decide) (m.mono (by decide) (by decide)), bind_some9, show zeroA 0 = (.inl fun _ => 0 : AV) from rfl, arr_put o (show ix 0 0 2 from ⟨by decide, by decide, by decide⟩), bind_some9, arr_put o (show ix 1 1 2 from ⟨by decide, by decide, by decide⟩), bind_some9, ← eh1, v_isO ca, bind_some9]
    exact thr_same ea
  have eM : P_X4_copyClock a1 a2 S = some (r, S3) := by
    unfold P_X4_copyClock
    rw [m_begins, bind_some9, eg, pb2_s, ee, pb2_s]
  have gT := (g1.sub (P' := fun _ => False) (fun a w => w.elim)).tr gA
  have kT : KeepX XC h h2 := ⟨kA.1.trans g1.1, fun a ec ha hx => kA.2.1 a ec (by rw [g1.2.1 a (o.lt ha)]; exact ha) hx, fun a cc fs ha => kA.2.2 a cc fs (by rw [g1.2.1 a (o.lt ha)]; exact ha)⟩
  have og : outA h2 B g0 := kT.2.1 _ _ hg0 xc_out
  unfold F_X0_copyClock
  rw [v_isO C, bind_some9, e1]
  rcases hc with ⟨_, q, rfl, h8⟩ | ⟨q, rfl, h8⟩ | ⟨u, rfl, hv, h8⟩
  · refine ⟨1, h2, _, _, ?_, eM, out_ex (by decide) (by decide) (by decide) gT kT RA h8 og _⟩
    show (if ("java/lang/IllegalArgumentException" : String) = "java/lang/IllegalArgumentException" then some ((1 : Int32), h2) else if ("java/lang/IllegalArgumentException" : String) = "java/lang/IllegalStateException" then some ((2 : Int32), h2) else none) = _
    exact if_pos rfl
  · refine ⟨2, h2, _, _, ?_, eM, out_ex (by decide) (by decide) (by decide) gT kT RA h8 og _⟩
    show (if ("java/lang/IllegalStateException" : String) = "java/lang/IllegalArgumentException" then some ((1 : Int32), h2) else if ("java/lang/IllegalStateException" : String) = "java/lang/IllegalStateException" then some ((2 : Int32), h2) else none) = _
    rw [if_neg (by decide), if_pos rfl]
  · have hv : r = u := hv
    subst hv
    obtain ⟨h3, e3, xr⟩ := out_put e o (by decide) (by decide) gT kT RA h8 og r.toInt64
    refine ⟨0, h3, _, _, ?_, eM, xr⟩
    show Option.bind (astJ h2 (some (B + 24)) 0 _) _ = _
    rw [e3, bind_some9]
theorem x_shift (a1 a2 : Int32) (I : LW B L b xs h S) (m : Rm 50000 228000 h) : ∃ k h' r S', F_X0_shift (some B) a1 a2 (some (B + 24)) h = some (k, h') ∧ P_X4_shift a1 a2 S = some (r, S') ∧ XR B h h' S' k r.toInt64 := by
  obtain ⟨e, o, z, st, R, hpu, ⟨g0, hg0⟩, sc, hb⟩ := id I
  obtain ⟨dk, kv, hi, tx, C, hbx, D, G, K, H, T⟩ := id R
  have Gb : GoodS ((beg S).1 0) := by rw [beg_0 S (by decide)]; exact G
  obtain ⟨h1, eh1⟩ : ∃ h1, h1 = hpush h (.inl (0, 2, .inl (upd (upd (fun _ => 0) 0 a1) 1 a2))) 2 := ⟨_, rfl⟩
  have g1 : Gr (fun a => a < hSz h) 1 2 h h1 := by rw [eh1]; exact Gr.push o _ _ (Nat.lt_irrefl _)
  have sz1 : hSz h < hSz h1 := by rw [eh1]; exact Nat.lt_succ_self _
  obtain ⟨v, S2, r, S3, res, h2, eg, ee, ea, gA, kA, RA, hc⟩ := act_go (x := B) (sign := 115) (args := some (hSz h)) (GO := P_X4_goShift a1 a2 (beg S)) (vr := vrE) g1.ok (z.gr o g1 (Nat.le_refl _)) (R.gr o g1 (SM.rf S)) ((m.gr g1 (by decide) (by decide)).mono (by decide) (by decide)) (fun h4 o4 g4 D4 hl m4 => by
    obtain ⟨_, _, _, _, Cd, _⟩ := id D4
    rw [dn_115 Cd.1 (show hF h4 (hSz h) = some (.inl (0, 2, .inl (upd (upd (fun _ => 0) 0 a1) 1 a2))) from by rw [g4.2.1 _ sz1, eh1]; exact hF_push_eq _ _ _) (by decide)]
    exact j_shifts a1 a2 o4 hl D4 Gb m4)
  have ca : hF h1 B = some (.inr (0, [.ref dk, kv, .ref hi, .ref tx])) := by rw [g1.2.1 B (o.lt C)]; exact C
  have e1 : F_X1_shift B a1 a2 h = some (res, h2) := by
    unfold F_X1_shift
    rw [v_newA (t := 0) (n := 2) (by decide) (by decide) (by decide) (m.mono (by decide) (by decide)), bind_some9, show zeroA 0 = (.inl fun _ => 0 : AV) from rfl, arr_put o (show ix 0 0 2 from ⟨by decide, by decide, by decide⟩), bind_some9, arr_put o (show ix 1 1 2 from ⟨by decide, by decide, by decide⟩), bind_some9, ← eh1, v_isO ca, bind_some9]
    exact thr_same ea
  have eM : P_X4_shift a1 a2 S = some (r, S3) := by
    unfold P_X4_shift
    rw [m_begins, bind_some9, eg, pb2_s, ee, pb2_s]
  have gT := (g1.sub (P' := fun _ => False) (fun a w => w.elim)).tr gA
  have kT : KeepX XC h h2 := ⟨kA.1.trans g1.1, fun a ec ha hx => kA.2.1 a ec (by rw [g1.2.1 a (o.lt ha)]; exact ha) hx, fun a cc fs ha => kA.2.2 a cc fs (by rw [g1.2.1 a (o.lt ha)]; exact ha)⟩
  have og : outA h2 B g0 := kT.2.1 _ _ hg0 xc_out
  unfold F_X0_shift
  rw [v_isO C, bind_some9, e1]
  rcases hc with ⟨_, q, rfl, h8⟩ | ⟨q, rfl, h8⟩ | ⟨u, rfl, hv, h8⟩
  · refine ⟨1, h2, _, _, ?_, eM, out_ex (by decide) (by decide) (by decide) gT kT RA h8 og _⟩
    show (if ("java/lang/IllegalArgumentException" : String) = "java/lang/IllegalArgumentException" then some ((1 : Int32), h2) else if ("java/lang/IllegalArgumentException" : String) = "java/lang/IllegalStateException" then some ((2 : Int32), h2) else none) = _
    exact if_pos rfl
  · refine ⟨2, h2, _, _, ?_, eM, out_ex (by decide) (by decide) (by decide) gT kT RA h8 og _⟩
    show (if ("java/lang/IllegalStateException" : String) = "java/lang/IllegalArgumentException" then some ((1 : Int32), h2) else if ("java/lang/IllegalStateException" : String) = "java/lang/IllegalStateException" then some ((2 : Int32), h2) else none) = _
    rw [if_neg (by decide), if_pos rfl]
  · have hv : r = u := hv
    subst hv
    obtain ⟨h3, e3, xr⟩ := out_put e o (by decide) (by decide) gT kT RA h8 og r.toInt64
    refine ⟨0, h3, _, _, ?_, eM, xr⟩
    show Option.bind (astJ h2 (some (B + 24)) 0 _) _ = _
    rw [e3, bind_some9]
end X0
