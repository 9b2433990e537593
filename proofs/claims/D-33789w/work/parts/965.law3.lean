/-! the other changes through the law's wrappers -/
theorem vrS_b {u r : Int32} (v : vrS u r) : (if (if u = (1 : Int32) then (1 : Int32) else (0 : Int32)) = 0 then (0 : Int64) else (1 : Int64)) = (if r = 0 then (0 : Int64) else (1 : Int64)) := by
  unfold vrS at v
  rw [v]

section X1
variable {B L b : Nat} {xs : Nat → Int32} {h : HH} {S : MS}
theorem x_store (a1 : Int32) (I : LW B L b xs h S) (m : Rm 50000 228000 h) : ∃ k h' r S', F_X0_store (some B) a1 (some (B + 24)) h = some (k, h') ∧ P_X4_store a1 S = some (r, S') ∧ XR B h h' S' k (if r = 0 then (0 : Int64) else (1 : Int64)) := by
  obtain ⟨e, o, z, st, R, hpu, ⟨g0, hg0⟩, sc, hb⟩ := id I
  obtain ⟨dk, kv, hi, tx, C, hbx, D, G, K, H, T⟩ := id R
  obtain ⟨c, hc4, h5⟩ := known R
  obtain ⟨r, S3, eM, J⟩ := jm_store a1 G hc4 h5
  obtain ⟨h1, eh1⟩ : ∃ h1, h1 = hpush h (.inl (0, 1, .inl (upd (fun _ => 0) 0 a1))) 1 := ⟨_, rfl⟩
  have g1 : Gr (fun a => a < hSz h) 1 1 h h1 := by rw [eh1]; exact Gr.push o _ _ (Nat.lt_irrefl _)
  have sz1 : hSz h < hSz h1 := by rw [eh1]; exact Nat.lt_succ_self _
  obtain ⟨res, h2, ea, gA, kA, RA, hc⟩ := act_m (x := B) (sign := 80) (args := some (hSz h)) (r := r) (S3 := S3) (vr := vrS) (ok1 := True) (ok2 := False) g1.ok (z.gr o g1 (Nat.le_refl _)) (R.gr o g1 (SM.rf S)) ((m.gr g1 (by decide) (by decide)).mono (by decide) (by decide)) (fun h4 o4 z4 g4 D4 hl m4 => by
    obtain ⟨_, _, _, _, Cd, _⟩ := id D4
    rw [dn_80 Cd.1 (show hF h4 (hSz h) = some (.inl (0, 1, .inl (upd (fun _ => 0) 0 a1))) from by rw [g4.2.1 _ sz1, eh1]; exact hF_push_eq _ _ _) (by decide)]
    obtain ⟨res, h5', q1, q2, q3⟩ := J _ _ _ o4 z4 D4 hl m4
    exact ⟨res, h5', q1, q2, q3.elim (fun w => Or.inl ⟨True.intro, w⟩) Or.inr⟩)
  have ca : hF h1 B = some (.inr (0, [.ref dk, kv, .ref hi, .ref tx])) := by rw [g1.2.1 B (o.lt C)]; exact C
  have e1 : F_X1_store B a1 h = some (reMap (fun v => if v = (1 : Int32) then (1 : Int32) else (0 : Int32)) res, h2) := by
    unfold F_X1_store
    rw [v_newA (t := 0) (n := 1) (by decide) (by decide) (by decide) (m.mono (by decide) (by decide)), bind_some9, show zeroA 0 = (.inl fun _ => 0 : AV) from rfl, arr_put o (show ix 0 0 1 from ⟨by decide, by decide, by decide⟩), bind_some9, ← eh1, v_isO ca, bind_some9]
    exact thr_map (fun v => if v = (1 : Int32) then (1 : Int32) else (0 : Int32)) ea
  have gT := (g1.sub (P' := fun _ => False) (fun a w => w.elim)).tr gA
  have kT : KeepX XC h h2 := ⟨kA.1.trans g1.1, fun a ec ha hx => kA.2.1 a ec (by rw [g1.2.1 a (o.lt ha)]; exact ha) hx, fun a cc fs ha => kA.2.2 a cc fs (by rw [g1.2.1 a (o.lt ha)]; exact ha)⟩
  have og : outA h2 B g0 := kT.2.1 _ _ hg0 xc_out
  unfold F_X0_store
  rw [v_isO C, bind_some9, e1]
  rcases hc with ⟨_, q, rfl, h8⟩ | ⟨w, q, rfl, h8⟩ | ⟨u, rfl, hv, h8⟩
  · refine ⟨1, h2, _, _, ?_, eM, out_ex (by decide) (by decide) (by decide) gT kT RA h8 og _⟩
    show (if ("java/lang/IllegalArgumentException" : String) = "java/lang/IllegalArgumentException" then some ((1 : Int32), h2) else none) = _
    exact if_pos rfl
  · exact w.elim
  · obtain ⟨h3, e3, xr⟩ := out_put e o (by decide) (by decide) gT kT RA h8 og (if (if u = (1 : Int32) then (1 : Int32) else (0 : Int32)) = 0 then (0 : Int64) else (1 : Int64))
    rw [vrS_b hv] at xr
    refine ⟨0, h3, _, _, ?_, eM, xr⟩
    show Option.bind (astJ h2 (some (B + 24)) 0 _) _ = _
    rw [e3, bind_some9]
theorem x_meet (a1 : Int32) (I : LW B L b xs h S) (m : Rm 50000 228000 h) : ∃ k h' r S', F_X0_meet (some B) a1 (some (B + 24)) h = some (k, h') ∧ P_X4_meet a1 S = some (r, S') ∧ XR B h h' S' k r.toInt64 := by
  obtain ⟨e, o, z, st, R, hpu, ⟨g0, hg0⟩, sc, hb⟩ := id I
  obtain ⟨dk, kv, hi, tx, C, hbx, D, G, K, H, T⟩ := id R
  obtain ⟨c, hc4, h5⟩ := known R
  obtain ⟨r, S3, eM, J⟩ := jm_meet a1 G hc4 h5
  obtain ⟨h1, eh1⟩ : ∃ h1, h1 = hpush h (.inl (0, 1, .inl (upd (fun _ => 0) 0 a1))) 1 := ⟨_, rfl⟩
  have g1 : Gr (fun a => a < hSz h) 1 1 h h1 := by rw [eh1]; exact Gr.push o _ _ (Nat.lt_irrefl _)
  have sz1 : hSz h < hSz h1 := by rw [eh1]; exact Nat.lt_succ_self _
  obtain ⟨res, h2, ea, gA, kA, RA, hc⟩ := act_m (x := B) (sign := 77) (args := some (hSz h)) (r := r) (S3 := S3) (vr := vrE) (ok1 := True) (ok2 := True) g1.ok (z.gr o g1 (Nat.le_refl _)) (R.gr o g1 (SM.rf S)) ((m.gr g1 (by decide) (by decide)).mono (by decide) (by decide)) (fun h4 o4 z4 g4 D4 hl m4 => by
    obtain ⟨_, _, _, _, Cd, _⟩ := id D4
    rw [dn_77 Cd.1 (show hF h4 (hSz h) = some (.inl (0, 1, .inl (upd (fun _ => 0) 0 a1))) from by rw [g4.2.1 _ sz1, eh1]; exact hF_push_eq _ _ _) (by decide)]
    obtain ⟨res, h5', q1, q2, q3⟩ := J _ _ _ o4 z4 D4 hl m4
    exact ⟨res, h5', q1, q2, q3.elim (fun w => Or.inl ⟨True.intro, w⟩) Or.inr⟩)
  have ca : hF h1 B = some (.inr (0, [.ref dk, kv, .ref hi, .ref tx])) := by rw [g1.2.1 B (o.lt C)]; exact C
  have e1 : F_X1_meet B a1 h = some (res, h2) := by
    unfold F_X1_meet
    rw [v_newA (t := 0) (n := 1) (by decide) (by decide) (by decide) (m.mono (by decide) (by decide)), bind_some9, show zeroA 0 = (.inl fun _ => 0 : AV) from rfl, arr_put o (show ix 0 0 1 from ⟨by decide, by decide, by decide⟩), bind_some9, ← eh1, v_isO ca, bind_some9]
    exact thr_same ea
  have gT := (g1.sub (P' := fun _ => False) (fun a w => w.elim)).tr gA
  have kT : KeepX XC h h2 := ⟨kA.1.trans g1.1, fun a ec ha hx => kA.2.1 a ec (by rw [g1.2.1 a (o.lt ha)]; exact ha) hx, fun a cc fs ha => kA.2.2 a cc fs (by rw [g1.2.1 a (o.lt ha)]; exact ha)⟩
  have og : outA h2 B g0 := kT.2.1 _ _ hg0 xc_out
  unfold F_X0_meet
  rw [v_isO C, bind_some9, e1]
  rcases hc with ⟨_, q, rfl, h8⟩ | ⟨_, q, rfl, h8⟩ | ⟨u, rfl, hv, h8⟩
  · refine ⟨1, h2, _, _, ?_, eM, out_ex (by decide) (by decide) (by decide) gT kT RA h8 og _⟩
    show (if ("java/lang/IllegalArgumentException" : String) = "java/lang/IllegalArgumentException" then some ((1 : Int32), h2) else if ("java/lang/IllegalArgumentException" : String) = "java/lang/IllegalStateException" then some ((2 : Int32), h2) else none) = _
    exact if_pos rfl
  · refine ⟨2, h2, _, _, ?_, eM, out_ex (by decide) (by decide) (by decide) gT kT RA h8 og _⟩
    show (if ("java/lang/IllegalStateException" : String) = "java/lang/IllegalArgumentException" then some ((1 : Int32), h2) else if ("java/lang/IllegalStateException" : String) = "java/lang/IllegalStateException" then some ((2 : Int32), h2) else none) = _
    rw [if_neg (by decide), if_pos rfl]
  · have hv : r = u := hv
    subst hv
    obtain ⟨h3, e3, xr⟩ := out_put e o (by decide) (by decide) gT kT RA h8 og r.toInt64
    refine ⟨0, h3, _, _, ?_, eM, xr⟩
    show Option.bind (astJ h2 (some (B + 24)) 0 _) _ = _
    rw [e3, bind_some9]
theorem x_wrap (a1 : Int32) (I : LW B L b xs h S) (m : Rm 50000 228000 h) : ∃ k h' r S', F_X0_wrap (some B) a1 (some (B + 24)) h = some (k, h') ∧ P_X4_wrap a1 S = some (r, S') ∧ XR B h h' S' k r.toInt64 := by
  obtain ⟨e, o, z, st, R, hpu, ⟨g0, hg0⟩, sc, hb⟩ := id I
  obtain ⟨dk, kv, hi, tx, C, hbx, D, G, K, H, T⟩ := id R
  obtain ⟨c, hc4, h5⟩ := known R
  obtain ⟨r, S3, eM, J⟩ := jm_wrap a1 G hc4 h5
  obtain ⟨h1, eh1⟩ : ∃ h1, h1 = hpush h (.inl (0, 1, .inl (upd (fun _ => 0) 0 a1))) 1 := ⟨_, rfl⟩
  have g1 : Gr (fun a => a < hSz h) 1 1 h h1 := by rw [eh1]; exact Gr.push o _ _ (Nat.lt_irrefl _)
  have sz1 : hSz h < hSz h1 := by rw [eh1]; exact Nat.lt_succ_self _
  obtain ⟨res, h2, ea, gA, kA, RA, hc⟩ := act_m (x := B) (sign := 87) (args := some (hSz h)) (r := r) (S3 := S3) (vr := vrE) (ok1 := True) (ok2 := True) g1.ok (z.gr o g1 (Nat.le_refl _)) (R.gr o g1 (SM.rf S)) ((m.gr g1 (by decide) (by decide)).mono (by decide) (by decide)) (fun h4 o4 z4 g4 D4 hl m4 => by
    obtain ⟨_, _, _, _, Cd, _⟩ := id D4
    rw [dn_87 Cd.1 (show hF h4 (hSz h) = some (.inl (0, 1, .inl (upd (fun _ => 0) 0 a1))) from by rw [g4.2.1 _ sz1, eh1]; exact hF_push_eq _ _ _) (by decide)]
    obtain ⟨res, h5', q1, q2, q3⟩ := J _ _ _ o4 z4 D4 hl m4
    exact ⟨res, h5', q1, q2, q3.elim (fun w => Or.inl ⟨True.intro, w⟩) Or.inr⟩)
  have ca : hF h1 B = some (.inr (0, [.ref dk, kv, .ref hi, .ref tx])) := by rw [g1.2.1 B (o.lt C)]; exact C
  have e1 : F_X1_wrap B a1 h = some (res, h2) := by
    unfold F_X1_wrap
    rw [v_newA (t := 0) (n := 1) (by decide) (by decide) (by decide) (m.mono (by decide) (by decide)), bind_some9, show zeroA 0 = (.inl fun _ => 0 : AV) from rfl, arr_put o (show ix 0 0 1 from ⟨by decide, by decide, by decide⟩), bind_some9, ← eh1, v_isO ca, bind_some9]
    exact thr_same ea
  have gT := (g1.sub (P' := fun _ => False) (fun a w => w.elim)).tr gA
  have kT : KeepX XC h h2 := ⟨kA.1.trans g1.1, fun a ec ha hx => kA.2.1 a ec (by rw [g1.2.1 a (o.lt ha)]; exact ha) hx, fun a cc fs ha => kA.2.2 a cc fs (by rw [g1.2.1 a (o.lt ha)]; exact ha)⟩
  have og : outA h2 B g0 := kT.2.1 _ _ hg0 xc_out
  unfold F_X0_wrap
  rw [v_isO C, bind_some9, e1]
  rcases hc with ⟨_, q, rfl, h8⟩ | ⟨_, q, rfl, h8⟩ | ⟨u, rfl, hv, h8⟩
  · refine ⟨1, h2, _, _, ?_, eM, out_ex (by decide) (by decide) (by decide) gT kT RA h8 og _⟩
    show (if ("java/lang/IllegalArgumentException" : String) = "java/lang/IllegalArgumentException" then some ((1 : Int32), h2) else if ("java/lang/IllegalArgumentException" : String) = "java/lang/IllegalStateException" then some ((2 : Int32), h2) else none) = _
    exact if_pos rfl
  · refine ⟨2, h2, _, _, ?_, eM, out_ex (by decide) (by decide) (by decide) gT kT RA h8 og _⟩
    show (if ("java/lang/IllegalStateException" : String) = "java/lang/IllegalArgumentException" then some ((1 : Int32), h2) else if ("java/lang/IllegalStateException" : String) = "java/lang/IllegalStateException" then some ((2 : Int32), h2) else none) = _
    rw [if_neg (by decide), if_pos rfl]
  · have hv : r = u := hv
    subst hv
    obtain ⟨h3, e3, xr⟩ := out_put e o (by decide) (by decide) gT kT RA h8 og r.toInt64
    refine ⟨0, h3, _, _, ?_, eM, xr⟩
    show Option.bind (astJ h2 (some (B + 24)) 0 _) _ = _
    rw [e3, bind_some9]
theorem x_setStay (a1 a2 a3 : Int32) (I : LW B L b xs h S) (m : Rm 50000 228000 h) : ∃ k h' r S', F_X0_setStay (some B) a1 a2 a3 (some (B + 24)) h = some (k, h') ∧ P_X4_setStay a1 a2 a3 S = some (r, S') ∧ XR B h h' S' k r.toInt64 := by
  obtain ⟨e, o, z, st, R, hpu, ⟨g0, hg0⟩, sc, hb⟩ := id I
  obtain ⟨dk, kv, hi, tx, C, hbx, D, G, K, H, T⟩ := id R
  obtain ⟨c, hc4, h5⟩ := known R
  obtain ⟨r, S3, eM, J⟩ := jm_setStay a1 a2 a3 G hc4 h5
  obtain ⟨h1, eh1⟩ : ∃ h1, h1 = hpush h (.inl (0, 3, .inl (upd (upd (upd (fun _ => 0) 0 a1) 1 a2) 2 a3))) 3 := ⟨_, rfl⟩
  have g1 : Gr (fun a => a < hSz h) 1 3 h h1 := by rw [eh1]; exact Gr.push o _ _ (Nat.lt_irrefl _)
  have sz1 : hSz h < hSz h1 := by rw [eh1]; exact Nat.lt_succ_self _
  obtain ⟨res, h2, ea, gA, kA, RA, hc⟩ := act_m (x := B) (sign := 72) (args := some (hSz h)) (r := r) (S3 := S3) (vr := vrE) (ok1 := True) (ok2 := False) g1.ok (z.gr o g1 (Nat.le_refl _)) (R.gr o g1 (SM.rf S)) ((m.gr g1 (by decide) (by decide)).mono (by decide) (by decide)) (fun h4 o4 z4 g4 D4 hl m4 => by
    obtain ⟨_, _, _, _, Cd, _⟩ := id D4
    rw [dn_72 Cd.1 (show hF h4 (hSz h) = some (.inl (0, 3, .inl (upd (upd (upd (fun _ => 0) 0 a1) 1 a2) 2 a3))) from by rw [g4.2.1 _ sz1, eh1]; exact hF_push_eq _ _ _) (by decide)]
    obtain ⟨res, h5', q1, q2, q3⟩ := J _ _ _ o4 z4 D4 hl m4
    exact ⟨res, h5', q1, q2, q3.elim (fun w => Or.inl ⟨True.intro, w⟩) Or.inr⟩)
  have ca : hF h1 B = some (.inr (0, [.ref dk, kv, .ref hi, .ref tx])) := by rw [g1.2.1 B (o.lt C)]; exact C
  have e1 : F_X1_setStay B a1 a2 a3 h = some (res, h2) := by
    unfold F_X1_setStay
    rw [v_newA (t := 0) (n := 3) (by decide) (by decide) (by decide) (m.mono (by decide) (by decide)), bind_some9, show zeroA 0 = (.inl fun _ => 0 : AV) from rfl, arr_put o (show ix 0 0 3 from ⟨by decide, by decide, by decide⟩), bind_some9, arr_put o (show ix 1 1 3 from ⟨by decide, by decide, by decide⟩), bind_some9, arr_put o (show ix 2 2 3 from ⟨by decide, by decide, by decide⟩), bind_some9, ← eh1, v_isO ca, bind_some9]
    exact thr_same ea
  have gT := (g1.sub (P' := fun _ => False) (fun a w => w.elim)).tr gA
  have kT : KeepX XC h h2 := ⟨kA.1.trans g1.1, fun a ec ha hx => kA.2.1 a ec (by rw [g1.2.1 a (o.lt ha)]; exact ha) hx, fun a cc fs ha => kA.2.2 a cc fs (by rw [g1.2.1 a (o.lt ha)]; exact ha)⟩
  have og : outA h2 B g0 := kT.2.1 _ _ hg0 xc_out
  unfold F_X0_setStay
  rw [v_isO C, bind_some9, e1]
  rcases hc with ⟨_, q, rfl, h8⟩ | ⟨w, q, rfl, h8⟩ | ⟨u, rfl, hv, h8⟩
  · refine ⟨1, h2, _, _, ?_, eM, out_ex (by decide) (by decide) (by decide) gT kT RA h8 og _⟩
    show (if ("java/lang/IllegalArgumentException" : String) = "java/lang/IllegalArgumentException" then some ((1 : Int32), h2) else none) = _
    exact if_pos rfl
  · exact w.elim
  · have hv : r = u := hv
    subst hv
    obtain ⟨h3, e3, xr⟩ := out_put e o (by decide) (by decide) gT kT RA h8 og r.toInt64
    refine ⟨0, h3, _, _, ?_, eM, xr⟩
    show Option.bind (astJ h2 (some (B + 24)) 0 _) _ = _
    rw [e3, bind_some9]
theorem x_addLine (a1 a2 : Int32) (I : LW B L b xs h S) (m : Rm 50000 228000 h) : ∃ k h' r S', F_X0_addLine (some B) a1 a2 (some (B + 24)) h = some (k, h') ∧ P_X4_addLine a1 a2 S = some (r, S') ∧ XR B h h' S' k r.toInt64 := by
  obtain ⟨e, o, z, st, R, hpu, ⟨g0, hg0⟩, sc, hb⟩ := id I
  obtain ⟨dk, kv, hi, tx, C, hbx, D, G, K, H, T⟩ := id R
  obtain ⟨c, hc4, h5⟩ := known R
  obtain ⟨r, S3, eM, J⟩ := jm_addLine a1 a2 G hc4 h5
  obtain ⟨h1, eh1⟩ : ∃ h1, h1 = hpush h (.inl (0, 2, .inl (upd (upd (fun _ => 0) 0 a1) 1 a2))) 2 := ⟨_, rfl⟩
  have g1 : Gr (fun a => a < hSz h) 1 2 h h1 := by rw [eh1]; exact Gr.push o _ _ (Nat.lt_irrefl _)
  have sz1 : hSz h < hSz h1 := by rw [eh1]; exact Nat.lt_succ_self _
  obtain ⟨res, h2, ea, gA, kA, RA, hc⟩ := act_m (x := B) (sign := 76) (args := some (hSz h)) (r := r) (S3 := S3) (vr := vrE) (ok1 := True) (ok2 := True) g1.ok (z.gr o g1 (Nat.le_refl _)) (R.gr o g1 (SM.rf S)) ((m.gr g1 (by decide) (by decide)).mono (by decide) (by decide)) (fun h4 o4 z4 g4 D4 hl m4 => by
    obtain ⟨_, _, _, _, Cd, _⟩ := id D4
    rw [dn_76 Cd.1 (show hF h4 (hSz h) = some (.inl (0, 2, .inl (upd (upd (fun _ => 0) 0 a1) 1 a2))) from by rw [g4.2.1 _ sz1, eh1]; exact hF_push_eq _ _ _) (by decide)]
    obtain ⟨res, h5', q1, q2, q3⟩ := J _ _ _ o4 z4 D4 hl m4
    exact ⟨res, h5', q1, q2, q3.elim (fun w => Or.inl ⟨True.intro, w⟩) Or.inr⟩)
  have ca : hF h1 B = some (.inr (0, [.ref dk, kv, .ref hi, .ref tx])) := by rw [g1.2.1 B (o.lt C)]; exact C
  have e1 : F_X1_addLine B a1 a2 h = some (res, h2) := by
    unfold F_X1_addLine
    rw [v_newA (t := 0) (n := 2) (by decide) (by decide) (by decide) (m.mono (by decide) (by decide)), bind_some9, show zeroA 0 = (.inl fun _ => 0 : AV) from rfl, arr_put o (show ix 0 0 2 from ⟨by decide, by decide, by decide⟩), bind_some9, arr_put o (show ix 1 1 2 from ⟨by decide, by decide, by decide⟩), bind_some9, ← eh1, v_isO ca, bind_some9]
    exact thr_same ea
  have gT := (g1.sub (P' := fun _ => False) (fun a w => w.elim)).tr gA
  have kT : KeepX XC h h2 := ⟨kA.1.trans g1.1, fun a ec ha hx => kA.2.1 a ec (by rw [g1.2.1 a (o.lt ha)]; exact ha) hx, fun a cc fs ha => kA.2.2 a cc fs (by rw [g1.2.1 a (o.lt ha)]; exact ha)⟩
  have og : outA h2 B g0 := kT.2.1 _ _ hg0 xc_out
  unfold F_X0_addLine
  rw [v_isO C, bind_some9, e1]
  rcases hc with ⟨_, q, rfl, h8⟩ | ⟨_, q, rfl, h8⟩ | ⟨u, rfl, hv, h8⟩
  · refine ⟨1, h2, _, _, ?_, eM, out_ex (by decide) (by decide) (by decide) gT kT RA h8 og _⟩
    show (if ("java/lang/IllegalArgumentException" : String) = "java/lang/IllegalArgumentException" then some ((1 : Int32), h2) else if ("java/lang/IllegalArgumentException" : String) = "java/lang/IllegalStateException" then some ((2 : Int32), h2) else none) = _
    exact if_pos rfl
  · refine ⟨2, h2, _, _, ?_, eM, out_ex (by decide) (by decide) (by decide) gT kT RA h8 og _⟩
    show (if ("java/lang/IllegalStateException" : String) = "java/lang/IllegalArgumentException" then some ((1 : Int32), h2) else if ("java/lang/IllegalStateException" : String) = "java/lang/IllegalStateException" then some ((2 : Int32), h2) else none) = _
    rw [if_neg (by decide), if_pos rfl]
  · have hv : r = u := hv
    subst hv
    obtain ⟨h3, e3, xr⟩ := out_put e o (by decide) (by decide) gT kT RA h8 og r.toInt64
    refine ⟨0, h3, _, _, ?_, eM, xr⟩
    show Option.bind (astJ h2 (some (B + 24)) 0 _) _ = _
    rw [e3, bind_some9]
theorem x_setNeed (a1 a2 a3 a4 : Int32) (I : LW B L b xs h S) (m : Rm 50000 228000 h) : ∃ k h' r S', F_X0_setNeed (some B) a1 a2 a3 a4 (some (B + 24)) h = some (k, h') ∧ P_X4_setNeed a1 a2 a3 a4 S = some (r, S') ∧ XR B h h' S' k r.toInt64 := by
  obtain ⟨e, o, z, st, R, hpu, ⟨g0, hg0⟩, sc, hb⟩ := id I
  obtain ⟨dk, kv, hi, tx, C, hbx, D, G, K, H, T⟩ := id R
  obtain ⟨c, hc4, h5⟩ := known R
  obtain ⟨r, S3, eM, J⟩ := jm_setNeed a1 a2 a3 a4 G hc4 h5
  obtain ⟨h1, eh1⟩ : ∃ h1, h1 = hpush h (.inl (0, 4, .inl (upd (upd (upd (upd (fun _ => 0) 0 a1) 1 a2) 2 a3) 3 a4))) 4 := ⟨_, rfl⟩
  have g1 : Gr (fun a => a < hSz h) 1 4 h h1 := by rw [eh1]; exact Gr.push o _ _ (Nat.lt_irrefl _)
  have sz1 : hSz h < hSz h1 := by rw [eh1]; exact Nat.lt_succ_self _
  obtain ⟨res, h2, ea, gA, kA, RA, hc⟩ := act_m (x := B) (sign := 78) (args := some (hSz h)) (r := r) (S3 := S3) (vr := vrE) (ok1 := True) (ok2 := False) g1.ok (z.gr o g1 (Nat.le_refl _)) (R.gr o g1 (SM.rf S)) ((m.gr g1 (by decide) (by decide)).mono (by decide) (by decide)) (fun h4 o4 z4 g4 D4 hl m4 => by
    obtain ⟨_, _, _, _, Cd, _⟩ := id D4
    rw [dn_78 Cd.1 (show hF h4 (hSz h) = some (.inl (0, 4, .inl (upd (upd (upd (upd (fun _ => 0) 0 a1) 1 a2) 2 a3) 3 a4))) from by rw [g4.2.1 _ sz1, eh1]; exact hF_push_eq _ _ _) (by decide)]
    obtain ⟨res, h5', q1, q2, q3⟩ := J _ _ _ o4 z4 D4 hl m4
    exact ⟨res, h5', q1, q2, q3.elim (fun w => Or.inl ⟨True.intro, w⟩) Or.inr⟩)
  have ca : hF h1 B = some (.inr (0, [.ref dk, kv, .ref hi, .ref tx])) := by rw [g1.2.1 B (o.lt C)]; exact C
  have e1 : F_X1_setNeed B a1 a2 a3 a4 h = some (res, h2) := by
    unfold F_X1_setNeed
    rw [v_newA (t := 0) (n := 4) (by decide) (by decide) (by decide) (m.mono (by decide) (by decide)), bind_some9, show zeroA 0 = (.inl fun _ => 0 : AV) from rfl, arr_put o (show ix 0 0 4 from ⟨by decide, by decide, by decide⟩), bind_some9, arr_put o (show ix 1 1 4 from ⟨by decide, by decide, by decide⟩), bind_some9, arr_put o (show ix 2 2 4 from ⟨by decide, by decide, by decide⟩), bind_some9, arr_put o (show ix 3 3 4 from ⟨by decide, by decide, by decide⟩), bind_some9, ← eh1, v_isO ca, bind_some9]
    exact thr_same ea
  have gT := (g1.sub (P' := fun _ => False) (fun a w => w.elim)).tr gA
  have kT : KeepX XC h h2 := ⟨kA.1.trans g1.1, fun a ec ha hx => kA.2.1 a ec (by rw [g1.2.1 a (o.lt ha)]; exact ha) hx, fun a cc fs ha => kA.2.2 a cc fs (by rw [g1.2.1 a (o.lt ha)]; exact ha)⟩
  have og : outA h2 B g0 := kT.2.1 _ _ hg0 xc_out
  unfold F_X0_setNeed
  rw [v_isO C, bind_some9, e1]
  rcases hc with ⟨_, q, rfl, h8⟩ | ⟨w, q, rfl, h8⟩ | ⟨u, rfl, hv, h8⟩
  · refine ⟨1, h2, _, _, ?_, eM, out_ex (by decide) (by decide) (by decide) gT kT RA h8 og _⟩
    show (if ("java/lang/IllegalArgumentException" : String) = "java/lang/IllegalArgumentException" then some ((1 : Int32), h2) else none) = _
    exact if_pos rfl
  · exact w.elim
  · have hv : r = u := hv
    subst hv
    obtain ⟨h3, e3, xr⟩ := out_put e o (by decide) (by decide) gT kT RA h8 og r.toInt64
    refine ⟨0, h3, _, _, ?_, eM, xr⟩
    show Option.bind (astJ h2 (some (B + 24)) 0 _) _ = _
    rw [e3, bind_some9]
theorem x_turnReset (a1 a2 : Int32) (I : LW B L b xs h S) (m : Rm 50000 228000 h) : ∃ k h' r S', F_X0_turnReset (some B) a1 a2 (some (B + 24)) h = some (k, h') ∧ P_X4_turnReset a1 a2 S = some (r, S') ∧ XR B h h' S' k (if r = 0 then (0 : Int64) else (1 : Int64)) := by
  obtain ⟨e, o, z, st, R, hpu, ⟨g0, hg0⟩, sc, hb⟩ := id I
  obtain ⟨dk, kv, hi, tx, C, hbx, D, G, K, H, T⟩ := id R
  obtain ⟨c, hc4, h5⟩ := known R
  obtain ⟨r, S3, eM, J⟩ := jm_turnReset a1 a2 G hc4 h5
  obtain ⟨h1, eh1⟩ : ∃ h1, h1 = hpush h (.inl (0, 2, .inl (upd (upd (fun _ => 0) 0 a1) 1 a2))) 2 := ⟨_, rfl⟩
  have g1 : Gr (fun a => a < hSz h) 1 2 h h1 := by rw [eh1]; exact Gr.push o _ _ (Nat.lt_irrefl _)
  have sz1 : hSz h < hSz h1 := by rw [eh1]; exact Nat.lt_succ_self _
  obtain ⟨res, h2, ea, gA, kA, RA, hc⟩ := act_m (x := B) (sign := 82) (args := some (hSz h)) (r := r) (S3 := S3) (vr := vrS) (ok1 := True) (ok2 := False) g1.ok (z.gr o g1 (Nat.le_refl _)) (R.gr o g1 (SM.rf S)) ((m.gr g1 (by decide) (by decide)).mono (by decide) (by decide)) (fun h4 o4 z4 g4 D4 hl m4 => by
    obtain ⟨_, _, _, _, Cd, _⟩ := id D4
    rw [dn_82 Cd.1 (show hF h4 (hSz h) = some (.inl (0, 2, .inl (upd (upd (fun _ => 0) 0 a1) 1 a2))) from by rw [g4.2.1 _ sz1, eh1]; exact hF_push_eq _ _ _) (by decide)]
    obtain ⟨res, h5', q1, q2, q3⟩ := J _ _ _ o4 z4 D4 hl m4
    exact ⟨res, h5', q1, q2, q3.elim (fun w => Or.inl ⟨True.intro, w⟩) Or.inr⟩)
  have ca : hF h1 B = some (.inr (0, [.ref dk, kv, .ref hi, .ref tx])) := by rw [g1.2.1 B (o.lt C)]; exact C
  have e1 : F_X1_turnReset B a1 a2 h = some (reMap (fun v => if v = (1 : Int32) then (1 : Int32) else (0 : Int32)) res, h2) := by
    unfold F_X1_turnReset
    rw [v_newA (t := 0) (n := 2) (by decide) (by decide) (by decide) (m.mono (by decide) (by decide)), bind_some9, show zeroA 0 = (.inl fun _ => 0 : AV) from rfl, arr_put o (show ix 0 0 2 from ⟨by decide, by decide, by decide⟩), bind_some9, arr_put o (show ix 1 1 2 from ⟨by decide, by decide, by decide⟩), bind_some9, ← eh1, v_isO ca, bind_some9]
    exact thr_map (fun v => if v = (1 : Int32) then (1 : Int32) else (0 : Int32)) ea
  have gT := (g1.sub (P' := fun _ => False) (fun a w => w.elim)).tr gA
  have kT : KeepX XC h h2 := ⟨kA.1.trans g1.1, fun a ec ha hx => kA.2.1 a ec (by rw [g1.2.1 a (o.lt ha)]; exact ha) hx, fun a cc fs ha => kA.2.2 a cc fs (by rw [g1.2.1 a (o.lt ha)]; exact ha)⟩
  have og : outA h2 B g0 := kT.2.1 _ _ hg0 xc_out
  unfold F_X0_turnReset
  rw [v_isO C, bind_some9, e1]
  rcases hc with ⟨_, q, rfl, h8⟩ | ⟨w, q, rfl, h8⟩ | ⟨u, rfl, hv, h8⟩
  · refine ⟨1, h2, _, _, ?_, eM, out_ex (by decide) (by decide) (by decide) gT kT RA h8 og _⟩
    show (if ("java/lang/IllegalArgumentException" : String) = "java/lang/IllegalArgumentException" then some ((1 : Int32), h2) else none) = _
    exact if_pos rfl
  · exact w.elim
  · obtain ⟨h3, e3, xr⟩ := out_put e o (by decide) (by decide) gT kT RA h8 og (if (if u = (1 : Int32) then (1 : Int32) else (0 : Int32)) = 0 then (0 : Int64) else (1 : Int64))
    rw [vrS_b hv] at xr
    refine ⟨0, h3, _, _, ?_, eM, xr⟩
    show Option.bind (astJ h2 (some (B + 24)) 0 _) _ = _
    rw [e3, bind_some9]
/-- what a call without wrapper leaves: both sides answer alike -/
def XQ (B : Nat) (h h' : HH) (S' : MS) : Prop := Gr (fun _ => False) 50000 228000 h h' ∧ KeepX XC h h' ∧ CX h' B S'
theorem x_forgetAll (I : LW B L b xs h S) (m : Rm 50000 228000 h) : ∃ v h' S', F_X1_forgetAll B h = some (.inr v, h') ∧ P_X4_forgetAll S = some (v, S') ∧ XQ B h h' S' := by
  obtain ⟨e, o, z, st, R, hpu, ⟨g0, hg0⟩, sc, hb⟩ := id I
  obtain ⟨dk, kv, hi, tx, C, hbx, D, G, K, H, T⟩ := id R
  obtain ⟨c, hc4, h5⟩ := known R
  obtain ⟨r, S3, eM, J⟩ := jm_forgetAll G hc4 h5
  obtain ⟨h1, eh1⟩ : ∃ h1, h1 = hpush h (.inl (0, 0, .inl (fun _ => 0))) 0 := ⟨_, rfl⟩
  have g1 : Gr (fun a => a < hSz h) 1 0 h h1 := by rw [eh1]; exact Gr.push o _ _ (Nat.lt_irrefl _)
  have sz1 : hSz h < hSz h1 := by rw [eh1]; exact Nat.lt_succ_self _
  obtain ⟨res, h2, ea, gA, kA, RA, hc⟩ := act_m (x := B) (sign := 121) (args := some (hSz h)) (r := r) (S3 := S3) (vr := vrE) (ok1 := False) (ok2 := False) g1.ok (z.gr o g1 (Nat.le_refl _)) (R.gr o g1 (SM.rf S)) ((m.gr g1 (by decide) (by decide)).mono (by decide) (by decide)) (fun h4 o4 z4 g4 D4 hl m4 => by
    obtain ⟨_, _, _, _, Cd, _⟩ := id D4
    rw [dn_121 Cd.1 (show hF h4 (hSz h) = some (.inl (0, 0, .inl (fun _ => 0))) from by rw [g4.2.1 _ sz1, eh1]; exact hF_push_eq _ _ _) (by decide)]
    obtain ⟨h5', q1, q2, q3, q4, q5⟩ := J _ _ _ o4 D4 hl m4
    exact ⟨_, h5', q1, q2, Or.inr (Or.inr ⟨r, rfl, rfl, q3, q4, q5⟩)⟩)
  have ca : hF h1 B = some (.inr (0, [.ref dk, kv, .ref hi, .ref tx])) := by rw [g1.2.1 B (o.lt C)]; exact C
  have e1 : F_X1_forgetAll B h = some (res, h2) := by
    unfold F_X1_forgetAll
    rw [v_newA (t := 0) (n := 0) (by decide) (by decide) (by decide) (m.mono (by decide) (by decide)), bind_some9, show zeroA 0 = (.inl fun _ => 0 : AV) from rfl, ← eh1, v_isO ca, bind_some9]
    exact thr_same ea
  have gT := (g1.sub (P' := fun _ => False) (fun a w => w.elim)).tr gA
  have kT : KeepX XC h h2 := ⟨kA.1.trans g1.1, fun a ec ha hx => kA.2.1 a ec (by rw [g1.2.1 a (o.lt ha)]; exact ha) hx, fun a cc fs ha => kA.2.2 a cc fs (by rw [g1.2.1 a (o.lt ha)]; exact ha)⟩
  rcases hc with ⟨w, _⟩ | ⟨w, _⟩ | ⟨u, rfl, hv, h8⟩
  · exact w.elim
  · exact w.elim
  · have hv : r = u := hv
    subst hv
    exact ⟨r, h2, S3, e1, eM, gT.mono (by decide) (by decide), kT, RA⟩

end X1
