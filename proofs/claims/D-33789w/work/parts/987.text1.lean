/-! type, clearText -/
def XT : Nat × Nat → Prop := fun k => k = (0, 10) ∨ ∃ n, n ∈ txC ∧ k = (2, n)
theorem XT_n {k : Nat × Nat} (h1 : k.1 ≠ 2) (h2 : k.1 = 0 → k.2 ≠ 10) : ¬ XT k := fun w => by
  rcases w with rfl | ⟨n, _, rfl⟩
  · exact h2 rfl rfl
  · exact h1 rfl
theorem XT_noD : noD XT := ⟨XT_n (by decide) (by decide), XT_n (by decide) (by decide), XT_n (by decide) (by decide), XT_n (by decide) (by decide), XT_n (by decide) (by decide), XT_n (by decide) (by decide), fun n _ => XT_n (fun (z : 3 = 2) => absurd z (by decide)) (fun (z : 3 = 0) => absurd z (by decide)), XT_n (by decide) (by decide), XT_n (by decide) (by decide)⟩
theorem XT_XC {k : Nat × Nat} (h : XT k) : XC k := h.elim (fun w => Or.inr (Or.inr (Or.inr (Or.inl w)))) (fun w => Or.inr (Or.inr (Or.inr (Or.inr w))))
section TX1
variable {B L b : Nat} {xs : Nat → Int32} {h h' : HH} {S S' : MS}
theorem CX.text {tx dk hi : Nat} {kv : Value} (k : KeepX XT h h') (R : CX h B S) (C : hF h B = some (.inr (0, [.ref dk, kv, .ref hi, .ref tx]))) (a0 : ∀ i, i < 194 → S'.1 0 i = S.1 0 i) (a2 : S'.1 2 = S.1 2) (a4 : S'.1 4 = S.1 4) (i3 : S'.2.1 3 = S.2.1 3) (i5 : S'.2.1 5 = S.2.1 5) (T : TxR h' tx S') : CX h' B S' := by
  obtain ⟨dk', kv', hi', tx', C', hb, D, G, K, H, _⟩ := R
  rw [C] at C'
  cases C'
  exact ⟨dk, kv, hi, tx, k.2.1 _ _ C (show ¬ XT (0, 0) from XT_n (by decide) (by decide)), by rw [k.b]; exact hb, D.keepX k XT_noD a0, G.congr a0, K.keepX k XT_noD a2 i3, H.keepX k XT_noD (XT_n (by decide) (by decide)) (XT_n (by decide) (by decide)) a4 i5, T⟩
theorem cap_ok : ∀ cap ∈ txC, ∀ len, len < 61 → (((I32 len + (1 : Int32)) - (I32 cap >>> ((0 : Int32) &&& 31))) ≤ 0 ↔ len + 1 ≤ cap) := by decide
theorem cap_ok0 : ∀ cap ∈ txC, ((0 : Int32) - (I32 cap >>> ((0 : Int32) &&& 31))) ≤ 0 := by decide
theorem chr_fit : ∀ n, n < 127 → fits .byte (.int (I32 n)) = true := by decide
theorem chr_of {x : Int32} (h1 : 32 ≤ x.toInt) (h2 : x.toInt ≤ 126) : ∃ n, n < 127 ∧ 32 ≤ n ∧ x = I32 n := ⟨x.toInt.toNat, by omega, by omega, Int32.toInt_inj.mp (by rw [big_t (by omega)]; omega)⟩
theorem tx_ne {tx va cap len : Nat} {ml : Int32} {b : Nat → Int32} (T : TxQ h tx S va cap len ml b) : tx ≠ va := fun w => by
  have t1 := T.1
  rw [w, T.2.1] at t1
  cases t1
theorem tx_ens {tx va cap len : Nat} {ml : Int32} {b : Nat → Int32} (o : OKH h) (T : TxQ h tx S va cap len ml b) (hl : len < 60) (m : Rm 1 70 h) : ∃ h' va' cap' b', F_J4_ensureCapacityInternal tx (I32 len + (1 : Int32)) h = some h' ∧ Gr (fun a => a < hSz h ∧ a ≠ tx) 1 70 h h' ∧ KeepX XT h h' ∧ TxQ h' tx S va' cap' len ml b' ∧ len < cap' := by
  have ne := tx_ne T
  obtain ⟨t1, t2, t3, t4, t5, t6, t7, t8, t9⟩ := id T
  have al : alen h (some va) = some (I32 cap) := v_alen t2 (by decide)
  unfold F_J4_ensureCapacityInternal
  rw [v_getR t1 rfl, bind_some9, al, bind_some9, v_getI t1 rfl, bind_some9]
  by_cases q : len + 1 ≤ cap
  · rw [if_pos ((cap_ok cap t7 len (by omega)).mpr q)]
    exact ⟨h, va, cap, b, rfl, (Gr.rf o).mono (by decide) (by decide), KeepX.gr o (Gr.rf o), T, by omega⟩
  · rw [if_neg (fun w => q ((cap_ok cap t7 len (by omega)).mp w))]
    have ecl : cap = len := by omega
    have hc : cap = 16 ∨ cap = 34 := by
      unfold txC at t7
      simp at t7
      omega
    have nl : ∀ h : HH, F_J10_newLength (I32 cap) (((I32 len + (1 : Int32)) <<< ((0 : Int32) &&& 31)) - I32 cap) (I32 cap + ((2 : Int32) <<< ((0 : Int32) &&& 31))) h = some (I32 (2 * cap + 2)) := fun h => by
      rw [← ecl]
      rcases hc with rfl | rfl <;> rfl
    have nc : 2 * cap + 2 ∈ txC := by rcases hc with rfl | rfl <;> decide
    have nc70 : 2 * cap + 2 ≤ 70 := by omega
    have e0 : ¬ I32 (2 * cap + 2) = (2147483647 : Int32) := by rcases hc with rfl | rfl <;> decide
    have e1 : I32 (2 * cap + 2) >>> ((0 : Int32) &&& 31) = I32 (2 * cap + 2) := by rcases hc with rfl | rfl <;> decide
    have e2 : I32 (2 * cap + 2) <<< ((0 : Int32) &&& 31) = I32 (2 * cap + 2) := by rcases hc with rfl | rfl <;> decide
    have e3 : ¬ I32 (2 * cap + 2) = I32 cap := by rcases hc with rfl | rfl <;> decide
    have e4 : F_J11_min (I32 cap) (I32 (2 * cap + 2)) = I32 cap := by rcases hc with rfl | rfl <;> decide
    obtain ⟨h1, eh1⟩ : ∃ h1, h1 = hpush h (.inl (1, 2 * cap + 2, .inl fun _ => 0)) (2 * cap + 2) := ⟨_, rfl⟩
    obtain ⟨h2, eh2⟩ : ∃ h2, h2 = hpush h (.inl (1, 2 * cap + 2, .inl (va_cpy b (fun _ => 0) 0 0 cap))) (2 * cap + 2) := ⟨_, rfl⟩
    have eN : newA h 1 (I32 (2 * cap + 2)) = some h1 := by
      rw [eh1]
      exact v_newA (t := 1) (n := 2 * cap + 2) (ix_of _ 200 (by omega) (by decide)).1 (ix_of _ 200 (by omega) (by decide)).2.1 (by omega) (m.mono (by decide) (by omega))
    have V1 : hF h1 va = some (.inl (1, cap, .inl b)) := by rw [eh1, hF_push_ne _ _ _ (o.ne t2)]; exact t2
    have A1 : hF h1 (hSz h) = some (.inl (1, 2 * cap + 2, .inl fun _ => 0)) := by rw [eh1]; exact hF_push_eq _ _ _
    have al1 : alen h1 (some va) = some (I32 cap) := v_alen V1 (by decide)
    have hB1 : hB h1 = hB h := by rw [eh1]; rfl
    have hix := ix_of cap 200 (by omega) (by decide)
    have eC : acpB h1 (some va) (0 : Int32) (some (hSz h)) (0 : Int32) (I32 cap) = some h2 := by
      unfold acpB
      simp only [V1, A1, hix.2.1]
      rw [if_pos, eh1, hset_push_eq, eh2]
      · rfl
      · refine ⟨⟨trivial, trivial, by rw [hB1]; exact t4, by rw [hB1]; exact o.2⟩, ⟨by decide, by decide, hix.1⟩, ⟨by show 0 + cap ≤ cap; omega, by show 0 + cap ≤ 2 * cap + 2; omega⟩, ?_⟩
        rw [List.all_eq_true]
        intro i hi
        have hi : i < cap := List.mem_range.mp hi
        rw [show (0 : Int32).toNatClampNeg = 0 from rfl, Nat.zero_add]
        obtain ⟨u1, u2, u3⟩ := t9 i (by omega)
        obtain ⟨n, n1, _, en⟩ := chr_of u2 u3
        rw [u1, en]
        exact chr_fit n n1
    have g2 : Gr (fun a => a < hSz h) 1 70 h h2 := by rw [eh2]; exact (Gr.push (P := fun a => a < hSz h) o _ (2 * cap + 2) (Nat.lt_irrefl _)).mono (Nat.le_refl 1) (by omega)
    have T2 : hF h2 tx = some (.inr (10, [.ref va, .int 0, .int ml, .int (I32 len)])) := by rw [g2.2.1 tx (o.lt t1)]; exact t1
    obtain ⟨h3, eh3⟩ : ∃ h3, h3 = hset h2 tx (.inr (10, [.ref (hSz h), .int 0, .int ml, .int (I32 len)])) := ⟨_, rfl⟩
    have eP : putV h2 10 0 (some tx) (va_rf (some (hSz h))) = some h3 := by
      rw [eh3]
      exact v_putV T2 (show (0 : Nat) < 4 by decide) (by rw [g2.b]; exact t3)
    have T3' : hF h3 tx = some (.inr (10, [.ref (hSz h), .int 0, .int ml, .int (I32 len)])) := by rw [eh3]; exact hF_set_eq _ _ _
    have g3 : Gr (fun a => a < hSz h2 ∧ a ≠ tx) 0 0 h2 h3 := by rw [eh3]; exact Gr.set g2.ok T2 (fun w => w.2 rfl)
    have A2 : hF h2 (hSz h) = some (.inl (1, 2 * cap + 2, .inl (va_cpy b (fun _ => 0) 0 0 cap))) := by rw [eh2]; exact hF_push_eq _ _ _
    have A3' : hF h3 (hSz h) = some (.inl (1, 2 * cap + 2, .inl (va_cpy b (fun _ => 0) 0 0 cap))) := by rw [g3.2.1 _ ⟨g2.ok.lt A2, fun w => o.ne t1 w.symm⟩]; exact A2
    have k3 : KeepX XT h2 h3 := KeepX.one g2.ok g3 T2 T3' (Or.inl rfl) rfl
    have k2 : KeepX XT h h2 := KeepX.gr o g2
    unfold F_J4_newCapacity F_J12_copyOf_3
    rw [bind_some9, v_isO t1, bind_some9, v_getR t1 rfl, bind_some9, al, bind_some9, v_getI t1 rfl, bind_some9, bind_some9, nl, bind_some9, if_neg e0, bind_some9, bind_some9, e1, bind_some9, e2, bind_some9, if_neg e3, eN, bind_some9, al1, bind_some9, e4, eC, bind_some9, b2_s, eP, bind_some9]
    refine ⟨h3, hSz h, 2 * cap + 2, _, rfl, ((g2.sub (fun a (w : a < hSz h ∧ a ≠ tx) => w.1)).tr (g3.sub (fun a w => ⟨Nat.lt_of_lt_of_le w.1 g2.2.2.2.1, w.2⟩))).mono (by decide) (by decide), ⟨k3.1.trans k2.1, fun a ec ha hx => k3.2.1 a ec (k2.2.1 a ec ha hx) hx, fun a cc fs ha => (k2.2.2 a cc fs ha).elim fun f1 w => k3.2.2 a cc f1 w⟩, ⟨T3', A3', by rw [g3.b, g2.b]; exact t3, by rw [g3.b, g2.b]; exact o.2, t5, by omega, nc, t8, fun i hi => ?_⟩, by omega⟩
    unfold va_cpy
    rw [if_pos ⟨Nat.zero_le _, by omega⟩, Nat.zero_add, Nat.sub_zero]
    exact t9 i hi
theorem x_clearText (I : LW B L b xs h S) (m : Rm 50000 228000 h) : ∃ v h' S', F_X1_clearText B h = some (v, h') ∧ P_X4_clearText S = some (v, S') ∧ XQ B h h' S' := by
  obtain ⟨e, o, z, st, R, _⟩ := id I
  obtain ⟨dk, kv, hi, tx, C, hbx, D, G, K, H, ⟨va, cap, len, ml, bb, T⟩⟩ := id R
  obtain ⟨t1, t2, t3, t4, t5, t6, t7, t8, t9⟩ := id T
  have al : alen h (some va) = some (I32 cap) := v_alen t2 (by decide)
  have fin : ∀ ml', ∃ h2, h2 = hset h tx (.inr (10, [.ref va, .int 0, .int ml', .int (0 : Int32)])) ∧ XQ B h h2 (setI (setI S 8 0) 7 0) := fun ml' => by
    obtain ⟨h2, e2⟩ : ∃ h2, h2 = hset h tx (.inr (10, [.ref va, .int 0, .int ml', .int (0 : Int32)])) := ⟨_, rfl⟩
    have T2 : hF h2 tx = some (.inr (10, [.ref va, .int 0, .int ml', .int (0 : Int32)])) := by rw [e2]; exact hF_set_eq _ _ _
    have g2 : Gr (fun a => a < hSz h ∧ a ≠ tx) 0 0 h h2 := by rw [e2]; exact Gr.set o t1 (fun w => w.2 rfl)
    have k2 : KeepX XT h h2 := KeepX.one o g2 t1 T2 (Or.inl rfl) rfl
    have V2 : hF h2 va = some (.inl (1, cap, .inl bb)) := by rw [g2.2.1 va ⟨o.lt t2, fun w => tx_ne T w.symm⟩]; exact t2
    refine ⟨h2, e2, (g2.sub (fun a w => w.elim)).mono (by decide) (by decide), ⟨k2.1, fun a ec ha hx => k2.2.1 a ec ha (fun w => hx (XT_XC w)), k2.2.2⟩, CX.text k2 R C (fun _ _ => rfl) rfl rfl (by rw [setI_ne _ _ (by decide), setI_ne _ _ (by decide)]) (by rw [setI_ne _ _ (by decide), setI_ne _ _ (by decide)]) ⟨va, cap, 0, ml', bb, T2, V2, by rw [g2.b]; exact t3, by rw [g2.b]; exact t4, by decide, Nat.zero_le _, t7, setI_get _ _ _, fun i hi => absurd hi (Nat.not_lt_zero i)⟩⟩
  have M : P_X4_clearText S = some (I32 len, setI (setI S 8 0) 7 0) := by
    unfold P_X4_clearText
    show Option.bind (some (setI S 8 0)) _ = _
    rw [bind_some9, show pgI (setI S 8 0) 7 = some (I32 len) from by
      show some ((setI S 8 0).2.1 7) = _
      rw [setI_ne _ _ (by decide), t8], bind_some9]
    rfl
  unfold F_X1_clearText F_J5_length F_J4_length F_J5_setLength F_J4_setLength F_J4_ensureCapacityInternal
  rw [v_getR C rfl, bind_some9, v_isO t1, bind_some9, v_isO t1, bind_some9, v_getI t1 rfl, bind_some9, bind_some9, bind_some9, bind_some9, v_isO t1, bind_some9, v_isO t1, bind_some9, if_pos (by decide), v_isO t1, bind_some9, v_getR t1 rfl, bind_some9, al, bind_some9, v_getI t1 rfl, bind_some9, if_pos (cap_ok0 cap t7), bind_some9, v_getI t1 rfl, bind_some9, if_pos (show (0 : Int32) ≤ I32 len by rw [Int32.le_iff_toInt_le, big_t (by omega)]; exact Int.natCast_nonneg _), bind_some9]
  by_cases q : I32 len ≤ 0
  · obtain ⟨h2, e2, X⟩ := fin ml
    rw [if_pos q, show putV h 10 3 (some tx) (.int (0 : Int32)) = some h2 from by rw [e2]; exact v_putV t1 (show (3 : Nat) < 4 by decide) t3, bind_some9, bind_some9, bind_some9]
    exact ⟨_, _, _, rfl, M, X⟩
  · obtain ⟨h2, e2, X⟩ := fin 1
    have T1 : hF (hset h tx (.inr (10, [.ref va, .int 0, .int (1 : Int32), .int (I32 len)]))) tx = some (.inr (10, [.ref va, .int 0, .int (1 : Int32), .int (I32 len)])) := hF_set_eq _ _ _
    rw [if_neg q, show putV h 10 2 (some tx) (.int (1 : Int32)) = some (hset h tx (.inr (10, [.ref va, .int 0, .int (1 : Int32), .int (I32 len)]))) from v_putV t1 (show (2 : Nat) < 4 by decide) t3, bind_some9, show putV (hset h tx (.inr (10, [.ref va, .int 0, .int (1 : Int32), .int (I32 len)]))) 10 3 (some tx) (.int (0 : Int32)) = some h2 from by rw [e2]; exact (v_putV T1 (show (3 : Nat) < 4 by decide) t3).trans (congrArg some (hset_set _ _ _ _)), bind_some9, bind_some9, bind_some9]
    exact ⟨_, _, _, rfl, M, X⟩
theorem chr_u : ∀ n, n < 127 → ((I32 n).toUInt32 % 65536).toInt32 = I32 n := by decide
theorem chr_b : ∀ n, n < 127 → (I32 n).toInt8.toInt32 = I32 n ∧ ¬ F_J21_canEncode (I32 n) = 0 := by decide
theorem chr_ok {a : Int32} (h1 : 32 ≤ a.toInt) (h2 : a.toInt ≤ 126) : (a.toUInt32 % 65536).toInt32 = a ∧ a.toInt8.toInt32 = a ∧ ¬ F_J21_canEncode a = 0 := by
  obtain ⟨n, n1, _, rfl⟩ := chr_of h1 h2
  exact ⟨chr_u n n1, (chr_b n n1).1, (chr_b n n1).2⟩
theorem v_astB {a j n : Nat} {f : Nat → Int32} {i x : Int32} (q : hF h a = some (.inl (1, n, .inl f))) (hi : ix i j n) (hb : hB h ≤ a) : astB h (some a) i x = some (hset h a (.inl (1, n, .inl (upd f j x.toInt8.toInt32)))) := by
  unfold astB
  rw [v_aget q hi, ← hi.2.1]
  exact if_pos hb
theorem x_type (a1 : Int32) (I : LW B L b xs h S) (m : Rm 50000 228000 h) : ∃ k h' r S', F_X0_type (some B) a1 (some (B + 24)) h = some (k, h') ∧ P_X4_type a1 S = some (r, S') ∧ XR B h h' S' k r.toInt64 := by
  obtain ⟨e, o, z, st, R, hpu, ⟨g0', hg0⟩, sc, hb⟩ := id I
  obtain ⟨dk, kv, hi, tx, C, hbx, D, G, K, H, ⟨va, cap, len, ml, bb, T⟩⟩ := id R
  obtain ⟨t1, t2, t3, t4, t5, t6, t7, t8, t9⟩ := id T
  have f := in_fl a1 32 126
  have e32 : (32 : Int32).toInt = 32 := by decide
  have e126 : (126 : Int32).toInt = 126 := by decide
  rw [e32, e126] at f
  have p7 : pgI (setI S 8 0) 7 = some (I32 len) := by
    show some ((setI S 8 0).2.1 7) = _
    rw [setI_ne _ _ (by decide), t8]
  unfold F_X0_type F_X1_type P_X4_type
  rw [v_isO C, bind_some9, show F_X1_isBetween (a1.toInt64) (32 : Int64) (126 : Int64) = F_X4_in a1 32 126 from between_in a1 32 126]
  show ∃ k h' r S', _ ∧ (Option.bind (some (setI S 8 0)) _) = _ ∧ _
  rw [bind_some9]
  by_cases p : 32 ≤ a1.toInt ∧ a1.toInt ≤ 126
  · obtain ⟨c1, c2, c3⟩ := chr_ok p.1 p.2
    unfold F_J5_length F_J4_length
    rw [arg_t f p, thr_r, if_neg (fun w => (fl_0 f).mp w p), p7, bind_some9, v_getR C rfl, bind_some9, v_isO t1, bind_some9, v_isO t1, bind_some9, v_getI t1 rfl, bind_some9, bind_some9, bind_some9]
    by_cases q : len = 60
    · have q1 : I32 len = (60 : Int32) := by rw [q]; rfl
      rw [if_pos q1, m_fails, pb2_s, q1, if_pos (by decide), st_f rfl (m.mono (by decide) (by decide)), thr_l, thr_l]
      refine ⟨2, hskip h 6, 0, setI (setI S 8 0) 8 2, ?_, rfl, XR_of I (by decide) (exG I) (SM2 S _ _) (setI_get _ _ _) _⟩
      show (if ("java/lang/IllegalStateException" : String) = "java/lang/IllegalArgumentException" then some ((1 : Int32), hskip h 6) else if ("java/lang/IllegalStateException" : String) = "java/lang/IllegalStateException" then some ((2 : Int32), hskip h 6) else none) = _
      rw [if_neg (by decide), if_pos rfl]
    · have nq : ¬ I32 len = (60 : Int32) := fun w => q (i32inj (b := 60) (by omega) (by decide) w)
      have nq2 : ¬ (60 : Int32) ≤ I32 len := fun w => by
        have := (big_le (n := 60) (k := len) (by decide) (by omega)).mp w
        omega
      obtain ⟨h1, va1, cap1, b1, eE, g1, k1, T1, hl⟩ := tx_ens o T (by omega) (m.mono (by decide) (by decide))
      obtain ⟨u1, u2, u3, u4, u5, u6, u7, u8, u9⟩ := id T1
      obtain ⟨h2, e2⟩ : ∃ h2, h2 = hset h1 tx (.inr (10, [.ref va1, .int 0, .int ml, .int (I32 (len + 1))])) := ⟨_, rfl⟩
      have eP : putV h1 10 3 (some tx) (.int (I32 len + (1 : Int32))) = some h2 := by
        rw [e2, i32s len (by omega)]
        exact v_putV u1 (show (3 : Nat) < 4 by decide) u3
      have X2 : hF h2 tx = some (.inr (10, [.ref va1, .int 0, .int ml, .int (I32 (len + 1))])) := by rw [e2]; exact hF_set_eq _ _ _
      have g2 : Gr (fun a => a < hSz h1 ∧ a ≠ tx) 0 0 h1 h2 := by rw [e2]; exact Gr.set g1.ok u1 (fun w => w.2 rfl)
      have k2 : KeepX XT h1 h2 := KeepX.one g1.ok g2 u1 X2 (Or.inl rfl) rfl
      have V2 : hF h2 va1 = some (.inl (1, cap1, .inl b1)) := by rw [g2.2.1 va1 ⟨g1.ok.lt u2, fun w => tx_ne T1 w.symm⟩]; exact u2
      obtain ⟨h3, e3⟩ : ∃ h3, h3 = hset h2 va1 (.inl (1, cap1, .inl (upd b1 len a1))) := ⟨_, rfl⟩
      have c70 : cap1 ≤ 20000 := by
        unfold txC at u7
        simp at u7
        omega
      have eA : astB h2 (some va1) (I32 len) (a1.toInt8.toInt32) = some h3 := by
        rw [v_astB V2 (ix_of len cap1 hl c70) (by rw [g2.b]; exact u4), e3, c2, c2]
      have V3 : hF h3 va1 = some (.inl (1, cap1, .inl (upd b1 len a1))) := by rw [e3]; exact hF_set_eq _ _ _
      have g3 : Gr (fun a => a < hSz h2 ∧ a ≠ va1) 0 0 h2 h3 := by rw [e3]; exact Gr.set g2.ok V2 (fun w => w.2 rfl)
      have X3 : hF h3 tx = some (.inr (10, [.ref va1, .int 0, .int ml, .int (I32 (len + 1))])) := by rw [g3.2.1 tx ⟨g2.ok.lt X2, tx_ne T1⟩]; exact X2
      have k3 : KeepX XT h2 h3 := KeepX.one g2.ok g3 V2 V3 (Or.inr ⟨cap1, u7, rfl⟩) rfl
      have kx : KeepX XT h h3 := ⟨k3.1.trans (k2.1.trans k1.1), fun a ec ha hx => k3.2.1 a ec (k2.2.1 a ec (k1.2.1 a ec ha hx) hx) hx, fun a cc fs ha => (k1.2.2 a cc fs ha).elim fun f1 w => (k2.2.2 a cc f1 w).elim fun f2 w => k3.2.2 a cc f2 w⟩
      have kX : KeepX XC h h3 := ⟨kx.1, fun a ec ha hx => kx.2.1 a ec ha (fun w => hx (XT_XC w)), kx.2.2⟩
      have gT : Gr (fun _ => False) 1 70 h h3 := (((g1.sub (P' := fun _ => False) (fun a w => w.elim)).tr (g2.sub (fun a w => w.elim))).tr (g3.sub (fun a w => w.elim))).mono (by decide) (by decide)
      obtain ⟨S2, eS⟩ : ∃ S2, S2 = setI (setA (setI S 8 0) 6 (upd (S.1 6) len a1)) 7 (I32 (len + 1)) := ⟨_, rfl⟩
      have s6 : S2.1 6 = upd (S.1 6) len a1 := by rw [eS]; exact setA_get (setI S 8 0) 6 (upd (S.1 6) len a1)
      have sK : ∀ K', K' ≠ 6 → S2.1 K' = S.1 K' := fun K' hK => by
        rw [eS]
        show (setA (setI S 8 0) 6 (upd (S.1 6) len a1)).1 K' = _
        rw [setA_ne _ _ hK]
        rfl
      have si : ∀ K', K' ≠ 7 → K' ≠ 8 → S2.2.1 K' = S.2.1 K' := fun K' h7 h8 => by
        rw [eS, setI_ne _ _ h7]
        exact setI_ne _ _ h8
      have s8 : S2.2.1 8 = 0 := by
        rw [eS, setI_ne _ _ (by decide)]
        exact setI_get _ _ _
      have s7 : S2.2.1 7 = I32 (len + 1) := by rw [eS]; exact setI_get _ _ _
      have RX : CX h3 B S2 := CX.text kx R C (fun i _ => by rw [sK 0 (by decide)]) (sK 2 (by decide)) (sK 4 (by decide)) (si 3 (by decide) (by decide)) (si 5 (by decide) (by decide)) ⟨va1, cap1, len + 1, ml, upd b1 len a1, X3, V3, by rw [g3.b, g2.b]; exact u3, by rw [g3.b, g2.b]; exact u4, by omega, by omega, u7, s7, fun i hi => by
        rw [s6]
        unfold upd
        by_cases ei : i = len
        · rw [if_pos ei, if_pos ei]
          exact ⟨rfl, p⟩
        · rw [if_neg ei, if_neg ei]
          exact u9 i (by omega)⟩
      have C3 : hF h3 B = some (.inr (0, [.ref dk, kv, .ref hi, .ref tx])) := kx.2.1 _ _ C (show ¬ XT (0, 0) from XT_n (by decide) (by decide))
      obtain ⟨h6, e6, xr⟩ := out_put e o (by decide) (by decide) gT kX RX s8 (kX.2.1 _ _ hg0 xc_out) (I32 (len + 1)).toInt64
      refine ⟨0, h6, I32 (len + 1), S2, ?_, ?_, xr⟩
      · unfold F_J5_append_3 F_J4_append_3 F_J4_isLatin1
        rw [if_neg nq2, st_t (by decide), thr_r, v_getR C rfl, bind_some9, v_isO t1, bind_some9, v_isO t1, bind_some9, v_getI t1 rfl, bind_some9, v_isO t1, bind_some9, eE, bind_some9, v_isO u1, bind_some9, if_neg (by decide), v_getI u1 rfl, bind_some9, bind_some9, if_neg (by decide), c1, if_neg c3, v_getR u1 rfl, bind_some9, v_getI u1 rfl, bind_some9, eP, bind_some9, eA, bind_some9, b2_s, b2_s, v_getR C3 rfl, bind_some9, v_isO X3, bind_some9, v_isO X3, bind_some9, v_getI X3 rfl, bind_some9, bind_some9, bind_some9, thr_r, e6, bind_some9]
      · rw [if_neg nq, bind_some9, wr_i _ (show ix (I32 len) len (mlen 6) from ix_of len 60 (by omega) (by decide)), bind_some9]
        show Option.bind (pgI (setA (setI S 8 0) 6 (upd (S.1 6) len a1)) 7) _ = _
        rw [show pgI (setA (setI S 8 0) 6 (upd (S.1 6) len a1)) 7 = some (I32 len) from p7, bind_some9, i32s len (by omega)]
        show Option.bind (some (setI (setA (setI S 8 0) 6 (upd (S.1 6) len a1)) 7 (I32 (len + 1)))) _ = _
        rw [bind_some9, ← eS, show pgI S2 7 = some (I32 (len + 1)) from by
          show some (S2.2.1 7) = _
          rw [s7], bind_some9]
  · rw [arg_f f p (m.mono (by decide) (by decide)), thr_l, thr_l, if_pos ((fl_0 f).mpr p), m_fails, pb2_s]
    exact ⟨1, hskip h 6, 0, setI (setI S 8 0) 8 1, if_pos rfl, rfl, XR_of I (by decide) (exG I) (SM2 S _ _) (setI_get _ _ _) _⟩
end TX1
