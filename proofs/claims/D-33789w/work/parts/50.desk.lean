def F_J0_init (this : Nat) (h0 : HH) : Option Unit :=
  Option.bind (nnl (some this)) fun ob1 =>
  some ()
set_option maxHeartbeats 4000000 in
theorem w_J0_init (l : Launch) (hl : l.stackTraces = false) (D : va_G) (dA : Nat → ClassId) (h0 : HH) (this : Nat) (hF : F_J0_init this h0 = some ()) : MC D dA l yJ0_init cJ0_init 1 (Option.none : Option Jvm.ClassFile.FieldType) [] 1 20 [va_rf (some this)] h0 (.inr none, h0) := by
  refine mc_of hl (plainFor_of_name pn_J0) (by simp [lg_sl, cat_rf, cat_i, cat_j, cat_f, cat_d]) ?_
  intro p e s m args below meth c R hRf hRl X hr hnm
  unfold F_J0_init at hF
  rw [show argL [va_rf (some this)] = [some (va_rf (some this))] from by simp [argL, cat_rf, cat_i, cat_j, cat_f, cat_d]]
  refine g_aload_n X dJ0_init_0 rfl rfl ?_
  obtain ⟨ob1, eob1, hF⟩ := bnd hF
  refine g_objInit X ob1 eob1 q151 q132 q133 ⟨by rw [hRf]; exact Nat.le_of_ble_eq_true rfl, by rw [hRl]; exact Nat.le_of_ble_eq_true rfl⟩ (by first | exact Nat.le_of_ble_eq_true rfl | simp [cat_rf, cat_i, cat_j, cat_f, cat_d]) dJ0_init_1 ?_
  cases hF
  exact g_vret X hr dJ0_init_4
def F_J1_init (this : Nat) (h0 : HH) : Option HH :=
  Option.bind (nnl (some this)) fun ob1 =>
  Option.bind (F_J0_init ob1 h0) fun v2 =>
  Option.bind (putV h0 8 0 (some this) (.int (0 : Int32))) fun h3 =>
  some h3
set_option maxHeartbeats 4000000 in
theorem w_J1_init (l : Launch) (hl : l.stackTraces = false) (D : va_G) (dA : Nat → ClassId) (h0 : HH) (this : Nat) (hE : HH) (hF : F_J1_init this h0 = some hE) : MC D dA l yJ1_init cJ1_init 1 (Option.none : Option Jvm.ClassFile.FieldType) [] 2 40 [va_rf (some this)] h0 (.inr none, hE) := by
  refine mc_of hl (plainFor_of_name pn_J1) (by simp [lg_sl, cat_rf, cat_i, cat_j, cat_f, cat_d]) ?_
  intro p e s m args below meth c R hRf hRl X hr hnm
  unfold F_J1_init at hF
  rw [show argL [va_rf (some this)] = [some (va_rf (some this))] from by simp [argL, cat_rf, cat_i, cat_j, cat_f, cat_d]]
  refine g_aload_n X dJ1_init_0 rfl rfl ?_
  obtain ⟨ob1, eob1, hF⟩ := bnd hF
  obtain ⟨v2, ev2, hF⟩ := bnd hF
  refine g_callI X (nnl_some eob1) (w_J0_init l hl D dA h0 ob1  ev2) rfl q148 q149 q94 q150 okn_J0_init ⟨by rw [hRf]; exact Nat.le_of_ble_eq_true rfl, by rw [hRl]; exact Nat.le_of_ble_eq_true rfl⟩ (As := []) (rest := []) rfl (by first | exact Nat.le_of_ble_eq_true rfl | simp [cat_rf, cat_i, cat_j, cat_f, cat_d]) dJ1_init_1 (ac_0 ?_)
  refine g_aload_n X dJ1_init_4 rfl rfl ?_
  refine g_iconst (v := (0 : Int32)) X dJ1_init_5 (by decide) ?_
  obtain ⟨h3, eh3, hF⟩ := bnd hF
  refine g_put (k := 0) X in_J2 tyJ2 tyJ2_ok nmJ2 rfl (by decide) q156 (Or.inl rfl) rfl (tyJ2_ok 0 (by decide)) rfl rfl eh3 dJ1_init_6 ?_
  cases hF
  exact g_vret X hr dJ1_init_9
def F_J2_init (this : Nat) (h0 : HH) : Option HH :=
  Option.bind (nnl (some this)) fun ob1 =>
  Option.bind (F_J1_init ob1 h0) fun h2 =>
  Option.bind (putV h2 8 1 (some this) (va_rf (some (hSa h0 0)))) fun h3 =>
  some h3
set_option maxHeartbeats 4000000 in
theorem w_J2_init (l : Launch) (hl : l.stackTraces = false) (D : va_G) (dA : Nat → ClassId) (h0 : HH) (this : Nat) (hE : HH) (hF : F_J2_init this h0 = some hE) : MC D dA l yJ2_init cJ2_init 1 (Option.none : Option Jvm.ClassFile.FieldType) [] 3 60 [va_rf (some this)] h0 (.inr none, hE) := by
  refine mc_of hl (plainFor_of_name pn_J2) (by simp [lg_sl, cat_rf, cat_i, cat_j, cat_f, cat_d]) ?_
  intro p e s m args below meth c R hRf hRl X hr hnm
  unfold F_J2_init at hF
  rw [show argL [va_rf (some this)] = [some (va_rf (some this))] from by simp [argL, cat_rf, cat_i, cat_j, cat_f, cat_d]]
  refine g_aload_n X dJ2_init_0 rfl rfl ?_
  obtain ⟨ob1, eob1, hF⟩ := bnd hF
  obtain ⟨h2, eh2, hF⟩ := bnd hF
  refine g_callI X (nnl_some eob1) (w_J1_init l hl D dA h0 ob1  h2 eh2) rfl q145 q146 q95 q147 okn_J1_init ⟨by rw [hRf]; exact Nat.le_of_ble_eq_true rfl, by rw [hRl]; exact Nat.le_of_ble_eq_true rfl⟩ (As := []) (rest := []) rfl (by first | exact Nat.le_of_ble_eq_true rfl | simp [cat_rf, cat_i, cat_j, cat_f, cat_d]) dJ2_init_1 (ac_0 ?_)
  refine g_aload_n X dJ2_init_4 rfl rfl ?_
  refine g_getsD X q152 rfl dJ2_init_5 ?_
  obtain ⟨h3, eh3, hF⟩ := bnd hF
  refine g_put (k := 1) X in_J2 tyJ2 tyJ2_ok nmJ2 rfl (by decide) q154 (Or.inl rfl) rfl (tyJ2_ok 1 (by decide)) (narrow_rfA _ _) (fits_rfA _ _) eh3 dJ2_init_8 ?_
  cases hF
  exact g_vret X hr dJ2_init_11
def F_X2_init_B44 (this : Nat) (x1_14 : Int32) (h_14 : HH) : Option ((Int32 × HH) ⊕ HH) :=
  Option.bind (getR h_14 2 0 (some this)) fun v15 =>
  Option.bind (alen h_14 v15) fun v16 =>
  if v16 ≤ x1_14 then (
    some (.inr h_14)
  ) else (
    Option.bind (getR h_14 2 0 (some this)) fun v18 =>
    Option.bind (astI h_14 v18 x1_14 (10 : Int32)) fun h19 =>
    some (.inl ((x1_14 + (1 : Int32)), h19))
  )
def F_X2_init (this : Nat) (h0 : HH) : Option HH :=
  Option.bind (nnl (some this)) fun ob1 =>
  Option.bind (newO h0 8 3 [.int 0, .null, .int 0]) fun h2 =>
  Option.bind (nnl (some (hSz h0))) fun ob3 =>
  Option.bind (F_J2_init ob3 h2) fun h4 =>
  Option.bind (putV h4 2 1 (some this) (va_rf (some (hSz h0)))) fun h5 =>
  Option.bind (newA h5 3 (4 : Int32)) fun h6 =>
  Option.bind (putV h6 2 2 (some this) (va_rf (some (hSz h5)))) fun h7 =>
  Option.bind (newO h7 3 1 [.null]) fun h8 =>
  Option.bind (nnl (some (hSz h7))) fun ob9 =>
  Option.bind (F_X3_init ob9 h8) fun h10 =>
  Option.bind (putV h10 2 3 (some this) (va_rf (some (hSz h7)))) fun h11 =>
  Option.bind (newA h11 0 (18 : Int32)) fun h12 =>
  Option.bind (putV h12 2 0 (some this) (va_rf (some (hSz h11)))) fun h13 =>
  Option.bind (lp (fun z => F_X2_init_B44 this z.1 z.2) 100000 ((0 : Int32), h13)) fun h20 =>
  some h20
set_option maxHeartbeats 4000000 in
theorem w_X2_init (l : Launch) (hl : l.stackTraces = false) (D : va_G) (dA : Nat → ClassId) (h0 : HH) (this : Nat) (hE : HH) (hF : F_X2_init this h0 = some hE) : MC D dA l yX2_init cX2_init 2 (Option.none : Option Jvm.ClassFile.FieldType) [] 4 80 [va_rf (some this)] h0 (.inr none, hE) := by
  refine mc_of hl (plainFor_of_name pn_X2) (by simp [lg_sl, cat_rf, cat_i, cat_j, cat_f, cat_d]) ?_
  intro p e s m args below meth c R hRf hRl X hr hnm
  unfold F_X2_init at hF
  rw [show argL [va_rf (some this)] = [some (va_rf (some this))] from by simp [argL, cat_rf, cat_i, cat_j, cat_f, cat_d]]
  refine G.pad 1 (L' := [some (va_rf (some this)), none]) rfl ?_
  refine g_aload_n X dX2_init_0 rfl rfl ?_
  obtain ⟨ob1, eob1, hF⟩ := bnd hF
  refine g_objInit X ob1 eob1 q139 q132 q133 ⟨by rw [hRf]; exact Nat.le_of_ble_eq_true rfl, by rw [hRl]; exact Nat.le_of_ble_eq_true rfl⟩ (by first | exact Nat.le_of_ble_eq_true rfl | simp [cat_rf, cat_i, cat_j, cat_f, cat_d]) dX2_init_1 ?_
  refine g_aload_n X dX2_init_4 rfl rfl ?_
  obtain ⟨h2, eh2, hF⟩ := bnd hF
  refine g_new X in_J2 tyJ2 tyJ2_ok rfl q140 q141 q96 rfl dv_J2 eh2 dX2_init_5 ?_
  refine g_dup X dX2_init_8 (cat_rf _) ?_
  obtain ⟨ob3, eob3, hF⟩ := bnd hF
  obtain ⟨h4, eh4, hF⟩ := bnd hF
  refine g_callI X (nnl_some eob3) (w_J2_init l hl D dA h2 ob3  h4 eh4) rfl q142 q143 q96 q144 okn_J2_init ⟨by rw [hRf]; exact Nat.le_of_ble_eq_true rfl, by rw [hRl]; exact Nat.le_of_ble_eq_true rfl⟩ (As := []) (rest := [va_rf (some (hSz h0)), va_rf (some this)]) rfl (by first | exact Nat.le_of_ble_eq_true rfl | simp [cat_rf, cat_i, cat_j, cat_f, cat_d]) dX2_init_9 (ac_0 ?_)
  obtain ⟨h5, eh5, hF⟩ := bnd hF
  refine g_putF (k := 1) X in_X2 tyX2 tyX2_ok nmX2 rfl (by decide) q184 rfl rfl hnm rfl (tyX2_ok 1 (by decide)) (narrow_rf _ _) (fits_rf _ _) eh5 dX2_init_12 ?_
  refine g_aload_n X dX2_init_15 rfl rfl ?_
  refine g_iconst (v := (4 : Int32)) X dX2_init_16 (by decide) ?_
  obtain ⟨h6, eh6, hF⟩ := bnd hF
  refine g_newq (t := 3) X q166 rfl X.2.2.2.2.2.1.2.2.2.1.2 (funext fun _ => rfl) eh6 dX2_init_17 ?_
  obtain ⟨h7, eh7, hF⟩ := bnd hF
  refine g_putF (k := 2) X in_X2 tyX2 tyX2_ok nmX2 rfl (by decide) q186 rfl rfl hnm rfl (tyX2_ok 2 (by decide)) (narrow_rfA _ _) (fits_rfA _ _) eh7 dX2_init_20 ?_
  refine g_aload_n X dX2_init_23 rfl rfl ?_
  obtain ⟨h8, eh8, hF⟩ := bnd hF
  refine g_new X in_X3 tyX3 tyX3_ok rfl q166 q168 q97 rfl dv_X3 eh8 dX2_init_24 ?_
  refine g_dup X dX2_init_27 (cat_rf _) ?_
  obtain ⟨ob9, eob9, hF⟩ := bnd hF
  obtain ⟨h10, eh10, hF⟩ := bnd hF
  refine g_callI X (nnl_some eob9) (w_X3_init l hl D dA h8 ob9  h10 eh10) rfl q169 q170 q97 q171 okn_X3_init ⟨by rw [hRf]; exact Nat.le_of_ble_eq_true rfl, by rw [hRl]; exact Nat.le_of_ble_eq_true rfl⟩ (As := []) (rest := [va_rf (some (hSz h7)), va_rf (some this)]) rfl (by first | exact Nat.le_of_ble_eq_true rfl | simp [cat_rf, cat_i, cat_j, cat_f, cat_d]) dX2_init_28 (ac_0 ?_)
  obtain ⟨h11, eh11, hF⟩ := bnd hF
  refine g_put (k := 3) X in_X2 tyX2 tyX2_ok nmX2 rfl (by decide) q188 (Or.inl rfl) rfl (tyX2_ok 3 (by decide)) (narrow_rf _ _) (fits_rf _ _) eh11 dX2_init_31 ?_
  refine g_aload_n X dX2_init_34 rfl rfl ?_
  refine g_bipush (v := (18 : Int32)) X dX2_init_35 (by decide) ?_
  obtain ⟨h12, eh12, hF⟩ := bnd hF
  refine g_newa (atype := .int) (t := 0) X q182 rfl (funext fun _ => rfl) (by decide) eh12 dX2_init_37 ?_
  obtain ⟨h13, eh13, hF⟩ := bnd hF
  refine g_putF (k := 0) X in_X2 tyX2 tyX2_ok nmX2 rfl (by decide) q183 rfl rfl hnm rfl (tyX2_ok 0 (by decide)) (narrow_rfA _ _) (fits_rfA _ _) eh13 dX2_init_39 ?_
  refine g_iconst (v := (0 : Int32)) X dX2_init_42 (by decide) ?_
  refine g_istore_n (L' := [some (va_rf (some this)), some (.int (0 : Int32))]) X dX2_init_43 rfl (Nat.le_of_ble_eq_true rfl) (by first | rfl | simp [stL, rm1, clr2, cat_rf, cat_i, cat_j, cat_f, cat_d]) ?_
  obtain ⟨h20, e21, hF⟩ := bnd hF
  refine lp_ind (Gs := (fun z => G p l e R s m args below meth c (RQ D dA h0 (.inr none, hE) below s) D dA h0 2 z.2 44 [some (va_rf (some this)), some (.int z.1)] [])) (Ge := (fun z => G p l e R s m args below meth c (RQ D dA h0 (.inr none, hE) below s) D dA h0 2 z 67 [none, none] [])) ?_ _ _ _ e21 ?_
  · rintro ⟨x1_14, h_14⟩ o hF hgo hr
    change F_X2_init_B44 this x1_14 h_14 = some o at hF
    unfold F_X2_init_B44 at hF
    show G p l e R s m args below meth c (RQ D dA h0 (.inr none, hE) below s) D dA h0 2 h_14 44 [some (va_rf (some this)), some (.int x1_14)] []
    refine g_iload_n X dX2_init_44 rfl rfl ?_
    refine g_aload_n X dX2_init_45 rfl rfl ?_
    obtain ⟨v15, ev15, hF⟩ := bnd hF
    refine g_get (k := 0) X in_X2 rfl (by decide) q183 (Or.inl rfl) (getR_V ev15) dX2_init_46 ?_
    obtain ⟨v16, ev16, hF⟩ := bnd hF
    refine g_alen X ev16 dX2_init_49 ?_
    refine g_icmp_ge X 67 dX2_init_50 (by decide) (fun c17 => ?_) (fun c17 => ?_)
    · have hF := (if_pos c17).symm.trans hF
      refine G.drop [false, false] rfl ?_
      cases hF
      exact hr _ rfl
    · have hF := (if_neg c17).symm.trans hF
      refine g_aload_n X dX2_init_53 rfl rfl ?_
      obtain ⟨v18, ev18, hF⟩ := bnd hF
      refine g_get (k := 0) X in_X2 rfl (by decide) q183 (Or.inl rfl) (getR_V ev18) dX2_init_54 ?_
      refine g_iload_n X dX2_init_57 rfl rfl ?_
      refine g_bipush (v := (10 : Int32)) X dX2_init_58 (by decide) ?_
      obtain ⟨h19, eh19, hF⟩ := bnd hF
      refine g_iast X eh19 dX2_init_60 ?_
      refine g_iinc (v := (x1_14 + (1 : Int32))) (L' := [some (va_rf (some this)), some (.int (x1_14 + (1 : Int32)))]) X dX2_init_61 (Nat.le_of_ble_eq_true rfl) rfl rfl (by first | rfl | simp [stL, rm1, clr2, cat_rf, cat_i, cat_j, cat_f, cat_d]) ?_
      refine g_goto X 44 dX2_init_64 (by decide) ?_
      cases hF
      exact hgo _ rfl
  show G p l e R s m args below meth c (RQ D dA h0 (.inr none, hE) below s) D dA h0 2 h20 67 [none, none] []
  cases hF
  exact g_vret X hr dX2_init_67
def F_J12_copyOf_2 (a1 : Option Nat) (a2 : Int32) (a3 : Option Nat) (h0 : HH) : Option (Option Nat × HH) :=
  if a3 = (some (hSa h0 20)) then (
    Option.bind (newA h0 2 a2) fun h2 =>
    Option.bind (alen h2 a1) fun v3 =>
    Option.bind (acpR h2 a1 (0 : Int32) (some (hSz h0)) (0 : Int32) (F_J11_min v3 a2)) fun h4 =>
    some ((some (hSz h0)), h4)
  ) else (
    none
  )
set_option maxHeartbeats 4000000 in
theorem w_J12_copyOf_2 (l : Launch) (hl : l.stackTraces = false) (D : va_G) (dA : Nat → ClassId) (h0 : HH) (a1 : Option Nat) (a2 : Int32) (a3 : Option Nat) (rE : Option Nat) (hE : HH) (hF : F_J12_copyOf_2 a1 a2 a3 h0 = some (rE, hE)) : MC D dA l yJ12_copyOf_2 cJ12_copyOf_2 4 (Option.some (Jvm.ClassFile.FieldType.array (Jvm.ClassFile.FieldType.object "java/lang/Object"))) [] 1 40 [va_rf a1, .int a2, va_rf a3] h0 (.inr (some (va_rf rE)), hE) := by
  refine mc_of hl (plainFor_of_name pn_J12) (by simp [lg_sl, cat_rf, cat_i, cat_j, cat_f, cat_d]) ?_
  intro p e s m args below meth c R hRf hRl X hr hnm
  unfold F_J12_copyOf_2 at hF
  rw [show argL [va_rf a1, .int a2, va_rf a3] = [some (va_rf a1), some (.int a2), some (va_rf a3)] from by simp [argL, cat_rf, cat_i, cat_j, cat_f, cat_d]]
  refine G.pad 1 (L' := [some (va_rf a1), some (.int a2), some (va_rf a3), none]) rfl ?_
  refine g_aload_n X dJ12_copyOf_2_0 rfl rfl ?_
  refine g_ldcM X q388 dJ12_copyOf_2_1 ?_
  refine g_acmp_ne X 13 dJ12_copyOf_2_3 (by decide) (fun c1 => ?_) (fun c1 => ?_)
  · have hF := (if_neg c1).symm.trans hF
    refine g_aload_n X dJ12_copyOf_2_13 rfl rfl ?_
    cases hF
  · have hF := (if_pos c1).symm.trans hF
    refine g_iload_n X dJ12_copyOf_2_6 rfl rfl ?_
    obtain ⟨h2, eh2, hF⟩ := bnd hF
    refine g_newq (t := 2) X q389 rfl X.2.2.2.2.2.1.2.2.2.1.1 (funext fun _ => rfl) eh2 dJ12_copyOf_2_7 ?_
    refine g_goto X 24 dJ12_copyOf_2_10 (by decide) ?_
    refine g_astore_n (L' := [some (va_rf a1), some (.int a2), some (va_rf a3), some (va_rf (some (hSz h0)))]) X dJ12_copyOf_2_24 rfl (Nat.le_of_ble_eq_true rfl) (by first | rfl | simp [stL, rm1, clr2, cat_rf, cat_i, cat_j, cat_f, cat_d]) ?_
    refine g_aload_n X dJ12_copyOf_2_25 rfl rfl ?_
    refine g_iconst (v := (0 : Int32)) X dJ12_copyOf_2_26 (by decide) ?_
    refine g_aload_n X dJ12_copyOf_2_27 rfl rfl ?_
    refine g_iconst (v := (0 : Int32)) X dJ12_copyOf_2_28 (by decide) ?_
    refine g_aload_n X dJ12_copyOf_2_29 rfl rfl ?_
    obtain ⟨v3, ev3, hF⟩ := bnd hF
    refine g_alen X ev3 dJ12_copyOf_2_30 ?_
    refine g_iload_n X dJ12_copyOf_2_31 rfl rfl ?_
    refine g_callS X (w_J11_min l hl D dA h2 v3 a2) q390 q391 q108 q392 okn_J11_min ⟨by rw [hRf]; exact Nat.le_of_ble_eq_true rfl, by rw [hRl]; exact Nat.le_of_ble_eq_true rfl⟩ (As := [.int v3, .int a2]) (rest := [.int (0 : Int32), va_rf (some (hSz h0)), .int (0 : Int32), va_rf a1]) rfl (by first | exact Nat.le_of_ble_eq_true rfl | simp [cat_rf, cat_i, cat_j, cat_f, cat_d]) dJ12_copyOf_2_32 (ac_v ?_)
    obtain ⟨h4, eh4, hF⟩ := bnd hF
    refine g_copyR X q393 ⟨by rw [hRf]; exact Nat.le_of_ble_eq_true rfl, by rw [hRl]; exact Nat.le_of_ble_eq_true rfl⟩ (by first | exact Nat.le_of_ble_eq_true rfl | simp [cat_rf, cat_i, cat_j, cat_f, cat_d]) eh4 dJ12_copyOf_2_35 ?_
    refine g_aload_n X dJ12_copyOf_2_38 rfl rfl ?_
    cases hF
    exact g_aret X hr (Or.inr ⟨_, rfl⟩) dJ12_copyOf_2_39
def F_J12_copyOf (a1 : Option Nat) (a2 : Int32) (h0 : HH) : Option (Option Nat × HH) :=
  Option.bind (isA h0 2 a1) fun ob1 =>
  b2 (F_J12_copyOf_2 a1 a2 (some (hSa h0 20)) h0) fun v3 h2 =>
  some (v3, h2)
set_option maxHeartbeats 4000000 in
theorem w_J12_copyOf (l : Launch) (hl : l.stackTraces = false) (D : va_G) (dA : Nat → ClassId) (h0 : HH) (a1 : Option Nat) (a2 : Int32) (rE : Option Nat) (hE : HH) (hF : F_J12_copyOf a1 a2 h0 = some (rE, hE)) : MC D dA l yJ12_copyOf cJ12_copyOf 2 (Option.some (Jvm.ClassFile.FieldType.array (Jvm.ClassFile.FieldType.object "java/lang/Object"))) [] 2 63 [va_rf a1, .int a2] h0 (.inr (some (va_rf rE)), hE) := by
  refine mc_of hl (plainFor_of_name pn_J12) (by simp [lg_sl, cat_rf, cat_i, cat_j, cat_f, cat_d]) ?_
  intro p e s m args below meth c R hRf hRl X hr hnm
  unfold F_J12_copyOf at hF
  rw [show argL [va_rf a1, .int a2] = [some (va_rf a1), some (.int a2)] from by simp [argL, cat_rf, cat_i, cat_j, cat_f, cat_d]]
  refine g_aload_n X dJ12_copyOf_0 rfl rfl ?_
  refine g_iload_n X dJ12_copyOf_1 rfl rfl ?_
  refine g_aload_n X dJ12_copyOf_2 rfl rfl ?_
  obtain ⟨ob1, eob1, hF⟩ := bnd hF
  refine g_getC X eob1 q366 ⟨by rw [hRf]; exact Nat.le_of_ble_eq_true rfl, by rw [hRl]; exact Nat.le_of_ble_eq_true rfl⟩ (by first | exact Nat.le_of_ble_eq_true rfl | simp [cat_rf, cat_i, cat_j, cat_f, cat_d]) dJ12_copyOf_3 ?_
  obtain ⟨v3, h2, eh2, hF⟩ := b2_some hF
  refine g_callS X (w_J12_copyOf_2 l hl D dA h0 a1 a2 (some (hSa h0 20)) v3 h2 eh2) q385 q386 q109 q387 okn_J12_copyOf_2 ⟨by rw [hRf]; exact Nat.le_of_ble_eq_true rfl, by rw [hRl]; exact Nat.le_of_ble_eq_true rfl⟩ (As := [va_rf a1, .int a2, va_rf (some (hSa h0 20))]) (rest := []) rfl (by first | exact Nat.le_of_ble_eq_true rfl | simp [cat_rf, cat_i, cat_j, cat_f, cat_d]) dJ12_copyOf_6 (ac_v ?_)
  cases hF
  exact g_aret X hr (Or.inr ⟨_, rfl⟩) dJ12_copyOf_9
def F_J10_newLength (a1 : Int32) (a2 : Int32) (a3 : Int32) (h0 : HH) : Option Int32 :=
  if (a1 + (F_J11_max a2 a3)) ≤ (0 : Int32) then (
    none
  ) else (
    if (2147483639 : Int32) < (a1 + (F_J11_max a2 a3)) then (
      none
    ) else (
      some (a1 + (F_J11_max a2 a3))
    )
  )
set_option maxHeartbeats 4000000 in
theorem w_J10_newLength (l : Launch) (hl : l.stackTraces = false) (D : va_G) (dA : Nat → ClassId) (h0 : HH) (a1 : Int32) (a2 : Int32) (a3 : Int32) (rE : Int32) (hF : F_J10_newLength a1 a2 a3 h0 = some rE) : MC D dA l yJ10_newLength cJ10_newLength 4 (Option.some Jvm.ClassFile.FieldType.int) [] 1 21 [.int a1, .int a2, .int a3] h0 (.inr (some (.int rE)), h0) := by
  refine mc_of hl (plainFor_of_name pn_J10) (by simp [lg_sl, cat_rf, cat_i, cat_j, cat_f, cat_d]) ?_
  intro p e s m args below meth c R hRf hRl X hr hnm
  unfold F_J10_newLength at hF
  rw [show argL [.int a1, .int a2, .int a3] = [some (.int a1), some (.int a2), some (.int a3)] from by simp [argL, cat_rf, cat_i, cat_j, cat_f, cat_d]]
  refine G.pad 1 (L' := [some (.int a1), some (.int a2), some (.int a3), none]) rfl ?_
  refine g_iload_n X dJ10_newLength_0 rfl rfl ?_
  refine g_iload_n X dJ10_newLength_1 rfl rfl ?_
  refine g_iload_n X dJ10_newLength_2 rfl rfl ?_
  refine g_callS X (w_J11_max l hl D dA h0 a2 a3) q356 q357 q108 q358 okn_J11_max ⟨by rw [hRf]; exact Nat.le_of_ble_eq_true rfl, by rw [hRl]; exact Nat.le_of_ble_eq_true rfl⟩ (As := [.int a2, .int a3]) (rest := [.int a1]) rfl (by first | exact Nat.le_of_ble_eq_true rfl | simp [cat_rf, cat_i, cat_j, cat_f, cat_d]) dJ10_newLength_3 (ac_v ?_)
  refine g_iadd X dJ10_newLength_6 ?_
  refine g_istore_n (L' := [some (.int a1), some (.int a2), some (.int a3), some (.int (a1 + (F_J11_max a2 a3)))]) X dJ10_newLength_7 rfl (Nat.le_of_ble_eq_true rfl) (by first | rfl | simp [stL, rm1, clr2, cat_rf, cat_i, cat_j, cat_f, cat_d]) ?_
  refine g_iconst (v := (0 : Int32)) X dJ10_newLength_8 (by decide) ?_
  refine g_iload_n X dJ10_newLength_9 rfl rfl ?_
  refine g_icmp_ge X 21 dJ10_newLength_10 (by decide) (fun c1 => ?_) (fun c1 => ?_)
  · have hF := (if_pos c1).symm.trans hF
    cases hF
  · have hF := (if_neg c1).symm.trans hF
    refine g_iload_n X dJ10_newLength_13 rfl rfl ?_
    refine g_ldc (v := (2147483639 : Int32)) X q359 dJ10_newLength_14 ?_
    refine g_icmp_gt X 21 dJ10_newLength_16 (by decide) (fun c2 => ?_) (fun c2 => ?_)
    · have hF := (if_pos c2).symm.trans hF
      cases hF
    · have hF := (if_neg c2).symm.trans hF
      refine g_iload_n X dJ10_newLength_19 rfl rfl ?_
      cases hF
      exact g_iret X hr dJ10_newLength_20
def F_J2_grow_2_T20 (this : Nat) (a1 : Int32) (t2_20 : Int32) (h_20 : HH) : Option (Option Nat × HH) :=
  Option.bind (F_J10_newLength t2_20 (a1 - t2_20) (t2_20 >>> ((1 : Int32) &&& 31)) h_20) fun v3 =>
  Option.bind (getR h_20 8 1 (some this)) fun v4 =>
  b2 (F_J12_copyOf v4 v3 h_20) fun v6 h5 =>
  Option.bind (putV h5 8 1 (some this) (va_rf v6)) fun h7 =>
  some (v6, h7)
def F_J2_grow_2 (this : Nat) (a1 : Int32) (h0 : HH) : Option (Option Nat × HH) :=
  Option.bind (getR h0 8 1 (some this)) fun v1 =>
  Option.bind (alen h0 v1) fun v2 =>
  if 0 < v2 then (
    F_J2_grow_2_T20 this a1 v2 h0
  ) else (
    Option.bind (getR h0 8 1 (some this)) fun v9 =>
    if v9 = (some (hSa h0 0)) then (
      Option.bind (newA h0 2 (F_J11_max (10 : Int32) a1)) fun h11 =>
      Option.bind (putV h11 8 1 (some this) (va_rf (some (hSz h0)))) fun h12 =>
      some ((some (hSz h0)), h12)
    ) else (
      F_J2_grow_2_T20 this a1 v2 h0
    )
  )
set_option maxHeartbeats 4000000 in
theorem w_J2_grow_2 (l : Launch) (hl : l.stackTraces = false) (D : va_G) (dA : Nat → ClassId) (h0 : HH) (this : Nat) (a1 : Int32) (rE : Option Nat) (hE : HH) (hF : F_J2_grow_2 this a1 h0 = some (rE, hE)) : MC D dA l yJ2_grow_2 cJ2_grow_2 4 (Option.some (Jvm.ClassFile.FieldType.array (Jvm.ClassFile.FieldType.object "java/lang/Object"))) [] 3 84 [va_rf (some this), .int a1] h0 (.inr (some (va_rf rE)), hE) := by
  refine mc_of hl (plainFor_of_name pn_J2) (by simp [lg_sl, cat_rf, cat_i, cat_j, cat_f, cat_d]) ?_
  intro p e s m args below meth c R hRf hRl X hr hnm
  unfold F_J2_grow_2 at hF
  rw [show argL [va_rf (some this), .int a1] = [some (va_rf (some this)), some (.int a1)] from by simp [argL, cat_rf, cat_i, cat_j, cat_f, cat_d]]
  refine G.pad 2 (L' := [some (va_rf (some this)), some (.int a1), none, none]) rfl ?_
  refine g_aload_n X dJ2_grow_2_0 rfl rfl ?_
  obtain ⟨v1, ev1, hF⟩ := bnd hF
  refine g_get (k := 1) X in_J2 rfl (by decide) q154 (Or.inl rfl) (getR_V ev1) dJ2_grow_2_1 ?_
  obtain ⟨v2, ev2, hF⟩ := bnd hF
  refine g_alen X ev2 dJ2_grow_2_4 ?_
  refine g_istore_n (L' := [some (va_rf (some this)), some (.int a1), some (.int v2), none]) X dJ2_grow_2_5 rfl (Nat.le_of_ble_eq_true rfl) (by first | rfl | simp [stL, rm1, clr2, cat_rf, cat_i, cat_j, cat_f, cat_d]) ?_
  refine g_iload_n X dJ2_grow_2_6 rfl rfl ?_
  have T20 : ∀ (t2_20 : Int32) (h_20 : HH) , F_J2_grow_2_T20 this a1 t2_20 h_20 = some (rE, hE) → G p l e R s m args below meth c (RQ D dA h0 (.inr (some (va_rf rE)), hE) below s) D dA h0 4 h_20 20 [some (va_rf (some this)), some (.int a1), some (.int t2_20), none] [] := by
    intro t2_20 h_20  hF 
    unfold F_J2_grow_2_T20 at hF
    refine g_iload_n X dJ2_grow_2_20 rfl rfl ?_
    refine g_iload_n X dJ2_grow_2_21 rfl rfl ?_
    refine g_iload_n X dJ2_grow_2_22 rfl rfl ?_
    refine g_isub X dJ2_grow_2_23 ?_
    refine g_iload_n X dJ2_grow_2_24 rfl rfl ?_
    refine g_iconst (v := (1 : Int32)) X dJ2_grow_2_25 (by decide) ?_
    refine g_ishr X dJ2_grow_2_26 ?_
    obtain ⟨v3, ev3, hF⟩ := bnd hF
    refine g_callS X (w_J10_newLength l hl D dA h_20 t2_20 (a1 - t2_20) (t2_20 >>> ((1 : Int32) &&& 31)) v3 ev3) q353 q354 q107 q355 okn_J10_newLength ⟨by rw [hRf]; exact Nat.le_of_ble_eq_true rfl, by rw [hRl]; exact Nat.le_of_ble_eq_true rfl⟩ (As := [.int t2_20, .int (a1 - t2_20), .int (t2_20 >>> ((1 : Int32) &&& 31))]) (rest := []) rfl (by first | exact Nat.le_of_ble_eq_true rfl | simp [cat_rf, cat_i, cat_j, cat_f, cat_d]) dJ2_grow_2_27 (ac_v ?_)
    refine g_istore_n (L' := [some (va_rf (some this)), some (.int a1), some (.int t2_20), some (.int v3)]) X dJ2_grow_2_30 rfl (Nat.le_of_ble_eq_true rfl) (by first | rfl | simp [stL, rm1, clr2, cat_rf, cat_i, cat_j, cat_f, cat_d]) ?_
    refine g_aload_n X dJ2_grow_2_31 rfl rfl ?_
    refine g_aload_n X dJ2_grow_2_32 rfl rfl ?_
    obtain ⟨v4, ev4, hF⟩ := bnd hF
    refine g_get (k := 1) X in_J2 rfl (by decide) q154 (Or.inl rfl) (getR_V ev4) dJ2_grow_2_33 ?_
    refine g_iload_n X dJ2_grow_2_36 rfl rfl ?_
    obtain ⟨v6, h5, eh5, hF⟩ := b2_some hF
    refine g_callS X (w_J12_copyOf l hl D dA h_20 v4 v3 v6 h5 eh5) q363 q364 q109 q365 okn_J12_copyOf ⟨by rw [hRf]; exact Nat.le_of_ble_eq_true rfl, by rw [hRl]; exact Nat.le_of_ble_eq_true rfl⟩ (As := [va_rf v4, .int v3]) (rest := [va_rf (some this)]) rfl (by first | exact Nat.le_of_ble_eq_true rfl | simp [cat_rf, cat_i, cat_j, cat_f, cat_d]) dJ2_grow_2_37 (ac_v ?_)
    refine g_dup_x1 X dJ2_grow_2_40 (cat_rf _) (cat_rf _) ?_
    obtain ⟨h7, eh7, hF⟩ := bnd hF
    refine g_put (k := 1) X in_J2 tyJ2 tyJ2_ok nmJ2 rfl (by decide) q154 (Or.inl rfl) rfl (tyJ2_ok 1 (by decide)) (narrow_rfA _ _) (fits_rfA _ _) eh7 dJ2_grow_2_41 ?_
    cases hF
    exact g_aret X hr (Or.inr ⟨_, rfl⟩) dJ2_grow_2_44
  refine g_if_gt X 20 dJ2_grow_2_7 (by decide) (fun c8 => ?_) (fun c8 => ?_)
  · have hF := (if_pos c8).symm.trans hF
    exact T20 _ _ hF
  · have hF := (if_neg c8).symm.trans hF
    refine g_aload_n X dJ2_grow_2_10 rfl rfl ?_
    obtain ⟨v9, ev9, hF⟩ := bnd hF
    refine g_get (k := 1) X in_J2 rfl (by decide) q154 (Or.inl rfl) (getR_V ev9) dJ2_grow_2_11 ?_
    refine g_getsD X q152 rfl dJ2_grow_2_14 ?_
    refine g_acmp_eq X 45 dJ2_grow_2_17 (by decide) (fun c10 => ?_) (fun c10 => ?_)
    · have hF := (if_pos c10).symm.trans hF
      refine g_aload_n X dJ2_grow_2_45 rfl rfl ?_
      refine g_bipush (v := (10 : Int32)) X dJ2_grow_2_46 (by decide) ?_
      refine g_iload_n X dJ2_grow_2_48 rfl rfl ?_
      refine g_callS X (w_J11_max l hl D dA h0 (10 : Int32) a1) q396 q357 q108 q358 okn_J11_max ⟨by rw [hRf]; exact Nat.le_of_ble_eq_true rfl, by rw [hRl]; exact Nat.le_of_ble_eq_true rfl⟩ (As := [.int (10 : Int32), .int a1]) (rest := [va_rf (some this)]) rfl (by first | exact Nat.le_of_ble_eq_true rfl | simp [cat_rf, cat_i, cat_j, cat_f, cat_d]) dJ2_grow_2_49 (ac_v ?_)
      obtain ⟨h11, eh11, hF⟩ := bnd hF
      refine g_newq (t := 2) X q397 rfl X.2.2.2.2.2.1.2.2.2.1.1 (funext fun _ => rfl) eh11 dJ2_grow_2_52 ?_
      refine g_dup_x1 X dJ2_grow_2_55 (cat_rf _) (cat_rf _) ?_
      obtain ⟨h12, eh12, hF⟩ := bnd hF
      refine g_put (k := 1) X in_J2 tyJ2 tyJ2_ok nmJ2 rfl (by decide) q154 (Or.inl rfl) rfl (tyJ2_ok 1 (by decide)) (narrow_rfA _ _) (fits_rfA _ _) eh12 dJ2_grow_2_56 ?_
      cases hF
      exact g_aret X hr (Or.inr ⟨_, rfl⟩) dJ2_grow_2_59
    · have hF := (if_neg c10).symm.trans hF
      exact T20 _ _ hF
def F_J2_grow (this : Nat) (h0 : HH) : Option (Option Nat × HH) :=
  Option.bind (getI h0 8 2 (some this)) fun v1 =>
  Option.bind (isO h0 8 (some this)) fun ob2 =>
  b2 (F_J2_grow_2 ob2 (v1 + (1 : Int32)) h0) fun v4 h3 =>
  some (v4, h3)
set_option maxHeartbeats 4000000 in
theorem w_J2_grow (l : Launch) (hl : l.stackTraces = false) (D : va_G) (dA : Nat → ClassId) (h0 : HH) (this : Nat) (rE : Option Nat) (hE : HH) (hF : F_J2_grow this h0 = some (rE, hE)) : MC D dA l yJ2_grow cJ2_grow 1 (Option.some (Jvm.ClassFile.FieldType.array (Jvm.ClassFile.FieldType.object "java/lang/Object"))) [] 4 107 [va_rf (some this)] h0 (.inr (some (va_rf rE)), hE) := by
  refine mc_of hl (plainFor_of_name pn_J2) (by simp [lg_sl, cat_rf, cat_i, cat_j, cat_f, cat_d]) ?_
  intro p e s m args below meth c R hRf hRl X hr hnm
  unfold F_J2_grow at hF
  rw [show argL [va_rf (some this)] = [some (va_rf (some this))] from by simp [argL, cat_rf, cat_i, cat_j, cat_f, cat_d]]
  refine g_aload_n X dJ2_grow_0 rfl rfl ?_
  refine g_aload_n X dJ2_grow_1 rfl rfl ?_
  obtain ⟨v1, ev1, hF⟩ := bnd hF
  refine g_get (k := 2) X in_J2 rfl (by decide) q155 (Or.inl rfl) (getI_V ev1) dJ2_grow_2 ?_
  refine g_iconst (v := (1 : Int32)) X dJ2_grow_5 (by decide) ?_
  refine g_iadd X dJ2_grow_6 ?_
  obtain ⟨ob2, eob2, hF⟩ := bnd hF
  obtain ⟨v4, h3, eh3, hF⟩ := b2_some hF
  refine g_callV X eob2 rfl rfl (w_J2_grow_2 l hl D dA h0 ob2 (v1 + (1 : Int32)) v4 h3 eh3) q349 q351 qs3 q96 q352 okn_J2_grow_2 ⟨by rw [hRf]; exact Nat.le_of_ble_eq_true rfl, by rw [hRl]; exact Nat.le_of_ble_eq_true rfl⟩ (As := [.int (v1 + (1 : Int32))]) (rest := []) rfl (by first | exact Nat.le_of_ble_eq_true rfl | simp [cat_rf, cat_i, cat_j, cat_f, cat_d]) dJ2_grow_7 (ac_v ?_)
  cases hF
  exact g_aret X hr (Or.inr ⟨_, rfl⟩) dJ2_grow_10
def F_J2_add_2_T11 (this : Nat) (a1 : Option Nat) (a2 : Option Nat) (a3 : Int32) (t2_11 : Option Nat) (h_11 : HH) : Option HH :=
  Option.bind (astR h_11 2 t2_11 a3 a1) fun h2 =>
  Option.bind (putV h2 8 2 (some this) (.int (a3 + (1 : Int32)))) fun h3 =>
  some h3
def F_J2_add_2 (this : Nat) (a1 : Option Nat) (a2 : Option Nat) (a3 : Int32) (h0 : HH) : Option HH :=
  Option.bind (alen h0 a2) fun v1 =>
  if a3 = v1 then (
    Option.bind (isO h0 8 (some this)) fun ob5 =>
    b2 (F_J2_grow ob5 h0) fun v7 h6 =>
    F_J2_add_2_T11 this a1 a2 a3 v7 h6
  ) else (
    F_J2_add_2_T11 this a1 a2 a3 a2 h0
  )
set_option maxHeartbeats 4000000 in
theorem w_J2_add_2 (l : Launch) (hl : l.stackTraces = false) (D : va_G) (dA : Nat → ClassId) (h0 : HH) (this : Nat) (a1 : Option Nat) (a2 : Option Nat) (a3 : Int32) (hE : HH) (hF : F_J2_add_2 this a1 a2 a3 h0 = some hE) : MC D dA l yJ2_add_2 cJ2_add_2 4 (Option.none : Option Jvm.ClassFile.FieldType) [] 5 127 [va_rf (some this), va_rf a1, va_rf a2, .int a3] h0 (.inr none, hE) := by
  refine mc_of hl (plainFor_of_name pn_J2) (by simp [lg_sl, cat_rf, cat_i, cat_j, cat_f, cat_d]) ?_
  intro p e s m args below meth c R hRf hRl X hr hnm
  unfold F_J2_add_2 at hF
  rw [show argL [va_rf (some this), va_rf a1, va_rf a2, .int a3] = [some (va_rf (some this)), some (va_rf a1), some (va_rf a2), some (.int a3)] from by simp [argL, cat_rf, cat_i, cat_j, cat_f, cat_d]]
  refine g_iload_n X dJ2_add_2_0 rfl rfl ?_
  refine g_aload_n X dJ2_add_2_1 rfl rfl ?_
  obtain ⟨v1, ev1, hF⟩ := bnd hF
  refine g_alen X ev1 dJ2_add_2_2 ?_
  have T11 : ∀ (t2_11 : Option Nat) (h_11 : HH) , F_J2_add_2_T11 this a1 a2 a3 t2_11 h_11 = some hE → G p l e R s m args below meth c (RQ D dA h0 (.inr none, hE) below s) D dA h0 4 h_11 11 [some (va_rf (some this)), some (va_rf a1), some (va_rf t2_11), some (.int a3)] [] := by
    intro t2_11 h_11  hF 
    unfold F_J2_add_2_T11 at hF
    refine g_aload_n X dJ2_add_2_11 rfl rfl ?_
    refine g_iload_n X dJ2_add_2_12 rfl rfl ?_
    refine g_aload_n X dJ2_add_2_13 rfl rfl ?_
    obtain ⟨h2, eh2, hF⟩ := bnd hF
    refine g_aast X eh2 dJ2_add_2_14 ?_
    refine g_aload_n X dJ2_add_2_15 rfl rfl ?_
    refine g_iload_n X dJ2_add_2_16 rfl rfl ?_
    refine g_iconst (v := (1 : Int32)) X dJ2_add_2_17 (by decide) ?_
    refine g_iadd X dJ2_add_2_18 ?_
    obtain ⟨h3, eh3, hF⟩ := bnd hF
    refine g_put (k := 2) X in_J2 tyJ2 tyJ2_ok nmJ2 rfl (by decide) q155 (Or.inl rfl) rfl (tyJ2_ok 2 (by decide)) rfl rfl eh3 dJ2_add_2_19 ?_
    cases hF
    exact g_vret X hr dJ2_add_2_22
  refine g_icmp_ne X 11 dJ2_add_2_3 (by decide) (fun c4 => ?_) (fun c4 => ?_)
  · have hF := (if_neg c4).symm.trans hF
    exact T11 _ _ hF
  · have hF := (if_pos c4).symm.trans hF
    refine g_aload_n X dJ2_add_2_6 rfl rfl ?_
    obtain ⟨ob5, eob5, hF⟩ := bnd hF
    obtain ⟨v7, h6, eh6, hF⟩ := b2_some hF
    refine g_callV X eob5 rfl rfl (w_J2_grow l hl D dA h0 ob5  v7 h6 eh6) q345 q347 qs2 q96 q348 okn_J2_grow ⟨by rw [hRf]; exact Nat.le_of_ble_eq_true rfl, by rw [hRl]; exact Nat.le_of_ble_eq_true rfl⟩ (As := []) (rest := []) rfl (by first | exact Nat.le_of_ble_eq_true rfl | simp [cat_rf, cat_i, cat_j, cat_f, cat_d]) dJ2_add_2_7 (ac_v ?_)
    refine g_astore_n (L' := [some (va_rf (some this)), some (va_rf a1), some (va_rf v7), some (.int a3)]) X dJ2_add_2_10 rfl (Nat.le_of_ble_eq_true rfl) (by first | rfl | simp [stL, rm1, clr2, cat_rf, cat_i, cat_j, cat_f, cat_d]) ?_
    exact T11 _ _ hF
def F_J2_add (this : Nat) (a1 : Option Nat) (h0 : HH) : Option (Int32 × HH) :=
  Option.bind (getI h0 8 0 (some this)) fun v1 =>
  Option.bind (putV h0 8 0 (some this) (.int (v1 + (1 : Int32)))) fun h2 =>
  Option.bind (getR h2 8 1 (some this)) fun v3 =>
  Option.bind (getI h2 8 2 (some this)) fun v4 =>
  Option.bind (isO h2 8 (some this)) fun ob5 =>
  Option.bind (F_J2_add_2 ob5 a1 v3 v4 h2) fun h6 =>
  some ((1 : Int32), h6)
set_option maxHeartbeats 4000000 in
theorem w_J2_add (l : Launch) (hl : l.stackTraces = false) (D : va_G) (dA : Nat → ClassId) (h0 : HH) (this : Nat) (a1 : Option Nat) (rE : Int32) (hE : HH) (hF : F_J2_add this a1 h0 = some (rE, hE)) : MC D dA l yJ2_add cJ2_add 2 (Option.some Jvm.ClassFile.FieldType.boolean) [] 6 150 [va_rf (some this), va_rf a1] h0 (.inr (some (.int rE)), hE) := by
  refine mc_of hl (plainFor_of_name pn_J2) (by simp [lg_sl, cat_rf, cat_i, cat_j, cat_f, cat_d]) ?_
  intro p e s m args below meth c R hRf hRl X hr hnm
  unfold F_J2_add at hF
  rw [show argL [va_rf (some this), va_rf a1] = [some (va_rf (some this)), some (va_rf a1)] from by simp [argL, cat_rf, cat_i, cat_j, cat_f, cat_d]]
  refine g_aload_n X dJ2_add_0 rfl rfl ?_
  refine g_dup X dJ2_add_1 (cat_rf _) ?_
  obtain ⟨v1, ev1, hF⟩ := bnd hF
  refine g_get (k := 0) X in_J2 rfl (by decide) q157 (Or.inr q158) (getI_V ev1) dJ2_add_2 ?_
  refine g_iconst (v := (1 : Int32)) X dJ2_add_5 (by decide) ?_
  refine g_iadd X dJ2_add_6 ?_
  obtain ⟨h2, eh2, hF⟩ := bnd hF
  refine g_put (k := 0) X in_J2 tyJ2 tyJ2_ok nmJ2 rfl (by decide) q157 (Or.inr q158) rfl (tyJ2_ok 0 (by decide)) rfl rfl eh2 dJ2_add_7 ?_
  refine g_aload_n X dJ2_add_10 rfl rfl ?_
  refine g_aload_n X dJ2_add_11 rfl rfl ?_
  refine g_aload_n X dJ2_add_12 rfl rfl ?_
  obtain ⟨v3, ev3, hF⟩ := bnd hF
  refine g_get (k := 1) X in_J2 rfl (by decide) q154 (Or.inl rfl) (getR_V ev3) dJ2_add_13 ?_
  refine g_aload_n X dJ2_add_16 rfl rfl ?_
  obtain ⟨v4, ev4, hF⟩ := bnd hF
  refine g_get (k := 2) X in_J2 rfl (by decide) q155 (Or.inl rfl) (getI_V ev4) dJ2_add_17 ?_
  obtain ⟨ob5, eob5, hF⟩ := bnd hF
  obtain ⟨h6, eh6, hF⟩ := bnd hF
  refine g_callV X eob5 rfl rfl (w_J2_add_2 l hl D dA h2 ob5 a1 v3 v4 h6 eh6) q341 q343 qs1 q96 q344 okn_J2_add_2 ⟨by rw [hRf]; exact Nat.le_of_ble_eq_true rfl, by rw [hRl]; exact Nat.le_of_ble_eq_true rfl⟩ (As := [va_rf a1, va_rf v3, .int v4]) (rest := []) rfl (by first | exact Nat.le_of_ble_eq_true rfl | simp [cat_rf, cat_i, cat_j, cat_f, cat_d]) dJ2_add_20 (ac_0 ?_)
  refine g_iconst (v := (1 : Int32)) X dJ2_add_23 (by decide) ?_
  cases hF
  exact g_zret X hr rfl dJ2_add_24
def F_J2_elementData (this : Nat) (a1 : Int32) (h0 : HH) : Option (Option Nat) :=
  Option.bind (getR h0 8 1 (some this)) fun v1 =>
  Option.bind (aldR h0 2 v1 a1) fun v2 =>
  some v2
set_option maxHeartbeats 4000000 in
theorem w_J2_elementData (l : Launch) (hl : l.stackTraces = false) (D : va_G) (dA : Nat → ClassId) (h0 : HH) (this : Nat) (a1 : Int32) (rE : Option Nat) (hF : F_J2_elementData this a1 h0 = some rE) : MC D dA l yJ2_elementData cJ2_elementData 2 (Option.some (Jvm.ClassFile.FieldType.object "java/lang/Object")) [] 0 0 [va_rf (some this), .int a1] h0 (.inr (some (va_rf rE)), h0) := by
  refine mc_of hl (plainFor_of_name pn_J2) (by simp [lg_sl, cat_rf, cat_i, cat_j, cat_f, cat_d]) ?_
  intro p e s m args below meth c R hRf hRl X hr hnm
  unfold F_J2_elementData at hF
  rw [show argL [va_rf (some this), .int a1] = [some (va_rf (some this)), some (.int a1)] from by simp [argL, cat_rf, cat_i, cat_j, cat_f, cat_d]]
  refine g_aload_n X dJ2_elementData_0 rfl rfl ?_
  obtain ⟨v1, ev1, hF⟩ := bnd hF
  refine g_get (k := 1) X in_J2 rfl (by decide) q154 (Or.inl rfl) (getR_V ev1) dJ2_elementData_1 ?_
  refine g_iload_n X dJ2_elementData_4 rfl rfl ?_
  obtain ⟨v2, ev2, hF⟩ := bnd hF
  refine g_aald X rfl ev2 dJ2_elementData_5 ?_
  cases hF
  exact g_aret X hr (Or.inl ⟨_, rfl⟩) dJ2_elementData_6
def F_J9_checkIndex (a1 : Int32) (a2 : Int32) (a3 : Option Nat) (h0 : HH) : Option Int32 :=
  if a1 < 0 then (
    none
  ) else (
    if a1 < a2 then (
      some a1
    ) else (
      none
    )
  )
set_option maxHeartbeats 4000000 in
theorem w_J9_checkIndex (l : Launch) (hl : l.stackTraces = false) (D : va_G) (dA : Nat → ClassId) (h0 : HH) (a1 : Int32) (a2 : Int32) (a3 : Option Nat) (rE : Int32) (hF : F_J9_checkIndex a1 a2 a3 h0 = some rE) : MC D dA l yJ9_checkIndex cJ9_checkIndex 3 (Option.some Jvm.ClassFile.FieldType.int) [] 0 0 [.int a1, .int a2, va_rf a3] h0 (.inr (some (.int rE)), h0) := by
  refine mc_of hl (plainFor_of_name pn_J9) (by simp [lg_sl, cat_rf, cat_i, cat_j, cat_f, cat_d]) ?_
  intro p e s m args below meth c R hRf hRl X hr hnm
  unfold F_J9_checkIndex at hF
  rw [show argL [.int a1, .int a2, va_rf a3] = [some (.int a1), some (.int a2), some (va_rf a3)] from by simp [argL, cat_rf, cat_i, cat_j, cat_f, cat_d]]
  refine g_iload_n X dJ9_checkIndex_0 rfl rfl ?_
  refine g_if_lt X 9 dJ9_checkIndex_1 (by decide) (fun c1 => ?_) (fun c1 => ?_)
  · have hF := (if_pos c1).symm.trans hF
    refine g_aload_n X dJ9_checkIndex_9 rfl rfl ?_
    refine g_iload_n X dJ9_checkIndex_10 rfl rfl ?_
    refine g_iload_n X dJ9_checkIndex_11 rfl rfl ?_
    cases hF
  · have hF := (if_neg c1).symm.trans hF
    refine g_iload_n X dJ9_checkIndex_4 rfl rfl ?_
    refine g_iload_n X dJ9_checkIndex_5 rfl rfl ?_
    refine g_icmp_lt X 16 dJ9_checkIndex_6 (by decide) (fun c2 => ?_) (fun c2 => ?_)
    · have hF := (if_pos c2).symm.trans hF
      refine g_iload_n X dJ9_checkIndex_16 rfl rfl ?_
      cases hF
      exact g_iret X hr dJ9_checkIndex_17
    · have hF := (if_neg c2).symm.trans hF
      refine g_aload_n X dJ9_checkIndex_9 rfl rfl ?_
      refine g_iload_n X dJ9_checkIndex_10 rfl rfl ?_
      refine g_iload_n X dJ9_checkIndex_11 rfl rfl ?_
      cases hF
def F_J8_checkIndex (a1 : Int32) (a2 : Int32) (h0 : HH) : Option Int32 :=
  Option.bind (F_J9_checkIndex a1 a2 none h0) fun v1 =>
  some v1
set_option maxHeartbeats 4000000 in
theorem w_J8_checkIndex (l : Launch) (hl : l.stackTraces = false) (D : va_G) (dA : Nat → ClassId) (h0 : HH) (a1 : Int32) (a2 : Int32) (rE : Int32) (hF : F_J8_checkIndex a1 a2 h0 = some rE) : MC D dA l yJ8_checkIndex cJ8_checkIndex 2 (Option.some Jvm.ClassFile.FieldType.int) [] 1 22 [.int a1, .int a2] h0 (.inr (some (.int rE)), h0) := by
  refine mc_of hl (plainFor_of_name pn_J8) (by simp [lg_sl, cat_rf, cat_i, cat_j, cat_f, cat_d]) ?_
  intro p e s m args below meth c R hRf hRl X hr hnm
  unfold F_J8_checkIndex at hF
  rw [show argL [.int a1, .int a2] = [some (.int a1), some (.int a2)] from by simp [argL, cat_rf, cat_i, cat_j, cat_f, cat_d]]
  refine g_iload_n X dJ8_checkIndex_0 rfl rfl ?_
  refine g_iload_n X dJ8_checkIndex_1 rfl rfl ?_
  refine g_null X dJ8_checkIndex_2 ?_
  obtain ⟨v1, ev1, hF⟩ := bnd hF
  refine g_callS X (w_J9_checkIndex l hl D dA h0 a1 a2 none v1 ev1) q301 q302 q106 q303 okn_J9_checkIndex ⟨by rw [hRf]; exact Nat.le_of_ble_eq_true rfl, by rw [hRl]; exact Nat.le_of_ble_eq_true rfl⟩ (As := [.int a1, .int a2, va_rf none]) (rest := []) rfl (by first | exact Nat.le_of_ble_eq_true rfl | simp [cat_rf, cat_i, cat_j, cat_f, cat_d]) dJ8_checkIndex_3 (ac_v ?_)
  cases hF
  exact g_iret X hr dJ8_checkIndex_6
def F_J2_get (this : Nat) (a1 : Int32) (h0 : HH) : Option (Option Nat) :=
  Option.bind (getI h0 8 2 (some this)) fun v1 =>
  Option.bind (F_J8_checkIndex a1 v1 h0) fun v2 =>
  Option.bind (isO h0 8 (some this)) fun ob3 =>
  Option.bind (F_J2_elementData ob3 a1 h0) fun v4 =>
  some v4
set_option maxHeartbeats 4000000 in
theorem w_J2_get (l : Launch) (hl : l.stackTraces = false) (D : va_G) (dA : Nat → ClassId) (h0 : HH) (this : Nat) (a1 : Int32) (rE : Option Nat) (hF : F_J2_get this a1 h0 = some rE) : MC D dA l yJ2_get cJ2_get 2 (Option.some (Jvm.ClassFile.FieldType.object "java/lang/Object")) [] 2 43 [va_rf (some this), .int a1] h0 (.inr (some (va_rf rE)), h0) := by
  refine mc_of hl (plainFor_of_name pn_J2) (by simp [lg_sl, cat_rf, cat_i, cat_j, cat_f, cat_d]) ?_
  intro p e s m args below meth c R hRf hRl X hr hnm
  unfold F_J2_get at hF
  rw [show argL [va_rf (some this), .int a1] = [some (va_rf (some this)), some (.int a1)] from by simp [argL, cat_rf, cat_i, cat_j, cat_f, cat_d]]
  refine g_iload_n X dJ2_get_0 rfl rfl ?_
  refine g_aload_n X dJ2_get_1 rfl rfl ?_
  obtain ⟨v1, ev1, hF⟩ := bnd hF
  refine g_get (k := 2) X in_J2 rfl (by decide) q155 (Or.inl rfl) (getI_V ev1) dJ2_get_2 ?_
  obtain ⟨v2, ev2, hF⟩ := bnd hF
  refine g_callS X (w_J8_checkIndex l hl D dA h0 a1 v1 v2 ev2) q298 q299 q105 q300 okn_J8_checkIndex ⟨by rw [hRf]; exact Nat.le_of_ble_eq_true rfl, by rw [hRl]; exact Nat.le_of_ble_eq_true rfl⟩ (As := [.int a1, .int v1]) (rest := []) rfl (by first | exact Nat.le_of_ble_eq_true rfl | simp [cat_rf, cat_i, cat_j, cat_f, cat_d]) dJ2_get_5 (ac_v ?_)
  refine g_pop X dJ2_get_8 rfl ?_
  refine g_aload_n X dJ2_get_9 rfl rfl ?_
  refine g_iload_n X dJ2_get_10 rfl rfl ?_
  obtain ⟨ob3, eob3, hF⟩ := bnd hF
  obtain ⟨v4, ev4, hF⟩ := bnd hF
  refine g_callV X eob3 rfl rfl (w_J2_elementData l hl D dA h0 ob3 a1 v4 ev4) q304 q305 q306 q96 q307 okn_J2_elementData ⟨by rw [hRf]; exact Nat.le_of_ble_eq_true rfl, by rw [hRl]; exact Nat.le_of_ble_eq_true rfl⟩ (As := [.int a1]) (rest := []) rfl (by first | exact Nat.le_of_ble_eq_true rfl | simp [cat_rf, cat_i, cat_j, cat_f, cat_d]) dJ2_get_11 (ac_v ?_)
  cases hF
  exact g_aret X hr (Or.inl ⟨_, rfl⟩) dJ2_get_14
def F_J2_size (this : Nat) (h0 : HH) : Option Int32 :=
  Option.bind (getI h0 8 2 (some this)) fun v1 =>
  some v1
set_option maxHeartbeats 4000000 in
theorem w_J2_size (l : Launch) (hl : l.stackTraces = false) (D : va_G) (dA : Nat → ClassId) (h0 : HH) (this : Nat) (rE : Int32) (hF : F_J2_size this h0 = some rE) : MC D dA l yJ2_size cJ2_size 1 (Option.some Jvm.ClassFile.FieldType.int) [] 0 0 [va_rf (some this)] h0 (.inr (some (.int rE)), h0) := by
  refine mc_of hl (plainFor_of_name pn_J2) (by simp [lg_sl, cat_rf, cat_i, cat_j, cat_f, cat_d]) ?_
  intro p e s m args below meth c R hRf hRl X hr hnm
  unfold F_J2_size at hF
  rw [show argL [va_rf (some this)] = [some (va_rf (some this))] from by simp [argL, cat_rf, cat_i, cat_j, cat_f, cat_d]]
  refine g_aload_n X dJ2_size_0 rfl rfl ?_
  obtain ⟨v1, ev1, hF⟩ := bnd hF
  refine g_get (k := 2) X in_J2 rfl (by decide) q155 (Or.inl rfl) (getI_V ev1) dJ2_size_1 ?_
  cases hF
  exact g_iret X hr dJ2_size_4
def F_X2_init_2_B50 (this : Nat) (a1 : Option Nat) (x2_16 : Int32) (h_16 : HH) : Option ((Int32 × HH) ⊕ HH) :=
  Option.bind (getR h_16 2 1 a1) fun v17 =>
  Option.bind (isO h_16 8 v17) fun ob18 =>
  Option.bind (F_J2_size ob18 h_16) fun v19 =>
  if v19 ≤ x2_16 then (
    some (.inr h_16)
  ) else (
    Option.bind (getR h_16 2 1 (some this)) fun v21 =>
    Option.bind (newO h_16 4 5 [.int 0, .int 0, .null, .null, .int 0]) fun h22 =>
    Option.bind (getR h22 2 1 a1) fun v23 =>
    Option.bind (isO h22 8 v23) fun ob24 =>
    Option.bind (F_J2_get ob24 x2_16 h22) fun v25 =>
    Option.bind (castO h22 4 v25) fun _ =>
    Option.bind (nnl (some (hSz h_16))) fun ob27 =>
    Option.bind (F_X5_init ob27 v25 h22) fun h28 =>
    Option.bind (isO h28 8 v21) fun ob29 =>
    b2 (F_J2_add ob29 (some (hSz h_16)) h28) fun v31 h30 =>
    some (.inl ((x2_16 + (1 : Int32)), h30))
  )
def F_X2_init_2_B95 (this : Nat) (a1 : Option Nat) (x2_33 : Int32) (h_33 : HH) : Option ((Int32 × HH) ⊕ HH) :=
  if (4 : Int32) ≤ x2_33 then (
    some (.inr h_33)
  ) else (
    Option.bind (getR h_33 2 2 (some this)) fun v35 =>
    Option.bind (getR h_33 2 2 a1) fun v36 =>
    Option.bind (aldR h_33 3 v36 x2_33) fun v37 =>
    Option.bind (astR h_33 3 v35 x2_33 v37) fun h38 =>
    some (.inl ((x2_33 + (1 : Int32)), h38))
  )
def F_X2_init_2 (this : Nat) (a1 : Option Nat) (h0 : HH) : Option HH :=
  Option.bind (nnl (some this)) fun ob1 =>
  Option.bind (newO h0 8 3 [.int 0, .null, .int 0]) fun h2 =>
  Option.bind (nnl (some (hSz h0))) fun ob3 =>
  Option.bind (F_J2_init ob3 h2) fun h4 =>
  Option.bind (putV h4 2 1 (some this) (va_rf (some (hSz h0)))) fun h5 =>
  Option.bind (newA h5 3 (4 : Int32)) fun h6 =>
  Option.bind (putV h6 2 2 (some this) (va_rf (some (hSz h5)))) fun h7 =>
  Option.bind (newO h7 3 1 [.null]) fun h8 =>
  Option.bind (nnl (some (hSz h7))) fun ob9 =>
  Option.bind (F_X3_init ob9 h8) fun h10 =>
  Option.bind (putV h10 2 3 (some this) (va_rf (some (hSz h7)))) fun h11 =>
  Option.bind (getR h11 2 0 a1) fun v12 =>
  Option.bind (cloneA h11 0 v12) fun h13 =>
  Option.bind (castA h13 0 (some (hSz h11))) fun _ =>
  Option.bind (putV h13 2 0 (some this) (va_rf (some (hSz h11)))) fun h15 =>
  Option.bind (lp (fun z => F_X2_init_2_B50 this a1 z.1 z.2) 100000 ((0 : Int32), h15)) fun h32 =>
  Option.bind (lp (fun z => F_X2_init_2_B95 this a1 z.1 z.2) 100000 ((0 : Int32), h32)) fun h39 =>
  Option.bind (newO h39 3 1 [.null]) fun h40 =>
  Option.bind (getR h40 2 3 a1) fun v41 =>
  Option.bind (nnl (some (hSz h39))) fun ob42 =>
  Option.bind (F_X3_init_2 ob42 v41 h40) fun h43 =>
  Option.bind (putV h43 2 3 (some this) (va_rf (some (hSz h39)))) fun h44 =>
  Option.bind (getI h44 2 4 a1) fun v45 =>
  Option.bind (putV h44 2 4 (some this) (.int v45)) fun h46 =>
  some h46
set_option maxHeartbeats 4000000 in
theorem w_X2_init_2 (l : Launch) (hl : l.stackTraces = false) (D : va_G) (dA : Nat → ClassId) (h0 : HH) (this : Nat) (a1 : Option Nat) (hE : HH) (hF : F_X2_init_2 this a1 h0 = some hE) : MC D dA l yX2_init_2 cX2_init_2 3 (Option.none : Option Jvm.ClassFile.FieldType) [] 7 171 [va_rf (some this), va_rf a1] h0 (.inr none, hE) := by
  refine mc_of hl (plainFor_of_name pn_X2) (by simp [lg_sl, cat_rf, cat_i, cat_j, cat_f, cat_d]) ?_
  intro p e s m args below meth c R hRf hRl X hr hnm
  unfold F_X2_init_2 at hF
  rw [show argL [va_rf (some this), va_rf a1] = [some (va_rf (some this)), some (va_rf a1)] from by simp [argL, cat_rf, cat_i, cat_j, cat_f, cat_d]]
  refine G.pad 1 (L' := [some (va_rf (some this)), some (va_rf a1), none]) rfl ?_
  refine g_aload_n X dX2_init_2_0 rfl rfl ?_
  obtain ⟨ob1, eob1, hF⟩ := bnd hF
  refine g_objInit X ob1 eob1 q139 q132 q133 ⟨by rw [hRf]; exact Nat.le_of_ble_eq_true rfl, by rw [hRl]; exact Nat.le_of_ble_eq_true rfl⟩ (by first | exact Nat.le_of_ble_eq_true rfl | simp [cat_rf, cat_i, cat_j, cat_f, cat_d]) dX2_init_2_1 ?_
  refine g_aload_n X dX2_init_2_4 rfl rfl ?_
  obtain ⟨h2, eh2, hF⟩ := bnd hF
  refine g_new X in_J2 tyJ2 tyJ2_ok rfl q140 q141 q96 rfl dv_J2 eh2 dX2_init_2_5 ?_
  refine g_dup X dX2_init_2_8 (cat_rf _) ?_
  obtain ⟨ob3, eob3, hF⟩ := bnd hF
  obtain ⟨h4, eh4, hF⟩ := bnd hF
  refine g_callI X (nnl_some eob3) (w_J2_init l hl D dA h2 ob3  h4 eh4) rfl q142 q143 q96 q144 okn_J2_init ⟨by rw [hRf]; exact Nat.le_of_ble_eq_true rfl, by rw [hRl]; exact Nat.le_of_ble_eq_true rfl⟩ (As := []) (rest := [va_rf (some (hSz h0)), va_rf (some this)]) rfl (by first | exact Nat.le_of_ble_eq_true rfl | simp [cat_rf, cat_i, cat_j, cat_f, cat_d]) dX2_init_2_9 (ac_0 ?_)
  obtain ⟨h5, eh5, hF⟩ := bnd hF
  refine g_putF (k := 1) X in_X2 tyX2 tyX2_ok nmX2 rfl (by decide) q184 rfl rfl hnm rfl (tyX2_ok 1 (by decide)) (narrow_rf _ _) (fits_rf _ _) eh5 dX2_init_2_12 ?_
  refine g_aload_n X dX2_init_2_15 rfl rfl ?_
  refine g_iconst (v := (4 : Int32)) X dX2_init_2_16 (by decide) ?_
  obtain ⟨h6, eh6, hF⟩ := bnd hF
  refine g_newq (t := 3) X q166 rfl X.2.2.2.2.2.1.2.2.2.1.2 (funext fun _ => rfl) eh6 dX2_init_2_17 ?_
  obtain ⟨h7, eh7, hF⟩ := bnd hF
  refine g_putF (k := 2) X in_X2 tyX2 tyX2_ok nmX2 rfl (by decide) q186 rfl rfl hnm rfl (tyX2_ok 2 (by decide)) (narrow_rfA _ _) (fits_rfA _ _) eh7 dX2_init_2_20 ?_
  refine g_aload_n X dX2_init_2_23 rfl rfl ?_
  obtain ⟨h8, eh8, hF⟩ := bnd hF
  refine g_new X in_X3 tyX3 tyX3_ok rfl q166 q168 q97 rfl dv_X3 eh8 dX2_init_2_24 ?_
  refine g_dup X dX2_init_2_27 (cat_rf _) ?_
  obtain ⟨ob9, eob9, hF⟩ := bnd hF
  obtain ⟨h10, eh10, hF⟩ := bnd hF
  refine g_callI X (nnl_some eob9) (w_X3_init l hl D dA h8 ob9  h10 eh10) rfl q169 q170 q97 q171 okn_X3_init ⟨by rw [hRf]; exact Nat.le_of_ble_eq_true rfl, by rw [hRl]; exact Nat.le_of_ble_eq_true rfl⟩ (As := []) (rest := [va_rf (some (hSz h7)), va_rf (some this)]) rfl (by first | exact Nat.le_of_ble_eq_true rfl | simp [cat_rf, cat_i, cat_j, cat_f, cat_d]) dX2_init_2_28 (ac_0 ?_)
  obtain ⟨h11, eh11, hF⟩ := bnd hF
  refine g_put (k := 3) X in_X2 tyX2 tyX2_ok nmX2 rfl (by decide) q188 (Or.inl rfl) rfl (tyX2_ok 3 (by decide)) (narrow_rf _ _) (fits_rf _ _) eh11 dX2_init_2_31 ?_
  refine g_aload_n X dX2_init_2_34 rfl rfl ?_
  refine g_aload_n X dX2_init_2_35 rfl rfl ?_
  obtain ⟨v12, ev12, hF⟩ := bnd hF
  refine g_get (k := 0) X in_X2 rfl (by decide) q183 (Or.inl rfl) (getR_V ev12) dX2_init_2_36 ?_
  obtain ⟨h13, eh13, hF⟩ := bnd hF
  refine g_cloneI X q281 ⟨by rw [hRf]; exact Nat.le_of_ble_eq_true rfl, by rw [hRl]; exact Nat.le_of_ble_eq_true rfl⟩ (by first | exact Nat.le_of_ble_eq_true rfl | simp [cat_rf, cat_i, cat_j, cat_f, cat_d]) eh13 dX2_init_2_39 ?_
  obtain ⟨_, z14, hF⟩ := bnd hF
  refine g_castA X q287 rfl rfl z14 dX2_init_2_42 ?_
  obtain ⟨h15, eh15, hF⟩ := bnd hF
  refine g_putF (k := 0) X in_X2 tyX2 tyX2_ok nmX2 rfl (by decide) q183 rfl rfl hnm rfl (tyX2_ok 0 (by decide)) (narrow_rfA _ _) (fits_rfA _ _) eh15 dX2_init_2_45 ?_
  refine g_iconst (v := (0 : Int32)) X dX2_init_2_48 (by decide) ?_
  refine g_istore_n (L' := [some (va_rf (some this)), some (va_rf a1), some (.int (0 : Int32))]) X dX2_init_2_49 rfl (Nat.le_of_ble_eq_true rfl) (by first | rfl | simp [stL, rm1, clr2, cat_rf, cat_i, cat_j, cat_f, cat_d]) ?_
  obtain ⟨h32, e49, hF⟩ := bnd hF
  refine lp_ind (Gs := (fun z => G p l e R s m args below meth c (RQ D dA h0 (.inr none, hE) below s) D dA h0 3 z.2 50 [some (va_rf (some this)), some (va_rf a1), some (.int z.1)] [])) (Ge := (fun z => G p l e R s m args below meth c (RQ D dA h0 (.inr none, hE) below s) D dA h0 3 z 93 [some (va_rf (some this)), some (va_rf a1), none] [])) ?_ _ _ _ e49 ?_
  · rintro ⟨x2_16, h_16⟩ o hF hgo hr
    change F_X2_init_2_B50 this a1 x2_16 h_16 = some o at hF
    unfold F_X2_init_2_B50 at hF
    show G p l e R s m args below meth c (RQ D dA h0 (.inr none, hE) below s) D dA h0 3 h_16 50 [some (va_rf (some this)), some (va_rf a1), some (.int x2_16)] []
    refine g_iload_n X dX2_init_2_50 rfl rfl ?_
    refine g_aload_n X dX2_init_2_51 rfl rfl ?_
    obtain ⟨v17, ev17, hF⟩ := bnd hF
    refine g_get (k := 1) X in_X2 rfl (by decide) q184 (Or.inl rfl) (getR_V ev17) dX2_init_2_52 ?_
    obtain ⟨ob18, eob18, hF⟩ := bnd hF
    obtain ⟨v19, ev19, hF⟩ := bnd hF
    refine g_callV X eob18 rfl rfl (w_J2_size l hl D dA h_16 ob18  v19 ev19) q288 q289 q290 q96 q291 okn_J2_size ⟨by rw [hRf]; exact Nat.le_of_ble_eq_true rfl, by rw [hRl]; exact Nat.le_of_ble_eq_true rfl⟩ (As := []) (rest := [.int x2_16]) rfl (by first | exact Nat.le_of_ble_eq_true rfl | simp [cat_rf, cat_i, cat_j, cat_f, cat_d]) dX2_init_2_55 (ac_v ?_)
    refine g_icmp_ge X 93 dX2_init_2_58 (by decide) (fun c20 => ?_) (fun c20 => ?_)
    · have hF := (if_pos c20).symm.trans hF
      refine G.drop [true, true, false] rfl ?_
      cases hF
      exact hr _ rfl
    · have hF := (if_neg c20).symm.trans hF
      refine g_aload_n X dX2_init_2_61 rfl rfl ?_
      obtain ⟨v21, ev21, hF⟩ := bnd hF
      refine g_get (k := 1) X in_X2 rfl (by decide) q184 (Or.inl rfl) (getR_V ev21) dX2_init_2_62 ?_
      obtain ⟨h22, eh22, hF⟩ := bnd hF
      refine g_new X in_X5 tyX5 tyX5_ok rfl q292 q293 q104 rfl dv_X5 eh22 dX2_init_2_65 ?_
      refine g_dup X dX2_init_2_68 (cat_rf _) ?_
      refine g_aload_n X dX2_init_2_69 rfl rfl ?_
      obtain ⟨v23, ev23, hF⟩ := bnd hF
      refine g_get (k := 1) X in_X2 rfl (by decide) q184 (Or.inl rfl) (getR_V ev23) dX2_init_2_70 ?_
      refine g_iload_n X dX2_init_2_73 rfl rfl ?_
      obtain ⟨ob24, eob24, hF⟩ := bnd hF
      obtain ⟨v25, ev25, hF⟩ := bnd hF
      refine g_callV X eob24 rfl rfl (w_J2_get l hl D dA h22 ob24 x2_16 v25 ev25) q294 q295 q296 q96 q297 okn_J2_get ⟨by rw [hRf]; exact Nat.le_of_ble_eq_true rfl, by rw [hRl]; exact Nat.le_of_ble_eq_true rfl⟩ (As := [.int x2_16]) (rest := [va_rf (some (hSz h_16)), va_rf (some (hSz h_16)), va_rf v21]) rfl (by first | exact Nat.le_of_ble_eq_true rfl | simp [cat_rf, cat_i, cat_j, cat_f, cat_d]) dX2_init_2_74 (ac_v ?_)
      obtain ⟨_, z26, hF⟩ := bnd hF
      refine g_castO X q292 rfl z26 dX2_init_2_77 ?_
      obtain ⟨ob27, eob27, hF⟩ := bnd hF
      obtain ⟨h28, eh28, hF⟩ := bnd hF
      refine g_callI X (nnl_some eob27) (w_X5_init l hl D dA h22 ob27 v25 h28 eh28) rfl q308 q309 q104 q310 okn_X5_init ⟨by rw [hRf]; exact Nat.le_of_ble_eq_true rfl, by rw [hRl]; exact Nat.le_of_ble_eq_true rfl⟩ (As := [va_rf v25]) (rest := [va_rf (some (hSz h_16)), va_rf v21]) rfl (by first | exact Nat.le_of_ble_eq_true rfl | simp [cat_rf, cat_i, cat_j, cat_f, cat_d]) dX2_init_2_80 (ac_0 ?_)
      obtain ⟨ob29, eob29, hF⟩ := bnd hF
      obtain ⟨v31, h30, eh30, hF⟩ := b2_some hF
      refine g_callV X eob29 rfl rfl (w_J2_add l hl D dA h28 ob29 (some (hSz h_16)) v31 h30 eh30) q337 q338 q339 q96 q340 okn_J2_add ⟨by rw [hRf]; exact Nat.le_of_ble_eq_true rfl, by rw [hRl]; exact Nat.le_of_ble_eq_true rfl⟩ (As := [va_rf (some (hSz h_16))]) (rest := []) rfl (by first | exact Nat.le_of_ble_eq_true rfl | simp [cat_rf, cat_i, cat_j, cat_f, cat_d]) dX2_init_2_83 (ac_v ?_)
      refine g_pop X dX2_init_2_86 rfl ?_
      refine g_iinc (v := (x2_16 + (1 : Int32))) (L' := [some (va_rf (some this)), some (va_rf a1), some (.int (x2_16 + (1 : Int32)))]) X dX2_init_2_87 (Nat.le_of_ble_eq_true rfl) rfl rfl (by first | rfl | simp [stL, rm1, clr2, cat_rf, cat_i, cat_j, cat_f, cat_d]) ?_
      refine g_goto X 50 dX2_init_2_90 (by decide) ?_
      cases hF
      exact hgo _ rfl
  show G p l e R s m args below meth c (RQ D dA h0 (.inr none, hE) below s) D dA h0 3 h32 93 [some (va_rf (some this)), some (va_rf a1), none] []
  refine g_iconst (v := (0 : Int32)) X dX2_init_2_93 (by decide) ?_
  refine g_istore_n (L' := [some (va_rf (some this)), some (va_rf a1), some (.int (0 : Int32))]) X dX2_init_2_94 rfl (Nat.le_of_ble_eq_true rfl) (by first | rfl | simp [stL, rm1, clr2, cat_rf, cat_i, cat_j, cat_f, cat_d]) ?_
  obtain ⟨h39, e47, hF⟩ := bnd hF
  refine lp_ind (Gs := (fun z => G p l e R s m args below meth c (RQ D dA h0 (.inr none, hE) below s) D dA h0 3 z.2 95 [some (va_rf (some this)), some (va_rf a1), some (.int z.1)] [])) (Ge := (fun z => G p l e R s m args below meth c (RQ D dA h0 (.inr none, hE) below s) D dA h0 3 z 118 [some (va_rf (some this)), some (va_rf a1), none] [])) ?_ _ _ _ e47 ?_
  · rintro ⟨x2_33, h_33⟩ o hF hgo hr
    change F_X2_init_2_B95 this a1 x2_33 h_33 = some o at hF
    unfold F_X2_init_2_B95 at hF
    show G p l e R s m args below meth c (RQ D dA h0 (.inr none, hE) below s) D dA h0 3 h_33 95 [some (va_rf (some this)), some (va_rf a1), some (.int x2_33)] []
    refine g_iload_n X dX2_init_2_95 rfl rfl ?_
    refine g_iconst (v := (4 : Int32)) X dX2_init_2_96 (by decide) ?_
    refine g_icmp_ge X 118 dX2_init_2_97 (by decide) (fun c34 => ?_) (fun c34 => ?_)
    · have hF := (if_pos c34).symm.trans hF
      refine G.drop [true, true, false] rfl ?_
      cases hF
      exact hr _ rfl
    · have hF := (if_neg c34).symm.trans hF
      refine g_aload_n X dX2_init_2_100 rfl rfl ?_
      obtain ⟨v35, ev35, hF⟩ := bnd hF
      refine g_get (k := 2) X in_X2 rfl (by decide) q186 (Or.inl rfl) (getR_V ev35) dX2_init_2_101 ?_
      refine g_iload_n X dX2_init_2_104 rfl rfl ?_
      refine g_aload_n X dX2_init_2_105 rfl rfl ?_
      obtain ⟨v36, ev36, hF⟩ := bnd hF
      refine g_get (k := 2) X in_X2 rfl (by decide) q186 (Or.inl rfl) (getR_V ev36) dX2_init_2_106 ?_
      refine g_iload_n X dX2_init_2_109 rfl rfl ?_
      obtain ⟨v37, ev37, hF⟩ := bnd hF
      refine g_aald X rfl ev37 dX2_init_2_110 ?_
      obtain ⟨h38, eh38, hF⟩ := bnd hF
      refine g_aast X eh38 dX2_init_2_111 ?_
      refine g_iinc (v := (x2_33 + (1 : Int32))) (L' := [some (va_rf (some this)), some (va_rf a1), some (.int (x2_33 + (1 : Int32)))]) X dX2_init_2_112 (Nat.le_of_ble_eq_true rfl) rfl rfl (by first | rfl | simp [stL, rm1, clr2, cat_rf, cat_i, cat_j, cat_f, cat_d]) ?_
      refine g_goto X 95 dX2_init_2_115 (by decide) ?_
      cases hF
      exact hgo _ rfl
  show G p l e R s m args below meth c (RQ D dA h0 (.inr none, hE) below s) D dA h0 3 h39 118 [some (va_rf (some this)), some (va_rf a1), none] []
  refine g_aload_n X dX2_init_2_118 rfl rfl ?_
  obtain ⟨h40, eh40, hF⟩ := bnd hF
  refine g_new X in_X3 tyX3 tyX3_ok rfl q166 q168 q97 rfl dv_X3 eh40 dX2_init_2_119 ?_
  refine g_dup X dX2_init_2_122 (cat_rf _) ?_
  refine g_aload_n X dX2_init_2_123 rfl rfl ?_
  obtain ⟨v41, ev41, hF⟩ := bnd hF
  refine g_get (k := 3) X in_X2 rfl (by decide) q188 (Or.inl rfl) (getR_V ev41) dX2_init_2_124 ?_
  obtain ⟨ob42, eob42, hF⟩ := bnd hF
  obtain ⟨h43, eh43, hF⟩ := bnd hF
  refine g_callI X (nnl_some eob42) (w_X3_init_2 l hl D dA h40 ob42 v41 h43 eh43) rfl q398 q399 q97 q400 okn_X3_init_2 ⟨by rw [hRf]; exact Nat.le_of_ble_eq_true rfl, by rw [hRl]; exact Nat.le_of_ble_eq_true rfl⟩ (As := [va_rf v41]) (rest := [va_rf (some (hSz h39)), va_rf (some this)]) rfl (by first | exact Nat.le_of_ble_eq_true rfl | simp [cat_rf, cat_i, cat_j, cat_f, cat_d]) dX2_init_2_127 (ac_0 ?_)
  obtain ⟨h44, eh44, hF⟩ := bnd hF
  refine g_put (k := 3) X in_X2 tyX2 tyX2_ok nmX2 rfl (by decide) q188 (Or.inl rfl) rfl (tyX2_ok 3 (by decide)) (narrow_rf _ _) (fits_rf _ _) eh44 dX2_init_2_130 ?_
  refine g_aload_n X dX2_init_2_133 rfl rfl ?_
  refine g_aload_n X dX2_init_2_134 rfl rfl ?_
  obtain ⟨v45, ev45, hF⟩ := bnd hF
  refine g_get (k := 4) X in_X2 rfl (by decide) q190 (Or.inl rfl) (getI_V ev45) dX2_init_2_135 ?_
  obtain ⟨h46, eh46, hF⟩ := bnd hF
  refine g_put (k := 4) X in_X2 tyX2 tyX2_ok nmX2 rfl (by decide) q190 (Or.inl rfl) rfl (tyX2_ok 4 (by decide)) rfl rfl eh46 dX2_init_2_138 ?_
  cases hF
  exact g_vret X hr dX2_init_2_141
def F_X1_isBetween (a1 : Int64) (a2 : Int64) (a3 : Int64) : Int32 :=
  (if (lg_cmp a1 a2) < 0 then (0 : Int32) else (if 0 < (lg_cmp a1 a3) then (0 : Int32) else (1 : Int32)))
set_option maxHeartbeats 4000000 in
theorem w_X1_isBetween (l : Launch) (hl : l.stackTraces = false) (D : va_G) (dA : Nat → ClassId) (h0 : HH) (a1 : Int64) (a2 : Int64) (a3 : Int64) : MC D dA l yX1_isBetween cX1_isBetween 6 (Option.some Jvm.ClassFile.FieldType.boolean) [] 0 0 [.long a1, .long a2, .long a3] h0 (.inr (some (.int (F_X1_isBetween a1 a2 a3))), h0) := by
  refine mc_of hl (plainFor_of_name pn_X1) (by simp [lg_sl, cat_rf, cat_i, cat_j, cat_f, cat_d]) ?_
  intro p e s m args below meth c R hRf hRl X hr hnm
  generalize hF : F_X1_isBetween a1 a2 a3 = rE
  unfold F_X1_isBetween at hF
  rw [show argL [.long a1, .long a2, .long a3] = [some (.long a1), none, some (.long a2), none, some (.long a3), none] from by simp [argL, cat_rf, cat_i, cat_j, cat_f, cat_d]]
  refine g_lload_n X dX1_isBetween_0 rfl rfl ?_
  refine g_lload_n X dX1_isBetween_1 rfl rfl ?_
  refine g_lcmp X dX1_isBetween_2 ?_
  suffices K : G p l e R s m args below meth c (RQ D dA h0 (.inr (some (.int rE)), h0) below s) D dA h0 6 h0 18 [none, none, none, none, none, none] [.int (if (lg_cmp a1 a2) < 0 then (0 : Int32) else (if 0 < (lg_cmp a1 a3) then (0 : Int32) else (1 : Int32)))] by
    refine g_if_lt X 17 dX1_isBetween_3 (by decide) (fun c1 => ?_) (fun c1 => ?_)
    · (try simp only [if_pos c1] at K)
      refine g_iconst (v := (0 : Int32)) X dX1_isBetween_17 (by decide) ?_
      refine G.drop [false, false, false, false, false, false] rfl ?_
      first | exact K | (simp only [if_pos c1]; exact K)
    · (try simp only [if_neg c1] at K)
      refine g_lload_n X dX1_isBetween_6 rfl rfl ?_
      refine g_lload X dX1_isBetween_7 rfl ?_
      refine g_lcmp X dX1_isBetween_9 ?_
      refine g_if_gt X 17 dX1_isBetween_10 (by decide) (fun c2 => ?_) (fun c2 => ?_)
      · (try simp only [if_pos c2] at K)
        refine g_iconst (v := (0 : Int32)) X dX1_isBetween_17 (by decide) ?_
        refine G.drop [false, false, false, false, false, false] rfl ?_
        first | exact K | (simp only [if_neg c1, if_pos c2]; exact K)
      · (try simp only [if_neg c2] at K)
        refine g_iconst (v := (1 : Int32)) X dX1_isBetween_13 (by decide) ?_
        refine g_goto X 18 dX1_isBetween_14 (by decide) ?_
        refine G.drop [false, false, false, false, false, false] rfl ?_
        first | exact K | (simp only [if_neg c1, if_neg c2]; exact K)
  cases hF
  exact g_zret X hr (by (repeat' split) <;> rfl) dX1_isBetween_18
def F_X1_arePair (a1 : Int32) (a2 : Int32) : Int32 :=
  (if (F_X1_isBetween (a1.toInt64) (0 : Int64) (3 : Int64)) = 0 then (0 : Int32) else (if (F_X1_isBetween (a2.toInt64) (0 : Int64) (3 : Int64)) = 0 then (0 : Int32) else (if a1 = a2 then (0 : Int32) else (1 : Int32))))
set_option maxHeartbeats 4000000 in
theorem w_X1_arePair (l : Launch) (hl : l.stackTraces = false) (D : va_G) (dA : Nat → ClassId) (h0 : HH) (a1 : Int32) (a2 : Int32) : MC D dA l yX1_arePair cX1_arePair 2 (Option.some Jvm.ClassFile.FieldType.boolean) [] 1 25 [.int a1, .int a2] h0 (.inr (some (.int (F_X1_arePair a1 a2))), h0) := by
  refine mc_of hl (plainFor_of_name pn_X1) (by simp [lg_sl, cat_rf, cat_i, cat_j, cat_f, cat_d]) ?_
  intro p e s m args below meth c R hRf hRl X hr hnm
  generalize hF : F_X1_arePair a1 a2 = rE
  unfold F_X1_arePair at hF
  rw [show argL [.int a1, .int a2] = [some (.int a1), some (.int a2)] from by simp [argL, cat_rf, cat_i, cat_j, cat_f, cat_d]]
  refine g_iload_n X dX1_arePair_0 rfl rfl ?_
  refine g_i2l X dX1_arePair_1 ?_
  refine g_lconst (v := (0 : Int64)) X dX1_arePair_2 (by decide) ?_
  refine g_ldc2 (v := (3 : Int64)) X q413 dX1_arePair_3 ?_
  refine g_callS X (w_X1_isBetween l hl D dA h0 (a1.toInt64) (0 : Int64) (3 : Int64)) q414 q415 q92 q416 okn_X1_isBetween ⟨by rw [hRf]; exact Nat.le_of_ble_eq_true rfl, by rw [hRl]; exact Nat.le_of_ble_eq_true rfl⟩ (As := [.long (a1.toInt64), .long (0 : Int64), .long (3 : Int64)]) (rest := []) rfl (by first | exact Nat.le_of_ble_eq_true rfl | simp [cat_rf, cat_i, cat_j, cat_f, cat_d]) dX1_arePair_6 (ac_v ?_)
  suffices K : G p l e R s m args below meth c (RQ D dA h0 (.inr (some (.int rE)), h0) below s) D dA h0 2 h0 34 [none, none] [.int (if (F_X1_isBetween (a1.toInt64) (0 : Int64) (3 : Int64)) = 0 then (0 : Int32) else (if (F_X1_isBetween (a2.toInt64) (0 : Int64) (3 : Int64)) = 0 then (0 : Int32) else (if a1 = a2 then (0 : Int32) else (1 : Int32))))] by
    refine g_if_eq X 33 dX1_arePair_9 (by decide) (fun c1 => ?_) (fun c1 => ?_)
    · (try simp only [if_pos c1] at K)
      refine g_iconst (v := (0 : Int32)) X dX1_arePair_33 (by decide) ?_
      refine G.drop [false, false] rfl ?_
      first | exact K | (simp only [if_pos c1]; exact K)
    · (try simp only [if_neg c1] at K)
      refine g_iload_n X dX1_arePair_12 rfl rfl ?_
      refine g_i2l X dX1_arePair_13 ?_
      refine g_lconst (v := (0 : Int64)) X dX1_arePair_14 (by decide) ?_
      refine g_ldc2 (v := (3 : Int64)) X q413 dX1_arePair_15 ?_
      refine g_callS X (w_X1_isBetween l hl D dA h0 (a2.toInt64) (0 : Int64) (3 : Int64)) q414 q415 q92 q416 okn_X1_isBetween ⟨by rw [hRf]; exact Nat.le_of_ble_eq_true rfl, by rw [hRl]; exact Nat.le_of_ble_eq_true rfl⟩ (As := [.long (a2.toInt64), .long (0 : Int64), .long (3 : Int64)]) (rest := []) rfl (by first | exact Nat.le_of_ble_eq_true rfl | simp [cat_rf, cat_i, cat_j, cat_f, cat_d]) dX1_arePair_18 (ac_v ?_)
      refine g_if_eq X 33 dX1_arePair_21 (by decide) (fun c2 => ?_) (fun c2 => ?_)
      · (try simp only [if_pos c2] at K)
        refine g_iconst (v := (0 : Int32)) X dX1_arePair_33 (by decide) ?_
        refine G.drop [false, false] rfl ?_
        first | exact K | (simp only [if_neg c1, if_pos c2]; exact K)
      · (try simp only [if_neg c2] at K)
        refine g_iload_n X dX1_arePair_24 rfl rfl ?_
        refine g_iload_n X dX1_arePair_25 rfl rfl ?_
        refine g_icmp_eq X 33 dX1_arePair_26 (by decide) (fun c3 => ?_) (fun c3 => ?_)
        · (try simp only [if_pos c3] at K)
          refine g_iconst (v := (0 : Int32)) X dX1_arePair_33 (by decide) ?_
          refine G.drop [false, false] rfl ?_
          first | exact K | (simp only [if_neg c1, if_neg c2, if_pos c3]; exact K)
        · (try simp only [if_neg c3] at K)
          refine g_iconst (v := (1 : Int32)) X dX1_arePair_29 (by decide) ?_
          refine g_goto X 34 dX1_arePair_30 (by decide) ?_
          refine G.drop [false, false] rfl ?_
          first | exact K | (simp only [if_neg c1, if_neg c2, if_neg c3]; exact K)
  cases hF
  exact g_zret X hr (by (repeat' split) <;> rfl) dX1_arePair_34


def F_X2_takes_T24 (this : Nat) (a1 : Option Nat) (y0_24 : Int32) (h_24 : HH) : Option (((Nat × String) ⊕ Int32) × HH) :=
  thr (F_X1_need y0_24 (2 : Int32) h_24) (fun q8 h6 =>
    some (.inl q8, h6)
  ) (fun u7 h6 =>
    Option.bind (isO h6 3 a1) fun ob10 =>
    Option.bind (F_X3_isTooGreat ob10 h6) fun v11 =>
    thr (F_X1_need (if v11 = 0 then (1 : Int32) else (0 : Int32)) (2 : Int32) h6) (fun q15 h13 =>
      some (.inl q15, h13)
    ) (fun u14 h13 =>
      Option.bind (getR h13 2 3 (some this)) fun v17 =>
      Option.bind (isO h13 3 v17) fun ob18 =>
      Option.bind (F_X3_unlike ob18 a1 h13) fun v19 =>
      Option.bind (putV h13 2 3 (some this) (va_rf a1)) fun h20 =>
      some (.inr v19, h20)
    )
  )
def F_X2_takes (this : Nat) (a1 : Option Nat) (h0 : HH) : Option (((Nat × String) ⊕ Int32) × HH) :=
  Option.bind (isO h0 3 a1) fun ob1 =>
  b2 (F_X3_tight ob1 h0) fun v3 h2 =>
  Option.bind (isO h2 3 v3) fun ob4 =>
  Option.bind (F_X3_hasNone ob4 h2) fun v5 =>
  if v5 = 0 then (
    Option.bind (isO h2 3 v3) fun ob22 =>
    Option.bind (F_X3_isTooFar ob22 h2) fun v23 =>
    if v23 = 0 then (
      F_X2_takes_T24 this a1 (1 : Int32) h2
    ) else (
      F_X2_takes_T24 this a1 (0 : Int32) h2
    )
  ) else (
    F_X2_takes_T24 this a1 (1 : Int32) h2
  )
set_option maxHeartbeats 4000000 in
theorem w_X2_takes (l : Launch) (hl : l.stackTraces = false) (D : va_G) (dA : Nat → ClassId) (h0 : HH) (this : Nat) (a1 : Option Nat) (oE : (Nat × String) ⊕ Int32) (hE : HH) (hF : F_X2_takes this a1 h0 = some (oE, hE)) : MC D dA l yX2_takes cX2_takes 4 (Option.some Jvm.ClassFile.FieldType.int) [] 11 321 [va_rf (some this), va_rf a1] h0 (rsI oE, hE) := by
  refine mc_of hl (plainFor_of_name pn_X2) (by simp [lg_sl, cat_rf, cat_i, cat_j, cat_f, cat_d]) ?_
  intro p e s m args below meth c R hRf hRl X hr hnm
  unfold F_X2_takes at hF
  rw [show argL [va_rf (some this), va_rf a1] = [some (va_rf (some this)), some (va_rf a1)] from by simp [argL, cat_rf, cat_i, cat_j, cat_f, cat_d]]
  refine G.pad 2 (L' := [some (va_rf (some this)), some (va_rf a1), none, none]) rfl ?_
  refine g_aload_n X dX2_takes_0 rfl rfl ?_
  obtain ⟨ob1, eob1, hF⟩ := bnd hF
  obtain ⟨v3, h2, eh2, hF⟩ := b2_some hF
  refine g_callV X eob1 rfl rfl (w_X3_tight l hl D dA h0 ob1  v3 h2 eh2) q507 q508 q509 q97 q510 okn_X3_tight ⟨by rw [hRf]; exact Nat.le_of_ble_eq_true rfl, by rw [hRl]; exact Nat.le_of_ble_eq_true rfl⟩ (As := []) (rest := []) rfl (by first | exact Nat.le_of_ble_eq_true rfl | simp [cat_rf, cat_i, cat_j, cat_f, cat_d]) dX2_takes_1 (ac_v ?_)
  refine g_astore_n (L' := [some (va_rf (some this)), some (va_rf a1), some (va_rf v3), none]) X dX2_takes_4 rfl (Nat.le_of_ble_eq_true rfl) (by first | rfl | simp [stL, rm1, clr2, cat_rf, cat_i, cat_j, cat_f, cat_d]) ?_
  refine g_aload_n X dX2_takes_5 rfl rfl ?_
  obtain ⟨ob4, eob4, hF⟩ := bnd hF
  obtain ⟨v5, ev5, hF⟩ := bnd hF
  refine g_callV X eob4 rfl rfl (w_X3_hasNone l hl D dA h2 ob4  v5 ev5) q521 q522 q523 q97 q524 okn_X3_hasNone ⟨by rw [hRf]; exact Nat.le_of_ble_eq_true rfl, by rw [hRl]; exact Nat.le_of_ble_eq_true rfl⟩ (As := []) (rest := []) rfl (by first | exact Nat.le_of_ble_eq_true rfl | simp [cat_rf, cat_i, cat_j, cat_f, cat_d]) dX2_takes_6 (ac_v ?_)
  have T24 : ∀ (y0_24 : Int32) (h_24 : HH) , F_X2_takes_T24 this a1 y0_24 h_24 = some (oE, hE) → G p l e R s m args below meth c (RQ D dA h0 (rsI oE, hE) below s) D dA h0 4 h_24 24 [some (va_rf (some this)), some (va_rf a1), none, none] [.int y0_24] := by
    intro y0_24 h_24  hF 
    unfold F_X2_takes_T24 at hF
    refine g_iconst (v := (2 : Int32)) X dX2_takes_24 (by decide) ?_
    rcases thr_some hF with ⟨q8, h6, e9, hF⟩ | ⟨u7, h6, e9, hF⟩
    · refine g_callSN X (w_X1_need l hl D dA h_24 y0_24 (2 : Int32) (.inl q8) h6 e9) (nw_in q420 rfl) q421 q92 q422 okn_X1_need ⟨by rw [hRf]; exact Nat.le_of_ble_eq_true rfl, by rw [hRl]; exact Nat.le_of_ble_eq_true rfl⟩ (As := [.int y0_24, .int (2 : Int32)]) (rest := []) rfl (by first | exact Nat.le_of_ble_eq_true rfl | simp [cat_rf, cat_i, cat_j, cat_f, cat_d]) dX2_takes_25 (ac_x ?_)
      cases hF
      exact gx_out X (fun x hx => nomatch hx)
    · refine g_callSN X (w_X1_need l hl D dA h_24 y0_24 (2 : Int32) (.inr u7) h6 e9) (nw_in q420 rfl) q421 q92 q422 okn_X1_need ⟨by rw [hRf]; exact Nat.le_of_ble_eq_true rfl, by rw [hRl]; exact Nat.le_of_ble_eq_true rfl⟩ (As := [.int y0_24, .int (2 : Int32)]) (rest := []) rfl (by first | exact Nat.le_of_ble_eq_true rfl | simp [cat_rf, cat_i, cat_j, cat_f, cat_d]) dX2_takes_25 (ac_0 ?_)
      refine g_aload_n X dX2_takes_28 rfl rfl ?_
      obtain ⟨ob10, eob10, hF⟩ := bnd hF
      obtain ⟨v11, ev11, hF⟩ := bnd hF
      refine g_callV X eob10 rfl rfl (w_X3_isTooGreat l hl D dA h6 ob10  v11 ev11) q529 q530 q531 q97 q532 okn_X3_isTooGreat ⟨by rw [hRf]; exact Nat.le_of_ble_eq_true rfl, by rw [hRl]; exact Nat.le_of_ble_eq_true rfl⟩ (As := []) (rest := []) rfl (by first | exact Nat.le_of_ble_eq_true rfl | simp [cat_rf, cat_i, cat_j, cat_f, cat_d]) dX2_takes_29 (ac_v ?_)
      suffices K : G p l e R s m args below meth c (RQ D dA h0 (rsI oE, hE) below s) D dA h0 4 h6 40 [some (va_rf (some this)), some (va_rf a1), none, none] [.int (if v11 = 0 then (1 : Int32) else (0 : Int32))] by
        refine g_if_ne X 39 dX2_takes_32 (by decide) (fun c12 => ?_) (fun c12 => ?_)
        · (try simp only [if_neg c12] at K)
          refine g_iconst (v := (0 : Int32)) X dX2_takes_39 (by decide) ?_
          first | exact K | (simp only [if_neg c12]; exact K)
        · (try simp only [if_pos c12] at K)
          refine g_iconst (v := (1 : Int32)) X dX2_takes_35 (by decide) ?_
          refine g_goto X 40 dX2_takes_36 (by decide) ?_
          first | exact K | (simp only [if_pos c12]; exact K)
      refine g_iconst (v := (2 : Int32)) X dX2_takes_40 (by decide) ?_
      rcases thr_some hF with ⟨q15, h13, e16, hF⟩ | ⟨u14, h13, e16, hF⟩
      · refine g_callSN X (w_X1_need l hl D dA h6 (if v11 = 0 then (1 : Int32) else (0 : Int32)) (2 : Int32) (.inl q15) h13 e16) (nw_in q420 rfl) q421 q92 q422 okn_X1_need ⟨by rw [hRf]; exact Nat.le_of_ble_eq_true rfl, by rw [hRl]; exact Nat.le_of_ble_eq_true rfl⟩ (As := [.int (if v11 = 0 then (1 : Int32) else (0 : Int32)), .int (2 : Int32)]) (rest := []) rfl (by first | exact Nat.le_of_ble_eq_true rfl | simp [cat_rf, cat_i, cat_j, cat_f, cat_d]) dX2_takes_41 (ac_x ?_)
        cases hF
        exact gx_out X (fun x hx => nomatch hx)
      · refine g_callSN X (w_X1_need l hl D dA h6 (if v11 = 0 then (1 : Int32) else (0 : Int32)) (2 : Int32) (.inr u14) h13 e16) (nw_in q420 rfl) q421 q92 q422 okn_X1_need ⟨by rw [hRf]; exact Nat.le_of_ble_eq_true rfl, by rw [hRl]; exact Nat.le_of_ble_eq_true rfl⟩ (As := [.int (if v11 = 0 then (1 : Int32) else (0 : Int32)), .int (2 : Int32)]) (rest := []) rfl (by first | exact Nat.le_of_ble_eq_true rfl | simp [cat_rf, cat_i, cat_j, cat_f, cat_d]) dX2_takes_41 (ac_0 ?_)
        refine g_aload_n X dX2_takes_44 rfl rfl ?_
        obtain ⟨v17, ev17, hF⟩ := bnd hF
        refine g_get (k := 3) X in_X2 rfl (by decide) q188 (Or.inl rfl) (getR_V ev17) dX2_takes_45 ?_
        refine g_aload_n X dX2_takes_48 rfl rfl ?_
        obtain ⟨ob18, eob18, hF⟩ := bnd hF
        obtain ⟨v19, ev19, hF⟩ := bnd hF
        refine g_callV X eob18 rfl rfl (w_X3_unlike l hl D dA h13 ob18 a1 v19 ev19) q533 q534 q535 q97 q536 okn_X3_unlike ⟨by rw [hRf]; exact Nat.le_of_ble_eq_true rfl, by rw [hRl]; exact Nat.le_of_ble_eq_true rfl⟩ (As := [va_rf a1]) (rest := []) rfl (by first | exact Nat.le_of_ble_eq_true rfl | simp [cat_rf, cat_i, cat_j, cat_f, cat_d]) dX2_takes_49 (ac_v ?_)
        refine g_istore_n (L' := [some (va_rf (some this)), some (va_rf a1), none, some (.int v19)]) X dX2_takes_52 rfl (Nat.le_of_ble_eq_true rfl) (by first | rfl | simp [stL, rm1, clr2, cat_rf, cat_i, cat_j, cat_f, cat_d]) ?_
        refine g_aload_n X dX2_takes_53 rfl rfl ?_
        refine g_aload_n X dX2_takes_54 rfl rfl ?_
        obtain ⟨h20, eh20, hF⟩ := bnd hF
        refine g_put (k := 3) X in_X2 tyX2 tyX2_ok nmX2 rfl (by decide) q188 (Or.inl rfl) rfl (tyX2_ok 3 (by decide)) (narrow_rf _ _) (fits_rf _ _) eh20 dX2_takes_55 ?_
        refine g_iload_n X dX2_takes_58 rfl rfl ?_
        cases hF
        exact g_iret X hr dX2_takes_59
  refine g_if_ne X 19 dX2_takes_9 (by decide) (fun c21 => ?_) (fun c21 => ?_)
  · have hF := (if_neg c21).symm.trans hF
    refine g_iconst (v := (1 : Int32)) X dX2_takes_19 (by decide) ?_
    refine g_goto X 24 dX2_takes_20 (by decide) ?_
    refine G.drop [true, true, false, false] rfl ?_
    exact T24 _ _ hF
  · have hF := (if_pos c21).symm.trans hF
    refine g_aload_n X dX2_takes_12 rfl rfl ?_
    obtain ⟨ob22, eob22, hF⟩ := bnd hF
    obtain ⟨v23, ev23, hF⟩ := bnd hF
    refine g_callV X eob22 rfl rfl (w_X3_isTooFar l hl D dA h2 ob22  v23 ev23) q525 q526 q527 q97 q528 okn_X3_isTooFar ⟨by rw [hRf]; exact Nat.le_of_ble_eq_true rfl, by rw [hRl]; exact Nat.le_of_ble_eq_true rfl⟩ (As := []) (rest := []) rfl (by first | exact Nat.le_of_ble_eq_true rfl | simp [cat_rf, cat_i, cat_j, cat_f, cat_d]) dX2_takes_13 (ac_v ?_)
    refine g_if_ne X 23 dX2_takes_16 (by decide) (fun c24 => ?_) (fun c24 => ?_)
    · have hF := (if_neg c24).symm.trans hF
      refine g_iconst (v := (0 : Int32)) X dX2_takes_23 (by decide) ?_
      refine G.drop [true, true, false, false] rfl ?_
      exact T24 _ _ hF
    · have hF := (if_pos c24).symm.trans hF
      refine g_iconst (v := (1 : Int32)) X dX2_takes_19 (by decide) ?_
      refine g_goto X 24 dX2_takes_20 (by decide) ?_
      refine G.drop [true, true, false, false] rfl ?_
      exact T24 _ _ hF
def F_X2_tells (this : Nat) (a1 : Int32) (a2 : Int32) (a3 : Int32) (h0 : HH) : Option (((Nat × String) ⊕ Int32) × HH) :=
  thr (F_X1_need (if (F_X1_arePair a1 a2) = 0 then (0 : Int32) else (if a1 = (3 : Int32) then (if (F_X1_isBetween (a3.toInt64) (-9 : Int64) (0 : Int64)) = 0 then (0 : Int32) else (1 : Int32)) else (if (F_X1_isBetween (a3.toInt64) (-9 : Int64) (9 : Int64)) = 0 then (0 : Int32) else (1 : Int32)))) (1 : Int32) h0) (fun q7 h5 =>
    some (.inl q7, h5)
  ) (fun u6 h5 =>
    Option.bind (newO h5 3 1 [.null]) fun h9 =>
    Option.bind (getR h9 2 3 (some this)) fun v10 =>
    Option.bind (nnl (some (hSz h5))) fun ob11 =>
    Option.bind (F_X3_init_2 ob11 v10 h9) fun h12 =>
    Option.bind (isO h12 3 (some (hSz h5))) fun ob13 =>
    Option.bind (F_X3_tells ob13 a1 a2 a3 h12) fun h14 =>
    Option.bind (isO h14 2 (some this)) fun ob15 =>
    thr (F_X2_takes ob15 (some (hSz h5)) h14) (fun q18 h16 =>
      some (.inl q18, h16)
    ) (fun v17 h16 =>
      some (.inr v17, h16)
    )
  )
set_option maxHeartbeats 4000000 in
theorem w_X2_tells (l : Launch) (hl : l.stackTraces = false) (D : va_G) (dA : Nat → ClassId) (h0 : HH) (this : Nat) (a1 : Int32) (a2 : Int32) (a3 : Int32) (oE : (Nat × String) ⊕ Int32) (hE : HH) (hF : F_X2_tells this a1 a2 a3 h0 = some (oE, hE)) : MC D dA l yX2_tells cX2_tells 5 (Option.some Jvm.ClassFile.FieldType.int) [] 12 344 [va_rf (some this), .int a1, .int a2, .int a3] h0 (rsI oE, hE) := by
  refine mc_of hl (plainFor_of_name pn_X2) (by simp [lg_sl, cat_rf, cat_i, cat_j, cat_f, cat_d]) ?_
  intro p e s m args below meth c R hRf hRl X hr hnm
  unfold F_X2_tells at hF
  rw [show argL [va_rf (some this), .int a1, .int a2, .int a3] = [some (va_rf (some this)), some (.int a1), some (.int a2), some (.int a3)] from by simp [argL, cat_rf, cat_i, cat_j, cat_f, cat_d]]
  refine G.pad 1 (L' := [some (va_rf (some this)), some (.int a1), some (.int a2), some (.int a3), none]) rfl ?_
  refine g_iload_n X dX2_tells_0 rfl rfl ?_
  refine g_iload_n X dX2_tells_1 rfl rfl ?_
  refine g_callSN X (w_X1_arePair l hl D dA h0 a1 a2) (nw_in q410 rfl) q411 q92 q412 okn_X1_arePair ⟨by rw [hRf]; exact Nat.le_of_ble_eq_true rfl, by rw [hRl]; exact Nat.le_of_ble_eq_true rfl⟩ (As := [.int a1, .int a2]) (rest := []) rfl (by first | exact Nat.le_of_ble_eq_true rfl | simp [cat_rf, cat_i, cat_j, cat_f, cat_d]) dX2_tells_2 (ac_v ?_)
  suffices K : G p l e R s m args below meth c (RQ D dA h0 (rsI oE, hE) below s) D dA h0 5 h0 36 [some (va_rf (some this)), some (.int a1), some (.int a2), some (.int a3), none] [.int (if (F_X1_arePair a1 a2) = 0 then (0 : Int32) else (if a1 = (3 : Int32) then (if (F_X1_isBetween (a3.toInt64) (-9 : Int64) (0 : Int64)) = 0 then (0 : Int32) else (1 : Int32)) else (if (F_X1_isBetween (a3.toInt64) (-9 : Int64) (9 : Int64)) = 0 then (0 : Int32) else (1 : Int32))))] by
    refine g_if_eq X 35 dX2_tells_5 (by decide) (fun c1 => ?_) (fun c1 => ?_)
    · (try simp only [if_pos c1] at K)
      refine g_iconst (v := (0 : Int32)) X dX2_tells_35 (by decide) ?_
      first | exact K | (simp only [if_pos c1]; exact K)
    · (try simp only [if_neg c1] at K)
      refine g_iload_n X dX2_tells_8 rfl rfl ?_
      refine g_i2l X dX2_tells_9 ?_
      refine g_ldc2 (v := (-9 : Int64)) X q417 dX2_tells_10 ?_
      refine g_iload_n X dX2_tells_13 rfl rfl ?_
      refine g_iconst (v := (3 : Int32)) X dX2_tells_14 (by decide) ?_
      refine g_icmp_ne X 22 dX2_tells_15 (by decide) (fun c2 => ?_) (fun c2 => ?_)
      · (try simp only [if_neg c2] at K)
        refine g_ldc2 (v := (9 : Int64)) X q418 dX2_tells_22 ?_
        refine g_callSN X (w_X1_isBetween l hl D dA h0 (a3.toInt64) (-9 : Int64) (9 : Int64)) (nw_in q419 rfl) q415 q92 q416 okn_X1_isBetween ⟨by rw [hRf]; exact Nat.le_of_ble_eq_true rfl, by rw [hRl]; exact Nat.le_of_ble_eq_true rfl⟩ (As := [.long (a3.toInt64), .long (-9 : Int64), .long (9 : Int64)]) (rest := []) rfl (by first | exact Nat.le_of_ble_eq_true rfl | simp [cat_rf, cat_i, cat_j, cat_f, cat_d]) dX2_tells_25 (ac_v ?_)
        refine g_if_eq X 35 dX2_tells_28 (by decide) (fun c3 => ?_) (fun c3 => ?_)
        · (try simp only [if_pos c3] at K)
          refine g_iconst (v := (0 : Int32)) X dX2_tells_35 (by decide) ?_
          first | exact K | (simp only [if_neg c1, if_neg c2, if_pos c3]; exact K)
        · (try simp only [if_neg c3] at K)
          refine g_iconst (v := (1 : Int32)) X dX2_tells_31 (by decide) ?_
          refine g_goto X 36 dX2_tells_32 (by decide) ?_
          first | exact K | (simp only [if_neg c1, if_neg c2, if_neg c3]; exact K)
      · (try simp only [if_pos c2] at K)
        refine g_lconst (v := (0 : Int64)) X dX2_tells_18 (by decide) ?_
        refine g_goto X 25 dX2_tells_19 (by decide) ?_
        refine g_callSN X (w_X1_isBetween l hl D dA h0 (a3.toInt64) (-9 : Int64) (0 : Int64)) (nw_in q419 rfl) q415 q92 q416 okn_X1_isBetween ⟨by rw [hRf]; exact Nat.le_of_ble_eq_true rfl, by rw [hRl]; exact Nat.le_of_ble_eq_true rfl⟩ (As := [.long (a3.toInt64), .long (-9 : Int64), .long (0 : Int64)]) (rest := []) rfl (by first | exact Nat.le_of_ble_eq_true rfl | simp [cat_rf, cat_i, cat_j, cat_f, cat_d]) dX2_tells_25 (ac_v ?_)
        refine g_if_eq X 35 dX2_tells_28 (by decide) (fun c4 => ?_) (fun c4 => ?_)
        · (try simp only [if_pos c4] at K)
          refine g_iconst (v := (0 : Int32)) X dX2_tells_35 (by decide) ?_
          first | exact K | (simp only [if_neg c1, if_pos c2, if_pos c4]; exact K)
        · (try simp only [if_neg c4] at K)
          refine g_iconst (v := (1 : Int32)) X dX2_tells_31 (by decide) ?_
          refine g_goto X 36 dX2_tells_32 (by decide) ?_
          first | exact K | (simp only [if_neg c1, if_pos c2, if_neg c4]; exact K)
  refine g_iconst (v := (1 : Int32)) X dX2_tells_36 (by decide) ?_
  rcases thr_some hF with ⟨q7, h5, e8, hF⟩ | ⟨u6, h5, e8, hF⟩
  · refine g_callSN X (w_X1_need l hl D dA h0 (if (F_X1_arePair a1 a2) = 0 then (0 : Int32) else (if a1 = (3 : Int32) then (if (F_X1_isBetween (a3.toInt64) (-9 : Int64) (0 : Int64)) = 0 then (0 : Int32) else (1 : Int32)) else (if (F_X1_isBetween (a3.toInt64) (-9 : Int64) (9 : Int64)) = 0 then (0 : Int32) else (1 : Int32)))) (1 : Int32) (.inl q7) h5 e8) (nw_in q420 rfl) q421 q92 q422 okn_X1_need ⟨by rw [hRf]; exact Nat.le_of_ble_eq_true rfl, by rw [hRl]; exact Nat.le_of_ble_eq_true rfl⟩ (As := [.int (if (F_X1_arePair a1 a2) = 0 then (0 : Int32) else (if a1 = (3 : Int32) then (if (F_X1_isBetween (a3.toInt64) (-9 : Int64) (0 : Int64)) = 0 then (0 : Int32) else (1 : Int32)) else (if (F_X1_isBetween (a3.toInt64) (-9 : Int64) (9 : Int64)) = 0 then (0 : Int32) else (1 : Int32)))), .int (1 : Int32)]) (rest := []) rfl (by first | exact Nat.le_of_ble_eq_true rfl | simp [cat_rf, cat_i, cat_j, cat_f, cat_d]) dX2_tells_37 (ac_x ?_)
    cases hF
    exact gx_out X (fun x hx => nomatch hx)
  · refine g_callSN X (w_X1_need l hl D dA h0 (if (F_X1_arePair a1 a2) = 0 then (0 : Int32) else (if a1 = (3 : Int32) then (if (F_X1_isBetween (a3.toInt64) (-9 : Int64) (0 : Int64)) = 0 then (0 : Int32) else (1 : Int32)) else (if (F_X1_isBetween (a3.toInt64) (-9 : Int64) (9 : Int64)) = 0 then (0 : Int32) else (1 : Int32)))) (1 : Int32) (.inr u6) h5 e8) (nw_in q420 rfl) q421 q92 q422 okn_X1_need ⟨by rw [hRf]; exact Nat.le_of_ble_eq_true rfl, by rw [hRl]; exact Nat.le_of_ble_eq_true rfl⟩ (As := [.int (if (F_X1_arePair a1 a2) = 0 then (0 : Int32) else (if a1 = (3 : Int32) then (if (F_X1_isBetween (a3.toInt64) (-9 : Int64) (0 : Int64)) = 0 then (0 : Int32) else (1 : Int32)) else (if (F_X1_isBetween (a3.toInt64) (-9 : Int64) (9 : Int64)) = 0 then (0 : Int32) else (1 : Int32)))), .int (1 : Int32)]) (rest := []) rfl (by first | exact Nat.le_of_ble_eq_true rfl | simp [cat_rf, cat_i, cat_j, cat_f, cat_d]) dX2_tells_37 (ac_0 ?_)
    obtain ⟨h9, eh9, hF⟩ := bnd hF
    refine g_new X in_X3 tyX3 tyX3_ok rfl q166 q168 q97 rfl dv_X3 eh9 dX2_tells_40 ?_
    refine g_dup X dX2_tells_43 (cat_rf _) ?_
    refine g_aload_n X dX2_tells_44 rfl rfl ?_
    obtain ⟨v10, ev10, hF⟩ := bnd hF
    refine g_get (k := 3) X in_X2 rfl (by decide) q188 (Or.inl rfl) (getR_V ev10) dX2_tells_45 ?_
    obtain ⟨ob11, eob11, hF⟩ := bnd hF
    obtain ⟨h12, eh12, hF⟩ := bnd hF
    refine g_callI X (nnl_some eob11) (w_X3_init_2 l hl D dA h9 ob11 v10 h12 eh12) rfl q398 q399 q97 q400 okn_X3_init_2 ⟨by rw [hRf]; exact Nat.le_of_ble_eq_true rfl, by rw [hRl]; exact Nat.le_of_ble_eq_true rfl⟩ (As := [va_rf v10]) (rest := [va_rf (some (hSz h5))]) rfl (by first | exact Nat.le_of_ble_eq_true rfl | simp [cat_rf, cat_i, cat_j, cat_f, cat_d]) dX2_tells_48 (ac_0 ?_)
    refine g_astore (L' := [some (va_rf (some this)), some (.int a1), some (.int a2), some (.int a3), some (va_rf (some (hSz h5)))]) X dX2_tells_51 (Nat.le_of_ble_eq_true rfl) (by first | rfl | simp [stL, rm1, clr2, cat_rf, cat_i, cat_j, cat_f, cat_d]) ?_
    refine g_aload X dX2_tells_53 rfl ?_
    refine g_iload_n X dX2_tells_55 rfl rfl ?_
    refine g_iload_n X dX2_tells_56 rfl rfl ?_
    refine g_iload_n X dX2_tells_57 rfl rfl ?_
    obtain ⟨ob13, eob13, hF⟩ := bnd hF
    obtain ⟨h14, eh14, hF⟩ := bnd hF
    refine g_callV X eob13 rfl rfl (w_X3_tells l hl D dA h12 ob13 a1 a2 a3 h14 eh14) q490 q491 q492 q97 q493 okn_X3_tells ⟨by rw [hRf]; exact Nat.le_of_ble_eq_true rfl, by rw [hRl]; exact Nat.le_of_ble_eq_true rfl⟩ (As := [.int a1, .int a2, .int a3]) (rest := []) rfl (by first | exact Nat.le_of_ble_eq_true rfl | simp [cat_rf, cat_i, cat_j, cat_f, cat_d]) dX2_tells_58 (ac_0 ?_)
    refine g_aload_n X dX2_tells_61 rfl rfl ?_
    refine g_aload X dX2_tells_62 rfl ?_
    obtain ⟨ob15, eob15, hF⟩ := bnd hF
    rcases thr_some hF with ⟨q18, h16, e19, hF⟩ | ⟨v17, h16, e19, hF⟩
    · refine g_callV X eob15 rfl rfl (w_X2_takes l hl D dA h14 ob15 (some (hSz h5)) (.inl q18) h16 e19) q503 q505 qs5 q93 q506 okn_X2_takes ⟨by rw [hRf]; exact Nat.le_of_ble_eq_true rfl, by rw [hRl]; exact Nat.le_of_ble_eq_true rfl⟩ (As := [va_rf (some (hSz h5))]) (rest := []) rfl (by first | exact Nat.le_of_ble_eq_true rfl | simp [cat_rf, cat_i, cat_j, cat_f, cat_d]) dX2_tells_64 (ac_x ?_)
      cases hF
      exact gx_out X (fun x hx => nomatch hx)
    · refine g_callV X eob15 rfl rfl (w_X2_takes l hl D dA h14 ob15 (some (hSz h5)) (.inr v17) h16 e19) q503 q505 qs5 q93 q506 okn_X2_takes ⟨by rw [hRf]; exact Nat.le_of_ble_eq_true rfl, by rw [hRl]; exact Nat.le_of_ble_eq_true rfl⟩ (As := [va_rf (some (hSz h5))]) (rest := []) rfl (by first | exact Nat.le_of_ble_eq_true rfl | simp [cat_rf, cat_i, cat_j, cat_f, cat_d]) dX2_tells_64 (ac_v ?_)
      cases hF
      exact g_iret X hr dX2_tells_67
def F_X2_forgets (this : Nat) (a1 : Int32) (a2 : Int32) (h0 : HH) : Option (((Nat × String) ⊕ Int32) × HH) :=
  thr (F_X1_need (F_X1_arePair a1 a2) (1 : Int32) h0) (fun q3 h1 =>
    some (.inl q3, h1)
  ) (fun u2 h1 =>
    Option.bind (newO h1 3 1 [.null]) fun h5 =>
    Option.bind (getR h5 2 3 (some this)) fun v6 =>
    Option.bind (nnl (some (hSz h1))) fun ob7 =>
    Option.bind (F_X3_init_2 ob7 v6 h5) fun h8 =>
    Option.bind (isO h8 3 (some (hSz h1))) fun ob9 =>
    Option.bind (F_X3_sets ob9 a1 a2 (F_X3_plain a1) h8) fun h10 =>
    Option.bind (isO h10 2 (some this)) fun ob11 =>
    thr (F_X2_takes ob11 (some (hSz h1)) h10) (fun q14 h12 =>
      some (.inl q14, h12)
    ) (fun v13 h12 =>
      some (.inr v13, h12)
    )
  )
set_option maxHeartbeats 4000000 in
theorem w_X2_forgets (l : Launch) (hl : l.stackTraces = false) (D : va_G) (dA : Nat → ClassId) (h0 : HH) (this : Nat) (a1 : Int32) (a2 : Int32) (oE : (Nat × String) ⊕ Int32) (hE : HH) (hF : F_X2_forgets this a1 a2 h0 = some (oE, hE)) : MC D dA l yX2_forgets cX2_forgets 4 (Option.some Jvm.ClassFile.FieldType.int) [] 12 344 [va_rf (some this), .int a1, .int a2] h0 (rsI oE, hE) := by
  refine mc_of hl (plainFor_of_name pn_X2) (by simp [lg_sl, cat_rf, cat_i, cat_j, cat_f, cat_d]) ?_
  intro p e s m args below meth c R hRf hRl X hr hnm
  unfold F_X2_forgets at hF
  rw [show argL [va_rf (some this), .int a1, .int a2] = [some (va_rf (some this)), some (.int a1), some (.int a2)] from by simp [argL, cat_rf, cat_i, cat_j, cat_f, cat_d]]
  refine G.pad 1 (L' := [some (va_rf (some this)), some (.int a1), some (.int a2), none]) rfl ?_
  refine g_iload_n X dX2_forgets_0 rfl rfl ?_
  refine g_iload_n X dX2_forgets_1 rfl rfl ?_
  refine g_callSN X (w_X1_arePair l hl D dA h0 a1 a2) (nw_in q410 rfl) q411 q92 q412 okn_X1_arePair ⟨by rw [hRf]; exact Nat.le_of_ble_eq_true rfl, by rw [hRl]; exact Nat.le_of_ble_eq_true rfl⟩ (As := [.int a1, .int a2]) (rest := []) rfl (by first | exact Nat.le_of_ble_eq_true rfl | simp [cat_rf, cat_i, cat_j, cat_f, cat_d]) dX2_forgets_2 (ac_v ?_)
  refine g_iconst (v := (1 : Int32)) X dX2_forgets_5 (by decide) ?_
  rcases thr_some hF with ⟨q3, h1, e4, hF⟩ | ⟨u2, h1, e4, hF⟩
  · refine g_callSN X (w_X1_need l hl D dA h0 (F_X1_arePair a1 a2) (1 : Int32) (.inl q3) h1 e4) (nw_in q420 rfl) q421 q92 q422 okn_X1_need ⟨by rw [hRf]; exact Nat.le_of_ble_eq_true rfl, by rw [hRl]; exact Nat.le_of_ble_eq_true rfl⟩ (As := [.int (F_X1_arePair a1 a2), .int (1 : Int32)]) (rest := []) rfl (by first | exact Nat.le_of_ble_eq_true rfl | simp [cat_rf, cat_i, cat_j, cat_f, cat_d]) dX2_forgets_6 (ac_x ?_)
    cases hF
    exact gx_out X (fun x hx => nomatch hx)
  · refine g_callSN X (w_X1_need l hl D dA h0 (F_X1_arePair a1 a2) (1 : Int32) (.inr u2) h1 e4) (nw_in q420 rfl) q421 q92 q422 okn_X1_need ⟨by rw [hRf]; exact Nat.le_of_ble_eq_true rfl, by rw [hRl]; exact Nat.le_of_ble_eq_true rfl⟩ (As := [.int (F_X1_arePair a1 a2), .int (1 : Int32)]) (rest := []) rfl (by first | exact Nat.le_of_ble_eq_true rfl | simp [cat_rf, cat_i, cat_j, cat_f, cat_d]) dX2_forgets_6 (ac_0 ?_)
    obtain ⟨h5, eh5, hF⟩ := bnd hF
    refine g_new X in_X3 tyX3 tyX3_ok rfl q166 q168 q97 rfl dv_X3 eh5 dX2_forgets_9 ?_
    refine g_dup X dX2_forgets_12 (cat_rf _) ?_
    refine g_aload_n X dX2_forgets_13 rfl rfl ?_
    obtain ⟨v6, ev6, hF⟩ := bnd hF
    refine g_get (k := 3) X in_X2 rfl (by decide) q188 (Or.inl rfl) (getR_V ev6) dX2_forgets_14 ?_
    obtain ⟨ob7, eob7, hF⟩ := bnd hF
    obtain ⟨h8, eh8, hF⟩ := bnd hF
    refine g_callI X (nnl_some eob7) (w_X3_init_2 l hl D dA h5 ob7 v6 h8 eh8) rfl q398 q399 q97 q400 okn_X3_init_2 ⟨by rw [hRf]; exact Nat.le_of_ble_eq_true rfl, by rw [hRl]; exact Nat.le_of_ble_eq_true rfl⟩ (As := [va_rf v6]) (rest := [va_rf (some (hSz h1))]) rfl (by first | exact Nat.le_of_ble_eq_true rfl | simp [cat_rf, cat_i, cat_j, cat_f, cat_d]) dX2_forgets_17 (ac_0 ?_)
    refine g_astore_n (L' := [some (va_rf (some this)), some (.int a1), some (.int a2), some (va_rf (some (hSz h1)))]) X dX2_forgets_20 rfl (Nat.le_of_ble_eq_true rfl) (by first | rfl | simp [stL, rm1, clr2, cat_rf, cat_i, cat_j, cat_f, cat_d]) ?_
    refine g_aload_n X dX2_forgets_21 rfl rfl ?_
    refine g_iload_n X dX2_forgets_22 rfl rfl ?_
    refine g_iload_n X dX2_forgets_23 rfl rfl ?_
    refine g_iload_n X dX2_forgets_24 rfl rfl ?_
    refine g_callSN X (w_X3_plain l hl D dA h8 a1) (nw_in q541 rfl) q174 q97 q175 okn_X3_plain ⟨by rw [hRf]; exact Nat.le_of_ble_eq_true rfl, by rw [hRl]; exact Nat.le_of_ble_eq_true rfl⟩ (As := [.int a1]) (rest := [.int a2, .int a1, va_rf (some (hSz h1))]) rfl (by first | exact Nat.le_of_ble_eq_true rfl | simp [cat_rf, cat_i, cat_j, cat_f, cat_d]) dX2_forgets_25 (ac_v ?_)
    obtain ⟨ob9, eob9, hF⟩ := bnd hF
    obtain ⟨h10, eh10, hF⟩ := bnd hF
    refine g_callV X eob9 rfl rfl (w_X3_sets l hl D dA h8 ob9 a1 a2 (F_X3_plain a1) h10 eh10) q542 q500 q501 q97 q502 okn_X3_sets ⟨by rw [hRf]; exact Nat.le_of_ble_eq_true rfl, by rw [hRl]; exact Nat.le_of_ble_eq_true rfl⟩ (As := [.int a1, .int a2, .int (F_X3_plain a1)]) (rest := []) rfl (by first | exact Nat.le_of_ble_eq_true rfl | simp [cat_rf, cat_i, cat_j, cat_f, cat_d]) dX2_forgets_28 (ac_0 ?_)
    refine g_aload_n X dX2_forgets_31 rfl rfl ?_
    refine g_aload_n X dX2_forgets_32 rfl rfl ?_
    obtain ⟨ob11, eob11, hF⟩ := bnd hF
    rcases thr_some hF with ⟨q14, h12, e15, hF⟩ | ⟨v13, h12, e15, hF⟩
    · refine g_callV X eob11 rfl rfl (w_X2_takes l hl D dA h10 ob11 (some (hSz h1)) (.inl q14) h12 e15) q503 q505 qs5 q93 q506 okn_X2_takes ⟨by rw [hRf]; exact Nat.le_of_ble_eq_true rfl, by rw [hRl]; exact Nat.le_of_ble_eq_true rfl⟩ (As := [va_rf (some (hSz h1))]) (rest := []) rfl (by first | exact Nat.le_of_ble_eq_true rfl | simp [cat_rf, cat_i, cat_j, cat_f, cat_d]) dX2_forgets_33 (ac_x ?_)
      cases hF
      exact gx_out X (fun x hx => nomatch hx)
    · refine g_callV X eob11 rfl rfl (w_X2_takes l hl D dA h10 ob11 (some (hSz h1)) (.inr v13) h12 e15) q503 q505 qs5 q93 q506 okn_X2_takes ⟨by rw [hRf]; exact Nat.le_of_ble_eq_true rfl, by rw [hRl]; exact Nat.le_of_ble_eq_true rfl⟩ (As := [va_rf (some (hSz h1))]) (rest := []) rfl (by first | exact Nat.le_of_ble_eq_true rfl | simp [cat_rf, cat_i, cat_j, cat_f, cat_d]) dX2_forgets_33 (ac_v ?_)
      cases hF
      exact g_iret X hr dX2_forgets_36
def F_X2_forgetsAll (this : Nat) (h0 : HH) : Option (((Nat × String) ⊕ Int32) × HH) :=
  Option.bind (newO h0 3 1 [.null]) fun h1 =>
  Option.bind (nnl (some (hSz h0))) fun ob2 =>
  Option.bind (F_X3_init ob2 h1) fun h3 =>
  Option.bind (isO h3 2 (some this)) fun ob4 =>
  thr (F_X2_takes ob4 (some (hSz h0)) h3) (fun q7 h5 =>
    some (.inl q7, h5)
  ) (fun v6 h5 =>
    some (.inr v6, h5)
  )
set_option maxHeartbeats 4000000 in
theorem w_X2_forgetsAll (l : Launch) (hl : l.stackTraces = false) (D : va_G) (dA : Nat → ClassId) (h0 : HH) (this : Nat) (oE : (Nat × String) ⊕ Int32) (hE : HH) (hF : F_X2_forgetsAll this h0 = some (oE, hE)) : MC D dA l yX2_forgetsAll cX2_forgetsAll 1 (Option.some Jvm.ClassFile.FieldType.int) [] 12 344 [va_rf (some this)] h0 (rsI oE, hE) := by
  refine mc_of hl (plainFor_of_name pn_X2) (by simp [lg_sl, cat_rf, cat_i, cat_j, cat_f, cat_d]) ?_
  intro p e s m args below meth c R hRf hRl X hr hnm
  unfold F_X2_forgetsAll at hF
  rw [show argL [va_rf (some this)] = [some (va_rf (some this))] from by simp [argL, cat_rf, cat_i, cat_j, cat_f, cat_d]]
  refine g_aload_n X dX2_forgetsAll_0 rfl rfl ?_
  obtain ⟨h1, eh1, hF⟩ := bnd hF
  refine g_new X in_X3 tyX3 tyX3_ok rfl q166 q168 q97 rfl dv_X3 eh1 dX2_forgetsAll_1 ?_
  refine g_dup X dX2_forgetsAll_4 (cat_rf _) ?_
  obtain ⟨ob2, eob2, hF⟩ := bnd hF
  obtain ⟨h3, eh3, hF⟩ := bnd hF
  refine g_callI X (nnl_some eob2) (w_X3_init l hl D dA h1 ob2  h3 eh3) rfl q169 q170 q97 q171 okn_X3_init ⟨by rw [hRf]; exact Nat.le_of_ble_eq_true rfl, by rw [hRl]; exact Nat.le_of_ble_eq_true rfl⟩ (As := []) (rest := [va_rf (some (hSz h0)), va_rf (some this)]) rfl (by first | exact Nat.le_of_ble_eq_true rfl | simp [cat_rf, cat_i, cat_j, cat_f, cat_d]) dX2_forgetsAll_5 (ac_0 ?_)
  obtain ⟨ob4, eob4, hF⟩ := bnd hF
  rcases thr_some hF with ⟨q7, h5, e8, hF⟩ | ⟨v6, h5, e8, hF⟩
  · refine g_callV X eob4 rfl rfl (w_X2_takes l hl D dA h3 ob4 (some (hSz h0)) (.inl q7) h5 e8) q503 q505 qs5 q93 q506 okn_X2_takes ⟨by rw [hRf]; exact Nat.le_of_ble_eq_true rfl, by rw [hRl]; exact Nat.le_of_ble_eq_true rfl⟩ (As := [va_rf (some (hSz h0))]) (rest := []) rfl (by first | exact Nat.le_of_ble_eq_true rfl | simp [cat_rf, cat_i, cat_j, cat_f, cat_d]) dX2_forgetsAll_8 (ac_x ?_)
    cases hF
    exact gx_out X (fun x hx => nomatch hx)
  · refine g_callV X eob4 rfl rfl (w_X2_takes l hl D dA h3 ob4 (some (hSz h0)) (.inr v6) h5 e8) q503 q505 qs5 q93 q506 okn_X2_takes ⟨by rw [hRf]; exact Nat.le_of_ble_eq_true rfl, by rw [hRl]; exact Nat.le_of_ble_eq_true rfl⟩ (As := [va_rf (some (hSz h0))]) (rest := []) rfl (by first | exact Nat.le_of_ble_eq_true rfl | simp [cat_rf, cat_i, cat_j, cat_f, cat_d]) dX2_forgetsAll_8 (ac_v ?_)
    cases hF
    exact g_iret X hr dX2_forgetsAll_11
def F_X2_readied (this : Nat) (h0 : HH) : Option (((Nat × String) ⊕ Option Nat) × HH) :=
  Option.bind (getR h0 2 3 (some this)) fun v1 =>
  Option.bind (isO h0 3 v1) fun ob2 =>
  b2 (F_X3_tight ob2 h0) fun v4 h3 =>
  Option.bind (isO h3 3 v4) fun ob5 =>
  Option.bind (F_X3_hasNone ob5 h3) fun v6 =>
  thr (F_X1_need (if v6 = 0 then (1 : Int32) else (0 : Int32)) (2 : Int32) h3) (fun q10 h8 =>
    some (.inl q10, h8)
  ) (fun u9 h8 =>
    some (.inr v4, h8)
  )
set_option maxHeartbeats 4000000 in
theorem w_X2_readied (l : Launch) (hl : l.stackTraces = false) (D : va_G) (dA : Nat → ClassId) (h0 : HH) (this : Nat) (oE : (Nat × String) ⊕ Option Nat) (hE : HH) (hF : F_X2_readied this h0 = some (oE, hE)) : MC D dA l yX2_readied cX2_readied 2 (Option.some (Jvm.ClassFile.FieldType.object "FerryClocks$Zone")) [] 11 321 [va_rf (some this)] h0 (rsR oE, hE) := by
  refine mc_of hl (plainFor_of_name pn_X2) (by simp [lg_sl, cat_rf, cat_i, cat_j, cat_f, cat_d]) ?_
  intro p e s m args below meth c R hRf hRl X hr hnm
  unfold F_X2_readied at hF
  rw [show argL [va_rf (some this)] = [some (va_rf (some this))] from by simp [argL, cat_rf, cat_i, cat_j, cat_f, cat_d]]
  refine G.pad 1 (L' := [some (va_rf (some this)), none]) rfl ?_
  refine g_aload_n X dX2_readied_0 rfl rfl ?_
  obtain ⟨v1, ev1, hF⟩ := bnd hF
  refine g_get (k := 3) X in_X2 rfl (by decide) q188 (Or.inl rfl) (getR_V ev1) dX2_readied_1 ?_
  obtain ⟨ob2, eob2, hF⟩ := bnd hF
  obtain ⟨v4, h3, eh3, hF⟩ := b2_some hF
  refine g_callV X eob2 rfl rfl (w_X3_tight l hl D dA h0 ob2  v4 h3 eh3) q507 q508 q509 q97 q510 okn_X3_tight ⟨by rw [hRf]; exact Nat.le_of_ble_eq_true rfl, by rw [hRl]; exact Nat.le_of_ble_eq_true rfl⟩ (As := []) (rest := []) rfl (by first | exact Nat.le_of_ble_eq_true rfl | simp [cat_rf, cat_i, cat_j, cat_f, cat_d]) dX2_readied_4 (ac_v ?_)
  refine g_astore_n (L' := [some (va_rf (some this)), some (va_rf v4)]) X dX2_readied_7 rfl (Nat.le_of_ble_eq_true rfl) (by first | rfl | simp [stL, rm1, clr2, cat_rf, cat_i, cat_j, cat_f, cat_d]) ?_
  refine g_aload_n X dX2_readied_8 rfl rfl ?_
  obtain ⟨ob5, eob5, hF⟩ := bnd hF
  obtain ⟨v6, ev6, hF⟩ := bnd hF
  refine g_callV X eob5 rfl rfl (w_X3_hasNone l hl D dA h3 ob5  v6 ev6) q521 q522 q523 q97 q524 okn_X3_hasNone ⟨by rw [hRf]; exact Nat.le_of_ble_eq_true rfl, by rw [hRl]; exact Nat.le_of_ble_eq_true rfl⟩ (As := []) (rest := []) rfl (by first | exact Nat.le_of_ble_eq_true rfl | simp [cat_rf, cat_i, cat_j, cat_f, cat_d]) dX2_readied_9 (ac_v ?_)
  suffices K : G p l e R s m args below meth c (RQ D dA h0 (rsR oE, hE) below s) D dA h0 2 h3 20 [none, some (va_rf v4)] [.int (if v6 = 0 then (1 : Int32) else (0 : Int32))] by
    refine g_if_ne X 19 dX2_readied_12 (by decide) (fun c7 => ?_) (fun c7 => ?_)
    · (try simp only [if_neg c7] at K)
      refine g_iconst (v := (0 : Int32)) X dX2_readied_19 (by decide) ?_
      refine G.drop [false, true] rfl ?_
      first | exact K | (simp only [if_neg c7]; exact K)
    · (try simp only [if_pos c7] at K)
      refine g_iconst (v := (1 : Int32)) X dX2_readied_15 (by decide) ?_
      refine g_goto X 20 dX2_readied_16 (by decide) ?_
      refine G.drop [false, true] rfl ?_
      first | exact K | (simp only [if_pos c7]; exact K)
  refine g_iconst (v := (2 : Int32)) X dX2_readied_20 (by decide) ?_
  rcases thr_some hF with ⟨q10, h8, e11, hF⟩ | ⟨u9, h8, e11, hF⟩
  · refine g_callSN X (w_X1_need l hl D dA h3 (if v6 = 0 then (1 : Int32) else (0 : Int32)) (2 : Int32) (.inl q10) h8 e11) (nw_in q420 rfl) q421 q92 q422 okn_X1_need ⟨by rw [hRf]; exact Nat.le_of_ble_eq_true rfl, by rw [hRl]; exact Nat.le_of_ble_eq_true rfl⟩ (As := [.int (if v6 = 0 then (1 : Int32) else (0 : Int32)), .int (2 : Int32)]) (rest := []) rfl (by first | exact Nat.le_of_ble_eq_true rfl | simp [cat_rf, cat_i, cat_j, cat_f, cat_d]) dX2_readied_21 (ac_x ?_)
    cases hF
    exact gx_out X (fun x hx => nomatch hx)
  · refine g_callSN X (w_X1_need l hl D dA h3 (if v6 = 0 then (1 : Int32) else (0 : Int32)) (2 : Int32) (.inr u9) h8 e11) (nw_in q420 rfl) q421 q92 q422 okn_X1_need ⟨by rw [hRf]; exact Nat.le_of_ble_eq_true rfl, by rw [hRl]; exact Nat.le_of_ble_eq_true rfl⟩ (As := [.int (if v6 = 0 then (1 : Int32) else (0 : Int32)), .int (2 : Int32)]) (rest := []) rfl (by first | exact Nat.le_of_ble_eq_true rfl | simp [cat_rf, cat_i, cat_j, cat_f, cat_d]) dX2_readied_21 (ac_0 ?_)
    refine g_aload_n X dX2_readied_24 rfl rfl ?_
    cases hF
    exact g_aret X hr (Or.inl ⟨_, rfl⟩) dX2_readied_25
def F_X2_tightens (this : Nat) (h0 : HH) : Option (((Nat × String) ⊕ Int32) × HH) :=
  Option.bind (isO h0 2 (some this)) fun ob1 =>
  thr (F_X2_readied ob1 h0) (fun q4 h2 =>
    some (.inl q4, h2)
  ) (fun v3 h2 =>
    Option.bind (isO h2 2 (some this)) fun ob6 =>
    thr (F_X2_takes ob6 v3 h2) (fun q9 h7 =>
      some (.inl q9, h7)
    ) (fun v8 h7 =>
      some (.inr v8, h7)
    )
  )
set_option maxHeartbeats 4000000 in
theorem w_X2_tightens (l : Launch) (hl : l.stackTraces = false) (D : va_G) (dA : Nat → ClassId) (h0 : HH) (this : Nat) (oE : (Nat × String) ⊕ Int32) (hE : HH) (hF : F_X2_tightens this h0 = some (oE, hE)) : MC D dA l yX2_tightens cX2_tightens 1 (Option.some Jvm.ClassFile.FieldType.int) [] 12 344 [va_rf (some this)] h0 (rsI oE, hE) := by
  refine mc_of hl (plainFor_of_name pn_X2) (by simp [lg_sl, cat_rf, cat_i, cat_j, cat_f, cat_d]) ?_
  intro p e s m args below meth c R hRf hRl X hr hnm
  unfold F_X2_tightens at hF
  rw [show argL [va_rf (some this)] = [some (va_rf (some this))] from by simp [argL, cat_rf, cat_i, cat_j, cat_f, cat_d]]
  refine g_aload_n X dX2_tightens_0 rfl rfl ?_
  refine g_aload_n X dX2_tightens_1 rfl rfl ?_
  obtain ⟨ob1, eob1, hF⟩ := bnd hF
  rcases thr_some hF with ⟨q4, h2, e5, hF⟩ | ⟨v3, h2, e5, hF⟩
  · refine g_callV X eob1 rfl rfl (w_X2_readied l hl D dA h0 ob1  (.inl q4) h2 e5) q551 q553 qs6 q93 q554 okn_X2_readied ⟨by rw [hRf]; exact Nat.le_of_ble_eq_true rfl, by rw [hRl]; exact Nat.le_of_ble_eq_true rfl⟩ (As := []) (rest := [va_rf (some this)]) rfl (by first | exact Nat.le_of_ble_eq_true rfl | simp [cat_rf, cat_i, cat_j, cat_f, cat_d]) dX2_tightens_2 (ac_x ?_)
    cases hF
    exact gx_out X (fun x hx => nomatch hx)
  · refine g_callV X eob1 rfl rfl (w_X2_readied l hl D dA h0 ob1  (.inr v3) h2 e5) q551 q553 qs6 q93 q554 okn_X2_readied ⟨by rw [hRf]; exact Nat.le_of_ble_eq_true rfl, by rw [hRl]; exact Nat.le_of_ble_eq_true rfl⟩ (As := []) (rest := [va_rf (some this)]) rfl (by first | exact Nat.le_of_ble_eq_true rfl | simp [cat_rf, cat_i, cat_j, cat_f, cat_d]) dX2_tightens_2 (ac_v ?_)
    obtain ⟨ob6, eob6, hF⟩ := bnd hF
    rcases thr_some hF with ⟨q9, h7, e10, hF⟩ | ⟨v8, h7, e10, hF⟩
    · refine g_callV X eob6 rfl rfl (w_X2_takes l hl D dA h2 ob6 v3 (.inl q9) h7 e10) q503 q505 qs5 q93 q506 okn_X2_takes ⟨by rw [hRf]; exact Nat.le_of_ble_eq_true rfl, by rw [hRl]; exact Nat.le_of_ble_eq_true rfl⟩ (As := [va_rf v3]) (rest := []) rfl (by first | exact Nat.le_of_ble_eq_true rfl | simp [cat_rf, cat_i, cat_j, cat_f, cat_d]) dX2_tightens_5 (ac_x ?_)
      cases hF
      exact gx_out X (fun x hx => nomatch hx)
    · refine g_callV X eob6 rfl rfl (w_X2_takes l hl D dA h2 ob6 v3 (.inr v8) h7 e10) q503 q505 qs5 q93 q506 okn_X2_takes ⟨by rw [hRf]; exact Nat.le_of_ble_eq_true rfl, by rw [hRl]; exact Nat.le_of_ble_eq_true rfl⟩ (As := [va_rf v3]) (rest := []) rfl (by first | exact Nat.le_of_ble_eq_true rfl | simp [cat_rf, cat_i, cat_j, cat_f, cat_d]) dX2_tightens_5 (ac_v ?_)
      cases hF
      exact g_iret X hr dX2_tightens_8
def F_X1_isClock (a1 : Int32) : Int32 :=
  (F_X1_isBetween (a1.toInt64) (0 : Int64) (2 : Int64))
set_option maxHeartbeats 4000000 in
theorem w_X1_isClock (l : Launch) (hl : l.stackTraces = false) (D : va_G) (dA : Nat → ClassId) (h0 : HH) (a1 : Int32) : MC D dA l yX1_isClock cX1_isClock 1 (Option.some Jvm.ClassFile.FieldType.boolean) [] 1 25 [.int a1] h0 (.inr (some (.int (F_X1_isClock a1))), h0) := by
  refine mc_of hl (plainFor_of_name pn_X1) (by simp [lg_sl, cat_rf, cat_i, cat_j, cat_f, cat_d]) ?_
  intro p e s m args below meth c R hRf hRl X hr hnm
  generalize hF : F_X1_isClock a1 = rE
  unfold F_X1_isClock at hF
  rw [show argL [.int a1] = [some (.int a1)] from by simp [argL, cat_rf, cat_i, cat_j, cat_f, cat_d]]
  refine g_iload_n X dX1_isClock_0 rfl rfl ?_
  refine g_i2l X dX1_isClock_1 ?_
  refine g_lconst (v := (0 : Int64)) X dX1_isClock_2 (by decide) ?_
  refine g_ldc2 (v := (2 : Int64)) X q562 dX1_isClock_3 ?_
  refine g_callS X (w_X1_isBetween l hl D dA h0 (a1.toInt64) (0 : Int64) (2 : Int64)) q414 q415 q92 q416 okn_X1_isBetween ⟨by rw [hRf]; exact Nat.le_of_ble_eq_true rfl, by rw [hRl]; exact Nat.le_of_ble_eq_true rfl⟩ (As := [.long (a1.toInt64), .long (0 : Int64), .long (2 : Int64)]) (rest := []) rfl (by first | exact Nat.le_of_ble_eq_true rfl | simp [cat_rf, cat_i, cat_j, cat_f, cat_d]) dX1_isClock_6 (ac_v ?_)
  cases hF
  exact g_zret X hr (by simp only [F_X1_isBetween]; (repeat' split) <;> rfl) dX1_isClock_9
def F_X2_takesWorked (this : Nat) (a1 : Option Nat) (h0 : HH) : Option (((Nat × String) ⊕ Int32) × HH) :=
  Option.bind (getI h0 2 4 (some this)) fun v1 =>
  Option.bind (putV h0 2 4 (some this) (.int (v1 + (1 : Int32)))) fun h2 =>
  Option.bind (isO h2 3 a1) fun ob3 =>
  b2 (F_X3_tight ob3 h2) fun v5 h4 =>
  Option.bind (isO h4 2 (some this)) fun ob6 =>
  thr (F_X2_takes ob6 v5 h4) (fun q9 h7 =>
    some (.inl q9, h7)
  ) (fun v8 h7 =>
    some (.inr v8, h7)
  )
set_option maxHeartbeats 4000000 in
theorem w_X2_takesWorked (l : Launch) (hl : l.stackTraces = false) (D : va_G) (dA : Nat → ClassId) (h0 : HH) (this : Nat) (a1 : Option Nat) (oE : (Nat × String) ⊕ Int32) (hE : HH) (hF : F_X2_takesWorked this a1 h0 = some (oE, hE)) : MC D dA l yX2_takesWorked cX2_takesWorked 2 (Option.some Jvm.ClassFile.FieldType.int) [] 12 344 [va_rf (some this), va_rf a1] h0 (rsI oE, hE) := by
  refine mc_of hl (plainFor_of_name pn_X2) (by simp [lg_sl, cat_rf, cat_i, cat_j, cat_f, cat_d]) ?_
  intro p e s m args below meth c R hRf hRl X hr hnm
  unfold F_X2_takesWorked at hF
  rw [show argL [va_rf (some this), va_rf a1] = [some (va_rf (some this)), some (va_rf a1)] from by simp [argL, cat_rf, cat_i, cat_j, cat_f, cat_d]]
  refine g_aload_n X dX2_takesWorked_0 rfl rfl ?_
  refine g_dup X dX2_takesWorked_1 (cat_rf _) ?_
  obtain ⟨v1, ev1, hF⟩ := bnd hF
  refine g_get (k := 4) X in_X2 rfl (by decide) q190 (Or.inl rfl) (getI_V ev1) dX2_takesWorked_2 ?_
  refine g_iconst (v := (1 : Int32)) X dX2_takesWorked_5 (by decide) ?_
  refine g_iadd X dX2_takesWorked_6 ?_
  obtain ⟨h2, eh2, hF⟩ := bnd hF
  refine g_put (k := 4) X in_X2 tyX2 tyX2_ok nmX2 rfl (by decide) q190 (Or.inl rfl) rfl (tyX2_ok 4 (by decide)) rfl rfl eh2 dX2_takesWorked_7 ?_
  refine g_aload_n X dX2_takesWorked_10 rfl rfl ?_
  refine g_aload_n X dX2_takesWorked_11 rfl rfl ?_
  obtain ⟨ob3, eob3, hF⟩ := bnd hF
  obtain ⟨v5, h4, eh4, hF⟩ := b2_some hF
  refine g_callV X eob3 rfl rfl (w_X3_tight l hl D dA h2 ob3  v5 h4 eh4) q507 q508 q509 q97 q510 okn_X3_tight ⟨by rw [hRf]; exact Nat.le_of_ble_eq_true rfl, by rw [hRl]; exact Nat.le_of_ble_eq_true rfl⟩ (As := []) (rest := [va_rf (some this)]) rfl (by first | exact Nat.le_of_ble_eq_true rfl | simp [cat_rf, cat_i, cat_j, cat_f, cat_d]) dX2_takesWorked_12 (ac_v ?_)
  obtain ⟨ob6, eob6, hF⟩ := bnd hF
  rcases thr_some hF with ⟨q9, h7, e10, hF⟩ | ⟨v8, h7, e10, hF⟩
  · refine g_callV X eob6 rfl rfl (w_X2_takes l hl D dA h4 ob6 v5 (.inl q9) h7 e10) q503 q505 qs5 q93 q506 okn_X2_takes ⟨by rw [hRf]; exact Nat.le_of_ble_eq_true rfl, by rw [hRl]; exact Nat.le_of_ble_eq_true rfl⟩ (As := [va_rf v5]) (rest := []) rfl (by first | exact Nat.le_of_ble_eq_true rfl | simp [cat_rf, cat_i, cat_j, cat_f, cat_d]) dX2_takesWorked_15 (ac_x ?_)
    cases hF
    exact gx_out X (fun x hx => nomatch hx)
  · refine g_callV X eob6 rfl rfl (w_X2_takes l hl D dA h4 ob6 v5 (.inr v8) h7 e10) q503 q505 qs5 q93 q506 okn_X2_takes ⟨by rw [hRf]; exact Nat.le_of_ble_eq_true rfl, by rw [hRl]; exact Nat.le_of_ble_eq_true rfl⟩ (As := [va_rf v5]) (rest := []) rfl (by first | exact Nat.le_of_ble_eq_true rfl | simp [cat_rf, cat_i, cat_j, cat_f, cat_d]) dX2_takesWorked_15 (ac_v ?_)
    cases hF
    exact g_iret X hr dX2_takesWorked_18
def F_X2_resets (this : Nat) (a1 : Int32) (a2 : Int32) (h0 : HH) : Option (((Nat × String) ⊕ Int32) × HH) :=
  thr (F_X1_need (if (F_X1_isClock a1) = 0 then (0 : Int32) else (if (F_X1_isBetween (a2.toInt64) (0 : Int64) (9 : Int64)) = 0 then (0 : Int32) else (1 : Int32))) (1 : Int32) h0) (fun q5 h3 =>
    some (.inl q5, h3)
  ) (fun u4 h3 =>
    Option.bind (isO h3 2 (some this)) fun ob7 =>
    thr (F_X2_readied ob7 h3) (fun q10 h8 =>
      some (.inl q10, h8)
    ) (fun v9 h8 =>
      Option.bind (isO h8 3 v9) fun ob12 =>
      Option.bind (F_X3_at ob12 a1 (3 : Int32) h8) fun v13 =>
      Option.bind (isO h8 3 v9) fun ob14 =>
      Option.bind (F_X3_resets ob14 a1 a2 h8) fun h15 =>
      Option.bind (isO h15 2 (some this)) fun ob16 =>
      thr (F_X2_takesWorked ob16 v9 h15) (fun q19 h17 =>
        some (.inl q19, h17)
      ) (fun v18 h17 =>
        some (.inr (if v13 = (9999 : Int32) then (31 : Int32) else v13), h17)
      )
    )
  )
set_option maxHeartbeats 4000000 in
theorem w_X2_resets (l : Launch) (hl : l.stackTraces = false) (D : va_G) (dA : Nat → ClassId) (h0 : HH) (this : Nat) (a1 : Int32) (a2 : Int32) (oE : (Nat × String) ⊕ Int32) (hE : HH) (hF : F_X2_resets this a1 a2 h0 = some (oE, hE)) : MC D dA l yX2_resets cX2_resets 6 (Option.some Jvm.ClassFile.FieldType.int) [] 13 365 [va_rf (some this), .int a1, .int a2] h0 (rsI oE, hE) := by
  refine mc_of hl (plainFor_of_name pn_X2) (by simp [lg_sl, cat_rf, cat_i, cat_j, cat_f, cat_d]) ?_
  intro p e s m args below meth c R hRf hRl X hr hnm
  unfold F_X2_resets at hF
  rw [show argL [va_rf (some this), .int a1, .int a2] = [some (va_rf (some this)), some (.int a1), some (.int a2)] from by simp [argL, cat_rf, cat_i, cat_j, cat_f, cat_d]]
  refine G.pad 3 (L' := [some (va_rf (some this)), some (.int a1), some (.int a2), none, none, none]) rfl ?_
  refine g_iload_n X dX2_resets_0 rfl rfl ?_
  refine g_callSN X (w_X1_isClock l hl D dA h0 a1) (nw_in q559 rfl) q560 q92 q561 okn_X1_isClock ⟨by rw [hRf]; exact Nat.le_of_ble_eq_true rfl, by rw [hRl]; exact Nat.le_of_ble_eq_true rfl⟩ (As := [.int a1]) (rest := []) rfl (by first | exact Nat.le_of_ble_eq_true rfl | simp [cat_rf, cat_i, cat_j, cat_f, cat_d]) dX2_resets_1 (ac_v ?_)
  suffices K : G p l e R s m args below meth c (RQ D dA h0 (rsI oE, hE) below s) D dA h0 6 h0 24 [some (va_rf (some this)), some (.int a1), some (.int a2), none, none, none] [.int (if (F_X1_isClock a1) = 0 then (0 : Int32) else (if (F_X1_isBetween (a2.toInt64) (0 : Int64) (9 : Int64)) = 0 then (0 : Int32) else (1 : Int32)))] by
    refine g_if_eq X 23 dX2_resets_4 (by decide) (fun c1 => ?_) (fun c1 => ?_)
    · (try simp only [if_pos c1] at K)
      refine g_iconst (v := (0 : Int32)) X dX2_resets_23 (by decide) ?_
      first | exact K | (simp only [if_pos c1]; exact K)
    · (try simp only [if_neg c1] at K)
      refine g_iload_n X dX2_resets_7 rfl rfl ?_
      refine g_i2l X dX2_resets_8 ?_
      refine g_lconst (v := (0 : Int64)) X dX2_resets_9 (by decide) ?_
      refine g_ldc2 (v := (9 : Int64)) X q418 dX2_resets_10 ?_
      refine g_callSN X (w_X1_isBetween l hl D dA h0 (a2.toInt64) (0 : Int64) (9 : Int64)) (nw_in q419 rfl) q415 q92 q416 okn_X1_isBetween ⟨by rw [hRf]; exact Nat.le_of_ble_eq_true rfl, by rw [hRl]; exact Nat.le_of_ble_eq_true rfl⟩ (As := [.long (a2.toInt64), .long (0 : Int64), .long (9 : Int64)]) (rest := []) rfl (by first | exact Nat.le_of_ble_eq_true rfl | simp [cat_rf, cat_i, cat_j, cat_f, cat_d]) dX2_resets_13 (ac_v ?_)
      refine g_if_eq X 23 dX2_resets_16 (by decide) (fun c2 => ?_) (fun c2 => ?_)
      · (try simp only [if_pos c2] at K)
        refine g_iconst (v := (0 : Int32)) X dX2_resets_23 (by decide) ?_
        first | exact K | (simp only [if_neg c1, if_pos c2]; exact K)
      · (try simp only [if_neg c2] at K)
        refine g_iconst (v := (1 : Int32)) X dX2_resets_19 (by decide) ?_
        refine g_goto X 24 dX2_resets_20 (by decide) ?_
        first | exact K | (simp only [if_neg c1, if_neg c2]; exact K)
  refine g_iconst (v := (1 : Int32)) X dX2_resets_24 (by decide) ?_
  rcases thr_some hF with ⟨q5, h3, e6, hF⟩ | ⟨u4, h3, e6, hF⟩
  · refine g_callSN X (w_X1_need l hl D dA h0 (if (F_X1_isClock a1) = 0 then (0 : Int32) else (if (F_X1_isBetween (a2.toInt64) (0 : Int64) (9 : Int64)) = 0 then (0 : Int32) else (1 : Int32))) (1 : Int32) (.inl q5) h3 e6) (nw_in q420 rfl) q421 q92 q422 okn_X1_need ⟨by rw [hRf]; exact Nat.le_of_ble_eq_true rfl, by rw [hRl]; exact Nat.le_of_ble_eq_true rfl⟩ (As := [.int (if (F_X1_isClock a1) = 0 then (0 : Int32) else (if (F_X1_isBetween (a2.toInt64) (0 : Int64) (9 : Int64)) = 0 then (0 : Int32) else (1 : Int32))), .int (1 : Int32)]) (rest := []) rfl (by first | exact Nat.le_of_ble_eq_true rfl | simp [cat_rf, cat_i, cat_j, cat_f, cat_d]) dX2_resets_25 (ac_x ?_)
    cases hF
    exact gx_out X (fun x hx => nomatch hx)
  · refine g_callSN X (w_X1_need l hl D dA h0 (if (F_X1_isClock a1) = 0 then (0 : Int32) else (if (F_X1_isBetween (a2.toInt64) (0 : Int64) (9 : Int64)) = 0 then (0 : Int32) else (1 : Int32))) (1 : Int32) (.inr u4) h3 e6) (nw_in q420 rfl) q421 q92 q422 okn_X1_need ⟨by rw [hRf]; exact Nat.le_of_ble_eq_true rfl, by rw [hRl]; exact Nat.le_of_ble_eq_true rfl⟩ (As := [.int (if (F_X1_isClock a1) = 0 then (0 : Int32) else (if (F_X1_isBetween (a2.toInt64) (0 : Int64) (9 : Int64)) = 0 then (0 : Int32) else (1 : Int32))), .int (1 : Int32)]) (rest := []) rfl (by first | exact Nat.le_of_ble_eq_true rfl | simp [cat_rf, cat_i, cat_j, cat_f, cat_d]) dX2_resets_25 (ac_0 ?_)
    refine g_aload_n X dX2_resets_28 rfl rfl ?_
    obtain ⟨ob7, eob7, hF⟩ := bnd hF
    rcases thr_some hF with ⟨q10, h8, e11, hF⟩ | ⟨v9, h8, e11, hF⟩
    · refine g_callV X eob7 rfl rfl (w_X2_readied l hl D dA h3 ob7  (.inl q10) h8 e11) q551 q553 qs6 q93 q554 okn_X2_readied ⟨by rw [hRf]; exact Nat.le_of_ble_eq_true rfl, by rw [hRl]; exact Nat.le_of_ble_eq_true rfl⟩ (As := []) (rest := []) rfl (by first | exact Nat.le_of_ble_eq_true rfl | simp [cat_rf, cat_i, cat_j, cat_f, cat_d]) dX2_resets_29 (ac_x ?_)
      cases hF
      exact gx_out X (fun x hx => nomatch hx)
    · refine g_callV X eob7 rfl rfl (w_X2_readied l hl D dA h3 ob7  (.inr v9) h8 e11) q551 q553 qs6 q93 q554 okn_X2_readied ⟨by rw [hRf]; exact Nat.le_of_ble_eq_true rfl, by rw [hRl]; exact Nat.le_of_ble_eq_true rfl⟩ (As := []) (rest := []) rfl (by first | exact Nat.le_of_ble_eq_true rfl | simp [cat_rf, cat_i, cat_j, cat_f, cat_d]) dX2_resets_29 (ac_v ?_)
      refine g_astore_n (L' := [some (va_rf (some this)), some (.int a1), some (.int a2), some (va_rf v9), none, none]) X dX2_resets_32 rfl (Nat.le_of_ble_eq_true rfl) (by first | rfl | simp [stL, rm1, clr2, cat_rf, cat_i, cat_j, cat_f, cat_d]) ?_
      refine g_aload_n X dX2_resets_33 rfl rfl ?_
      refine g_iload_n X dX2_resets_34 rfl rfl ?_
      refine g_iconst (v := (3 : Int32)) X dX2_resets_35 (by decide) ?_
      obtain ⟨ob12, eob12, hF⟩ := bnd hF
      obtain ⟨v13, ev13, hF⟩ := bnd hF
      refine g_callV X eob12 rfl rfl (w_X3_at l hl D dA h8 ob12 a1 (3 : Int32) v13 ev13) q563 q495 q496 q97 q497 okn_X3_at ⟨by rw [hRf]; exact Nat.le_of_ble_eq_true rfl, by rw [hRl]; exact Nat.le_of_ble_eq_true rfl⟩ (As := [.int a1, .int (3 : Int32)]) (rest := []) rfl (by first | exact Nat.le_of_ble_eq_true rfl | simp [cat_rf, cat_i, cat_j, cat_f, cat_d]) dX2_resets_36 (ac_v ?_)
      refine g_istore (L' := [some (va_rf (some this)), some (.int a1), some (.int a2), some (va_rf v9), some (.int v13), none]) X dX2_resets_39 (Nat.le_of_ble_eq_true rfl) (by first | rfl | simp [stL, rm1, clr2, cat_rf, cat_i, cat_j, cat_f, cat_d]) ?_
      refine g_aload_n X dX2_resets_41 rfl rfl ?_
      refine g_iload_n X dX2_resets_42 rfl rfl ?_
      refine g_iload_n X dX2_resets_43 rfl rfl ?_
      obtain ⟨ob14, eob14, hF⟩ := bnd hF
      obtain ⟨h15, eh15, hF⟩ := bnd hF
      refine g_callV X eob14 rfl rfl (w_X3_resets l hl D dA h8 ob14 a1 a2 h15 eh15) q564 q565 q566 q97 q567 okn_X3_resets ⟨by rw [hRf]; exact Nat.le_of_ble_eq_true rfl, by rw [hRl]; exact Nat.le_of_ble_eq_true rfl⟩ (As := [.int a1, .int a2]) (rest := []) rfl (by first | exact Nat.le_of_ble_eq_true rfl | simp [cat_rf, cat_i, cat_j, cat_f, cat_d]) dX2_resets_44 (ac_0 ?_)
      refine g_aload_n X dX2_resets_47 rfl rfl ?_
      refine g_aload_n X dX2_resets_48 rfl rfl ?_
      obtain ⟨ob16, eob16, hF⟩ := bnd hF
      rcases thr_some hF with ⟨q19, h17, e20, hF⟩ | ⟨v18, h17, e20, hF⟩
      · refine g_callV X eob16 rfl rfl (w_X2_takesWorked l hl D dA h15 ob16 v9 (.inl q19) h17 e20) q568 q570 qs7 q93 q571 okn_X2_takesWorked ⟨by rw [hRf]; exact Nat.le_of_ble_eq_true rfl, by rw [hRl]; exact Nat.le_of_ble_eq_true rfl⟩ (As := [va_rf v9]) (rest := []) rfl (by first | exact Nat.le_of_ble_eq_true rfl | simp [cat_rf, cat_i, cat_j, cat_f, cat_d]) dX2_resets_49 (ac_x ?_)
        cases hF
        exact gx_out X (fun x hx => nomatch hx)
      · refine g_callV X eob16 rfl rfl (w_X2_takesWorked l hl D dA h15 ob16 v9 (.inr v18) h17 e20) q568 q570 qs7 q93 q571 okn_X2_takesWorked ⟨by rw [hRf]; exact Nat.le_of_ble_eq_true rfl, by rw [hRl]; exact Nat.le_of_ble_eq_true rfl⟩ (As := [va_rf v9]) (rest := []) rfl (by first | exact Nat.le_of_ble_eq_true rfl | simp [cat_rf, cat_i, cat_j, cat_f, cat_d]) dX2_resets_49 (ac_v ?_)
        refine g_istore (L' := [some (va_rf (some this)), some (.int a1), some (.int a2), some (va_rf v9), some (.int v13), some (.int v18)]) X dX2_resets_52 (Nat.le_of_ble_eq_true rfl) (by first | rfl | simp [stL, rm1, clr2, cat_rf, cat_i, cat_j, cat_f, cat_d]) ?_
        refine g_iload X dX2_resets_54 rfl ?_
        refine g_sipush (v := (9999 : Int32)) X dX2_resets_56 (by decide) ?_
        suffices K : G p l e R s m args below meth c (RQ D dA h0 (rsI oE, hE) below s) D dA h0 6 h17 69 [none, none, none, none, none, none] [.int (if v13 = (9999 : Int32) then (31 : Int32) else v13)] by
          refine g_icmp_ne X 67 dX2_resets_59 (by decide) (fun c21 => ?_) (fun c21 => ?_)
          · (try simp only [if_neg c21] at K)
            refine g_iload X dX2_resets_67 rfl ?_
            refine G.drop [false, false, false, false, false, false] rfl ?_
            first | exact K | (simp only [if_neg c21]; exact K)
          · (try simp only [if_pos c21] at K)
            refine g_bipush (v := (31 : Int32)) X dX2_resets_62 (by decide) ?_
            refine g_goto X 69 dX2_resets_64 (by decide) ?_
            refine G.drop [false, false, false, false, false, false] rfl ?_
            first | exact K | (simp only [if_pos c21]; exact K)
        cases hF
        exact g_iret X hr dX2_resets_69
def F_X2_delays (this : Nat) (h0 : HH) : Option (((Nat × String) ⊕ Int32) × HH) :=
  Option.bind (isO h0 2 (some this)) fun ob1 =>
  thr (F_X2_readied ob1 h0) (fun q4 h2 =>
    some (.inl q4, h2)
  ) (fun v3 h2 =>
    Option.bind (isO h2 3 v3) fun ob6 =>
    b2 (F_X3_delays ob6 h2) fun v8 h7 =>
    Option.bind (isO h7 2 (some this)) fun ob9 =>
    thr (F_X2_takesWorked ob9 v3 h7) (fun q12 h10 =>
      some (.inl q12, h10)
    ) (fun v11 h10 =>
      some (.inr v8, h10)
    )
  )
set_option maxHeartbeats 4000000 in
theorem w_X2_delays (l : Launch) (hl : l.stackTraces = false) (D : va_G) (dA : Nat → ClassId) (h0 : HH) (this : Nat) (oE : (Nat × String) ⊕ Int32) (hE : HH) (hF : F_X2_delays this h0 = some (oE, hE)) : MC D dA l yX2_delays cX2_delays 4 (Option.some Jvm.ClassFile.FieldType.int) [] 13 365 [va_rf (some this)] h0 (rsI oE, hE) := by
  refine mc_of hl (plainFor_of_name pn_X2) (by simp [lg_sl, cat_rf, cat_i, cat_j, cat_f, cat_d]) ?_
  intro p e s m args below meth c R hRf hRl X hr hnm
  unfold F_X2_delays at hF
  rw [show argL [va_rf (some this)] = [some (va_rf (some this))] from by simp [argL, cat_rf, cat_i, cat_j, cat_f, cat_d]]
  refine G.pad 3 (L' := [some (va_rf (some this)), none, none, none]) rfl ?_
  refine g_aload_n X dX2_delays_0 rfl rfl ?_
  obtain ⟨ob1, eob1, hF⟩ := bnd hF
  rcases thr_some hF with ⟨q4, h2, e5, hF⟩ | ⟨v3, h2, e5, hF⟩
  · refine g_callV X eob1 rfl rfl (w_X2_readied l hl D dA h0 ob1  (.inl q4) h2 e5) q551 q553 qs6 q93 q554 okn_X2_readied ⟨by rw [hRf]; exact Nat.le_of_ble_eq_true rfl, by rw [hRl]; exact Nat.le_of_ble_eq_true rfl⟩ (As := []) (rest := []) rfl (by first | exact Nat.le_of_ble_eq_true rfl | simp [cat_rf, cat_i, cat_j, cat_f, cat_d]) dX2_delays_1 (ac_x ?_)
    cases hF
    exact gx_out X (fun x hx => nomatch hx)
  · refine g_callV X eob1 rfl rfl (w_X2_readied l hl D dA h0 ob1  (.inr v3) h2 e5) q551 q553 qs6 q93 q554 okn_X2_readied ⟨by rw [hRf]; exact Nat.le_of_ble_eq_true rfl, by rw [hRl]; exact Nat.le_of_ble_eq_true rfl⟩ (As := []) (rest := []) rfl (by first | exact Nat.le_of_ble_eq_true rfl | simp [cat_rf, cat_i, cat_j, cat_f, cat_d]) dX2_delays_1 (ac_v ?_)
    refine g_astore_n (L' := [some (va_rf (some this)), some (va_rf v3), none, none]) X dX2_delays_4 rfl (Nat.le_of_ble_eq_true rfl) (by first | rfl | simp [stL, rm1, clr2, cat_rf, cat_i, cat_j, cat_f, cat_d]) ?_
    refine g_aload_n X dX2_delays_5 rfl rfl ?_
    obtain ⟨ob6, eob6, hF⟩ := bnd hF
    obtain ⟨v8, h7, eh7, hF⟩ := b2_some hF
    refine g_callV X eob6 rfl rfl (w_X3_delays l hl D dA h2 ob6  v8 h7 eh7) q576 q577 q578 q97 q579 okn_X3_delays ⟨by rw [hRf]; exact Nat.le_of_ble_eq_true rfl, by rw [hRl]; exact Nat.le_of_ble_eq_true rfl⟩ (As := []) (rest := []) rfl (by first | exact Nat.le_of_ble_eq_true rfl | simp [cat_rf, cat_i, cat_j, cat_f, cat_d]) dX2_delays_6 (ac_v ?_)
    refine g_istore_n (L' := [some (va_rf (some this)), some (va_rf v3), some (.int v8), none]) X dX2_delays_9 rfl (Nat.le_of_ble_eq_true rfl) (by first | rfl | simp [stL, rm1, clr2, cat_rf, cat_i, cat_j, cat_f, cat_d]) ?_
    refine g_aload_n X dX2_delays_10 rfl rfl ?_
    refine g_aload_n X dX2_delays_11 rfl rfl ?_
    obtain ⟨ob9, eob9, hF⟩ := bnd hF
    rcases thr_some hF with ⟨q12, h10, e13, hF⟩ | ⟨v11, h10, e13, hF⟩
    · refine g_callV X eob9 rfl rfl (w_X2_takesWorked l hl D dA h7 ob9 v3 (.inl q12) h10 e13) q568 q570 qs7 q93 q571 okn_X2_takesWorked ⟨by rw [hRf]; exact Nat.le_of_ble_eq_true rfl, by rw [hRl]; exact Nat.le_of_ble_eq_true rfl⟩ (As := [va_rf v3]) (rest := []) rfl (by first | exact Nat.le_of_ble_eq_true rfl | simp [cat_rf, cat_i, cat_j, cat_f, cat_d]) dX2_delays_12 (ac_x ?_)
      cases hF
      exact gx_out X (fun x hx => nomatch hx)
    · refine g_callV X eob9 rfl rfl (w_X2_takesWorked l hl D dA h7 ob9 v3 (.inr v11) h10 e13) q568 q570 qs7 q93 q571 okn_X2_takesWorked ⟨by rw [hRf]; exact Nat.le_of_ble_eq_true rfl, by rw [hRl]; exact Nat.le_of_ble_eq_true rfl⟩ (As := [va_rf v3]) (rest := []) rfl (by first | exact Nat.le_of_ble_eq_true rfl | simp [cat_rf, cat_i, cat_j, cat_f, cat_d]) dX2_delays_12 (ac_v ?_)
      refine g_istore_n (L' := [some (va_rf (some this)), some (va_rf v3), some (.int v8), some (.int v11)]) X dX2_delays_15 rfl (Nat.le_of_ble_eq_true rfl) (by first | rfl | simp [stL, rm1, clr2, cat_rf, cat_i, cat_j, cat_f, cat_d]) ?_
      refine g_iload_n X dX2_delays_16 rfl rfl ?_
      cases hF
      exact g_iret X hr dX2_delays_17
def F_X2_goesBack (this : Nat) (h0 : HH) : Option (((Nat × String) ⊕ Int32) × HH) :=
  Option.bind (isO h0 2 (some this)) fun ob1 =>
  thr (F_X2_readied ob1 h0) (fun q4 h2 =>
    some (.inl q4, h2)
  ) (fun v3 h2 =>
    Option.bind (isO h2 3 v3) fun ob6 =>
    Option.bind (F_X3_goesBack ob6 h2) fun h7 =>
    Option.bind (isO h7 2 (some this)) fun ob8 =>
    thr (F_X2_takesWorked ob8 v3 h7) (fun q11 h9 =>
      some (.inl q11, h9)
    ) (fun v10 h9 =>
      some (.inr v10, h9)
    )
  )
set_option maxHeartbeats 4000000 in
theorem w_X2_goesBack (l : Launch) (hl : l.stackTraces = false) (D : va_G) (dA : Nat → ClassId) (h0 : HH) (this : Nat) (oE : (Nat × String) ⊕ Int32) (hE : HH) (hF : F_X2_goesBack this h0 = some (oE, hE)) : MC D dA l yX2_goesBack cX2_goesBack 2 (Option.some Jvm.ClassFile.FieldType.int) [] 13 365 [va_rf (some this)] h0 (rsI oE, hE) := by
  refine mc_of hl (plainFor_of_name pn_X2) (by simp [lg_sl, cat_rf, cat_i, cat_j, cat_f, cat_d]) ?_
  intro p e s m args below meth c R hRf hRl X hr hnm
  unfold F_X2_goesBack at hF
  rw [show argL [va_rf (some this)] = [some (va_rf (some this))] from by simp [argL, cat_rf, cat_i, cat_j, cat_f, cat_d]]
  refine G.pad 1 (L' := [some (va_rf (some this)), none]) rfl ?_
  refine g_aload_n X dX2_goesBack_0 rfl rfl ?_
  obtain ⟨ob1, eob1, hF⟩ := bnd hF
  rcases thr_some hF with ⟨q4, h2, e5, hF⟩ | ⟨v3, h2, e5, hF⟩
  · refine g_callV X eob1 rfl rfl (w_X2_readied l hl D dA h0 ob1  (.inl q4) h2 e5) q551 q553 qs6 q93 q554 okn_X2_readied ⟨by rw [hRf]; exact Nat.le_of_ble_eq_true rfl, by rw [hRl]; exact Nat.le_of_ble_eq_true rfl⟩ (As := []) (rest := []) rfl (by first | exact Nat.le_of_ble_eq_true rfl | simp [cat_rf, cat_i, cat_j, cat_f, cat_d]) dX2_goesBack_1 (ac_x ?_)
    cases hF
    exact gx_out X (fun x hx => nomatch hx)
  · refine g_callV X eob1 rfl rfl (w_X2_readied l hl D dA h0 ob1  (.inr v3) h2 e5) q551 q553 qs6 q93 q554 okn_X2_readied ⟨by rw [hRf]; exact Nat.le_of_ble_eq_true rfl, by rw [hRl]; exact Nat.le_of_ble_eq_true rfl⟩ (As := []) (rest := []) rfl (by first | exact Nat.le_of_ble_eq_true rfl | simp [cat_rf, cat_i, cat_j, cat_f, cat_d]) dX2_goesBack_1 (ac_v ?_)
    refine g_astore_n (L' := [some (va_rf (some this)), some (va_rf v3)]) X dX2_goesBack_4 rfl (Nat.le_of_ble_eq_true rfl) (by first | rfl | simp [stL, rm1, clr2, cat_rf, cat_i, cat_j, cat_f, cat_d]) ?_
    refine g_aload_n X dX2_goesBack_5 rfl rfl ?_
    obtain ⟨ob6, eob6, hF⟩ := bnd hF
    obtain ⟨h7, eh7, hF⟩ := bnd hF
    refine g_callV X eob6 rfl rfl (w_X3_goesBack l hl D dA h2 ob6  h7 eh7) q584 q585 q586 q97 q587 okn_X3_goesBack ⟨by rw [hRf]; exact Nat.le_of_ble_eq_true rfl, by rw [hRl]; exact Nat.le_of_ble_eq_true rfl⟩ (As := []) (rest := []) rfl (by first | exact Nat.le_of_ble_eq_true rfl | simp [cat_rf, cat_i, cat_j, cat_f, cat_d]) dX2_goesBack_6 (ac_0 ?_)
    refine g_aload_n X dX2_goesBack_9 rfl rfl ?_
    refine g_aload_n X dX2_goesBack_10 rfl rfl ?_
    obtain ⟨ob8, eob8, hF⟩ := bnd hF
    rcases thr_some hF with ⟨q11, h9, e12, hF⟩ | ⟨v10, h9, e12, hF⟩
    · refine g_callV X eob8 rfl rfl (w_X2_takesWorked l hl D dA h7 ob8 v3 (.inl q11) h9 e12) q568 q570 qs7 q93 q571 okn_X2_takesWorked ⟨by rw [hRf]; exact Nat.le_of_ble_eq_true rfl, by rw [hRl]; exact Nat.le_of_ble_eq_true rfl⟩ (As := [va_rf v3]) (rest := []) rfl (by first | exact Nat.le_of_ble_eq_true rfl | simp [cat_rf, cat_i, cat_j, cat_f, cat_d]) dX2_goesBack_11 (ac_x ?_)
      cases hF
      exact gx_out X (fun x hx => nomatch hx)
    · refine g_callV X eob8 rfl rfl (w_X2_takesWorked l hl D dA h7 ob8 v3 (.inr v10) h9 e12) q568 q570 qs7 q93 q571 okn_X2_takesWorked ⟨by rw [hRf]; exact Nat.le_of_ble_eq_true rfl, by rw [hRl]; exact Nat.le_of_ble_eq_true rfl⟩ (As := [va_rf v3]) (rest := []) rfl (by first | exact Nat.le_of_ble_eq_true rfl | simp [cat_rf, cat_i, cat_j, cat_f, cat_d]) dX2_goesBack_11 (ac_v ?_)
      cases hF
      exact g_iret X hr dX2_goesBack_14
def F_X2_frees (this : Nat) (a1 : Int32) (h0 : HH) : Option (((Nat × String) ⊕ Int32) × HH) :=
  thr (F_X1_need (F_X1_isClock a1) (1 : Int32) h0) (fun q3 h1 =>
    some (.inl q3, h1)
  ) (fun u2 h1 =>
    Option.bind (isO h1 2 (some this)) fun ob5 =>
    thr (F_X2_readied ob5 h1) (fun q8 h6 =>
      some (.inl q8, h6)
    ) (fun v7 h6 =>
      Option.bind (isO h6 3 v7) fun ob10 =>
      Option.bind (F_X3_frees ob10 a1 h6) fun h11 =>
      Option.bind (isO h11 2 (some this)) fun ob12 =>
      thr (F_X2_takesWorked ob12 v7 h11) (fun q15 h13 =>
        some (.inl q15, h13)
      ) (fun v14 h13 =>
        some (.inr v14, h13)
      )
    )
  )
set_option maxHeartbeats 4000000 in
theorem w_X2_frees (l : Launch) (hl : l.stackTraces = false) (D : va_G) (dA : Nat → ClassId) (h0 : HH) (this : Nat) (a1 : Int32) (oE : (Nat × String) ⊕ Int32) (hE : HH) (hF : F_X2_frees this a1 h0 = some (oE, hE)) : MC D dA l yX2_frees cX2_frees 3 (Option.some Jvm.ClassFile.FieldType.int) [] 13 365 [va_rf (some this), .int a1] h0 (rsI oE, hE) := by
  refine mc_of hl (plainFor_of_name pn_X2) (by simp [lg_sl, cat_rf, cat_i, cat_j, cat_f, cat_d]) ?_
  intro p e s m args below meth c R hRf hRl X hr hnm
  unfold F_X2_frees at hF
  rw [show argL [va_rf (some this), .int a1] = [some (va_rf (some this)), some (.int a1)] from by simp [argL, cat_rf, cat_i, cat_j, cat_f, cat_d]]
  refine G.pad 1 (L' := [some (va_rf (some this)), some (.int a1), none]) rfl ?_
  refine g_iload_n X dX2_frees_0 rfl rfl ?_
  refine g_callSN X (w_X1_isClock l hl D dA h0 a1) (nw_in q559 rfl) q560 q92 q561 okn_X1_isClock ⟨by rw [hRf]; exact Nat.le_of_ble_eq_true rfl, by rw [hRl]; exact Nat.le_of_ble_eq_true rfl⟩ (As := [.int a1]) (rest := []) rfl (by first | exact Nat.le_of_ble_eq_true rfl | simp [cat_rf, cat_i, cat_j, cat_f, cat_d]) dX2_frees_1 (ac_v ?_)
  refine g_iconst (v := (1 : Int32)) X dX2_frees_4 (by decide) ?_
  rcases thr_some hF with ⟨q3, h1, e4, hF⟩ | ⟨u2, h1, e4, hF⟩
  · refine g_callSN X (w_X1_need l hl D dA h0 (F_X1_isClock a1) (1 : Int32) (.inl q3) h1 e4) (nw_in q420 rfl) q421 q92 q422 okn_X1_need ⟨by rw [hRf]; exact Nat.le_of_ble_eq_true rfl, by rw [hRl]; exact Nat.le_of_ble_eq_true rfl⟩ (As := [.int (F_X1_isClock a1), .int (1 : Int32)]) (rest := []) rfl (by first | exact Nat.le_of_ble_eq_true rfl | simp [cat_rf, cat_i, cat_j, cat_f, cat_d]) dX2_frees_5 (ac_x ?_)
    cases hF
    exact gx_out X (fun x hx => nomatch hx)
  · refine g_callSN X (w_X1_need l hl D dA h0 (F_X1_isClock a1) (1 : Int32) (.inr u2) h1 e4) (nw_in q420 rfl) q421 q92 q422 okn_X1_need ⟨by rw [hRf]; exact Nat.le_of_ble_eq_true rfl, by rw [hRl]; exact Nat.le_of_ble_eq_true rfl⟩ (As := [.int (F_X1_isClock a1), .int (1 : Int32)]) (rest := []) rfl (by first | exact Nat.le_of_ble_eq_true rfl | simp [cat_rf, cat_i, cat_j, cat_f, cat_d]) dX2_frees_5 (ac_0 ?_)
    refine g_aload_n X dX2_frees_8 rfl rfl ?_
    obtain ⟨ob5, eob5, hF⟩ := bnd hF
    rcases thr_some hF with ⟨q8, h6, e9, hF⟩ | ⟨v7, h6, e9, hF⟩
    · refine g_callV X eob5 rfl rfl (w_X2_readied l hl D dA h1 ob5  (.inl q8) h6 e9) q551 q553 qs6 q93 q554 okn_X2_readied ⟨by rw [hRf]; exact Nat.le_of_ble_eq_true rfl, by rw [hRl]; exact Nat.le_of_ble_eq_true rfl⟩ (As := []) (rest := []) rfl (by first | exact Nat.le_of_ble_eq_true rfl | simp [cat_rf, cat_i, cat_j, cat_f, cat_d]) dX2_frees_9 (ac_x ?_)
      cases hF
      exact gx_out X (fun x hx => nomatch hx)
    · refine g_callV X eob5 rfl rfl (w_X2_readied l hl D dA h1 ob5  (.inr v7) h6 e9) q551 q553 qs6 q93 q554 okn_X2_readied ⟨by rw [hRf]; exact Nat.le_of_ble_eq_true rfl, by rw [hRl]; exact Nat.le_of_ble_eq_true rfl⟩ (As := []) (rest := []) rfl (by first | exact Nat.le_of_ble_eq_true rfl | simp [cat_rf, cat_i, cat_j, cat_f, cat_d]) dX2_frees_9 (ac_v ?_)
      refine g_astore_n (L' := [some (va_rf (some this)), some (.int a1), some (va_rf v7)]) X dX2_frees_12 rfl (Nat.le_of_ble_eq_true rfl) (by first | rfl | simp [stL, rm1, clr2, cat_rf, cat_i, cat_j, cat_f, cat_d]) ?_
      refine g_aload_n X dX2_frees_13 rfl rfl ?_
      refine g_iload_n X dX2_frees_14 rfl rfl ?_
      obtain ⟨ob10, eob10, hF⟩ := bnd hF
      obtain ⟨h11, eh11, hF⟩ := bnd hF
      refine g_callV X eob10 rfl rfl (w_X3_frees l hl D dA h6 ob10 a1 h11 eh11) q592 q593 q594 q97 q595 okn_X3_frees ⟨by rw [hRf]; exact Nat.le_of_ble_eq_true rfl, by rw [hRl]; exact Nat.le_of_ble_eq_true rfl⟩ (As := [.int a1]) (rest := []) rfl (by first | exact Nat.le_of_ble_eq_true rfl | simp [cat_rf, cat_i, cat_j, cat_f, cat_d]) dX2_frees_15 (ac_0 ?_)
      refine g_aload_n X dX2_frees_18 rfl rfl ?_
      refine g_aload_n X dX2_frees_19 rfl rfl ?_
      obtain ⟨ob12, eob12, hF⟩ := bnd hF
      rcases thr_some hF with ⟨q15, h13, e16, hF⟩ | ⟨v14, h13, e16, hF⟩
      · refine g_callV X eob12 rfl rfl (w_X2_takesWorked l hl D dA h11 ob12 v7 (.inl q15) h13 e16) q568 q570 qs7 q93 q571 okn_X2_takesWorked ⟨by rw [hRf]; exact Nat.le_of_ble_eq_true rfl, by rw [hRl]; exact Nat.le_of_ble_eq_true rfl⟩ (As := [va_rf v7]) (rest := []) rfl (by first | exact Nat.le_of_ble_eq_true rfl | simp [cat_rf, cat_i, cat_j, cat_f, cat_d]) dX2_frees_20 (ac_x ?_)
        cases hF
        exact gx_out X (fun x hx => nomatch hx)
      · refine g_callV X eob12 rfl rfl (w_X2_takesWorked l hl D dA h11 ob12 v7 (.inr v14) h13 e16) q568 q570 qs7 q93 q571 okn_X2_takesWorked ⟨by rw [hRf]; exact Nat.le_of_ble_eq_true rfl, by rw [hRl]; exact Nat.le_of_ble_eq_true rfl⟩ (As := [va_rf v7]) (rest := []) rfl (by first | exact Nat.le_of_ble_eq_true rfl | simp [cat_rf, cat_i, cat_j, cat_f, cat_d]) dX2_frees_20 (ac_v ?_)
        cases hF
        exact g_iret X hr dX2_frees_23
def F_X2_copies (this : Nat) (a1 : Int32) (a2 : Int32) (h0 : HH) : Option (((Nat × String) ⊕ Int32) × HH) :=
  thr (F_X1_need (if (F_X1_isClock a1) = 0 then (0 : Int32) else (if (F_X1_isClock a2) = 0 then (0 : Int32) else (if a1 = a2 then (0 : Int32) else (1 : Int32)))) (1 : Int32) h0) (fun q6 h4 =>
    some (.inl q6, h4)
  ) (fun u5 h4 =>
    Option.bind (isO h4 2 (some this)) fun ob8 =>
    thr (F_X2_readied ob8 h4) (fun q11 h9 =>
      some (.inl q11, h9)
    ) (fun v10 h9 =>
      Option.bind (isO h9 3 v10) fun ob13 =>
      Option.bind (F_X3_copies ob13 a1 a2 h9) fun h14 =>
      Option.bind (isO h14 2 (some this)) fun ob15 =>
      thr (F_X2_takesWorked ob15 v10 h14) (fun q18 h16 =>
        some (.inl q18, h16)
      ) (fun v17 h16 =>
        Option.bind (getR h16 2 3 (some this)) fun v20 =>
        Option.bind (isO h16 3 v20) fun ob21 =>
        Option.bind (F_X3_at ob21 (3 : Int32) a1 h16) fun v22 =>
        some (.inr (-v22), h16)
      )
    )
  )
set_option maxHeartbeats 4000000 in
theorem w_X2_copies (l : Launch) (hl : l.stackTraces = false) (D : va_G) (dA : Nat → ClassId) (h0 : HH) (this : Nat) (a1 : Int32) (a2 : Int32) (oE : (Nat × String) ⊕ Int32) (hE : HH) (hF : F_X2_copies this a1 a2 h0 = some (oE, hE)) : MC D dA l yX2_copies cX2_copies 5 (Option.some Jvm.ClassFile.FieldType.int) [] 13 365 [va_rf (some this), .int a1, .int a2] h0 (rsI oE, hE) := by
  refine mc_of hl (plainFor_of_name pn_X2) (by simp [lg_sl, cat_rf, cat_i, cat_j, cat_f, cat_d]) ?_
  intro p e s m args below meth c R hRf hRl X hr hnm
  unfold F_X2_copies at hF
  rw [show argL [va_rf (some this), .int a1, .int a2] = [some (va_rf (some this)), some (.int a1), some (.int a2)] from by simp [argL, cat_rf, cat_i, cat_j, cat_f, cat_d]]
  refine G.pad 2 (L' := [some (va_rf (some this)), some (.int a1), some (.int a2), none, none]) rfl ?_
  refine g_iload_n X dX2_copies_0 rfl rfl ?_
  refine g_callSN X (w_X1_isClock l hl D dA h0 a1) (nw_in q559 rfl) q560 q92 q561 okn_X1_isClock ⟨by rw [hRf]; exact Nat.le_of_ble_eq_true rfl, by rw [hRl]; exact Nat.le_of_ble_eq_true rfl⟩ (As := [.int a1]) (rest := []) rfl (by first | exact Nat.le_of_ble_eq_true rfl | simp [cat_rf, cat_i, cat_j, cat_f, cat_d]) dX2_copies_1 (ac_v ?_)
  suffices K : G p l e R s m args below meth c (RQ D dA h0 (rsI oE, hE) below s) D dA h0 5 h0 24 [some (va_rf (some this)), some (.int a1), some (.int a2), none, none] [.int (if (F_X1_isClock a1) = 0 then (0 : Int32) else (if (F_X1_isClock a2) = 0 then (0 : Int32) else (if a1 = a2 then (0 : Int32) else (1 : Int32))))] by
    refine g_if_eq X 23 dX2_copies_4 (by decide) (fun c1 => ?_) (fun c1 => ?_)
    · (try simp only [if_pos c1] at K)
      refine g_iconst (v := (0 : Int32)) X dX2_copies_23 (by decide) ?_
      first | exact K | (simp only [if_pos c1]; exact K)
    · (try simp only [if_neg c1] at K)
      refine g_iload_n X dX2_copies_7 rfl rfl ?_
      refine g_callSN X (w_X1_isClock l hl D dA h0 a2) (nw_in q559 rfl) q560 q92 q561 okn_X1_isClock ⟨by rw [hRf]; exact Nat.le_of_ble_eq_true rfl, by rw [hRl]; exact Nat.le_of_ble_eq_true rfl⟩ (As := [.int a2]) (rest := []) rfl (by first | exact Nat.le_of_ble_eq_true rfl | simp [cat_rf, cat_i, cat_j, cat_f, cat_d]) dX2_copies_8 (ac_v ?_)
      refine g_if_eq X 23 dX2_copies_11 (by decide) (fun c2 => ?_) (fun c2 => ?_)
      · (try simp only [if_pos c2] at K)
        refine g_iconst (v := (0 : Int32)) X dX2_copies_23 (by decide) ?_
        first | exact K | (simp only [if_neg c1, if_pos c2]; exact K)
      · (try simp only [if_neg c2] at K)
        refine g_iload_n X dX2_copies_14 rfl rfl ?_
        refine g_iload_n X dX2_copies_15 rfl rfl ?_
        refine g_icmp_eq X 23 dX2_copies_16 (by decide) (fun c3 => ?_) (fun c3 => ?_)
        · (try simp only [if_pos c3] at K)
          refine g_iconst (v := (0 : Int32)) X dX2_copies_23 (by decide) ?_
          first | exact K | (simp only [if_neg c1, if_neg c2, if_pos c3]; exact K)
        · (try simp only [if_neg c3] at K)
          refine g_iconst (v := (1 : Int32)) X dX2_copies_19 (by decide) ?_
          refine g_goto X 24 dX2_copies_20 (by decide) ?_
          first | exact K | (simp only [if_neg c1, if_neg c2, if_neg c3]; exact K)
  refine g_iconst (v := (1 : Int32)) X dX2_copies_24 (by decide) ?_
  rcases thr_some hF with ⟨q6, h4, e7, hF⟩ | ⟨u5, h4, e7, hF⟩
  · refine g_callSN X (w_X1_need l hl D dA h0 (if (F_X1_isClock a1) = 0 then (0 : Int32) else (if (F_X1_isClock a2) = 0 then (0 : Int32) else (if a1 = a2 then (0 : Int32) else (1 : Int32)))) (1 : Int32) (.inl q6) h4 e7) (nw_in q420 rfl) q421 q92 q422 okn_X1_need ⟨by rw [hRf]; exact Nat.le_of_ble_eq_true rfl, by rw [hRl]; exact Nat.le_of_ble_eq_true rfl⟩ (As := [.int (if (F_X1_isClock a1) = 0 then (0 : Int32) else (if (F_X1_isClock a2) = 0 then (0 : Int32) else (if a1 = a2 then (0 : Int32) else (1 : Int32)))), .int (1 : Int32)]) (rest := []) rfl (by first | exact Nat.le_of_ble_eq_true rfl | simp [cat_rf, cat_i, cat_j, cat_f, cat_d]) dX2_copies_25 (ac_x ?_)
    cases hF
    exact gx_out X (fun x hx => nomatch hx)
  · refine g_callSN X (w_X1_need l hl D dA h0 (if (F_X1_isClock a1) = 0 then (0 : Int32) else (if (F_X1_isClock a2) = 0 then (0 : Int32) else (if a1 = a2 then (0 : Int32) else (1 : Int32)))) (1 : Int32) (.inr u5) h4 e7) (nw_in q420 rfl) q421 q92 q422 okn_X1_need ⟨by rw [hRf]; exact Nat.le_of_ble_eq_true rfl, by rw [hRl]; exact Nat.le_of_ble_eq_true rfl⟩ (As := [.int (if (F_X1_isClock a1) = 0 then (0 : Int32) else (if (F_X1_isClock a2) = 0 then (0 : Int32) else (if a1 = a2 then (0 : Int32) else (1 : Int32)))), .int (1 : Int32)]) (rest := []) rfl (by first | exact Nat.le_of_ble_eq_true rfl | simp [cat_rf, cat_i, cat_j, cat_f, cat_d]) dX2_copies_25 (ac_0 ?_)
    refine g_aload_n X dX2_copies_28 rfl rfl ?_
    obtain ⟨ob8, eob8, hF⟩ := bnd hF
    rcases thr_some hF with ⟨q11, h9, e12, hF⟩ | ⟨v10, h9, e12, hF⟩
    · refine g_callV X eob8 rfl rfl (w_X2_readied l hl D dA h4 ob8  (.inl q11) h9 e12) q551 q553 qs6 q93 q554 okn_X2_readied ⟨by rw [hRf]; exact Nat.le_of_ble_eq_true rfl, by rw [hRl]; exact Nat.le_of_ble_eq_true rfl⟩ (As := []) (rest := []) rfl (by first | exact Nat.le_of_ble_eq_true rfl | simp [cat_rf, cat_i, cat_j, cat_f, cat_d]) dX2_copies_29 (ac_x ?_)
      cases hF
      exact gx_out X (fun x hx => nomatch hx)
    · refine g_callV X eob8 rfl rfl (w_X2_readied l hl D dA h4 ob8  (.inr v10) h9 e12) q551 q553 qs6 q93 q554 okn_X2_readied ⟨by rw [hRf]; exact Nat.le_of_ble_eq_true rfl, by rw [hRl]; exact Nat.le_of_ble_eq_true rfl⟩ (As := []) (rest := []) rfl (by first | exact Nat.le_of_ble_eq_true rfl | simp [cat_rf, cat_i, cat_j, cat_f, cat_d]) dX2_copies_29 (ac_v ?_)
      refine g_astore_n (L' := [some (va_rf (some this)), some (.int a1), some (.int a2), some (va_rf v10), none]) X dX2_copies_32 rfl (Nat.le_of_ble_eq_true rfl) (by first | rfl | simp [stL, rm1, clr2, cat_rf, cat_i, cat_j, cat_f, cat_d]) ?_
      refine g_aload_n X dX2_copies_33 rfl rfl ?_
      refine g_iload_n X dX2_copies_34 rfl rfl ?_
      refine g_iload_n X dX2_copies_35 rfl rfl ?_
      obtain ⟨ob13, eob13, hF⟩ := bnd hF
      obtain ⟨h14, eh14, hF⟩ := bnd hF
      refine g_callV X eob13 rfl rfl (w_X3_copies l hl D dA h9 ob13 a1 a2 h14 eh14) q600 q601 q602 q97 q603 okn_X3_copies ⟨by rw [hRf]; exact Nat.le_of_ble_eq_true rfl, by rw [hRl]; exact Nat.le_of_ble_eq_true rfl⟩ (As := [.int a1, .int a2]) (rest := []) rfl (by first | exact Nat.le_of_ble_eq_true rfl | simp [cat_rf, cat_i, cat_j, cat_f, cat_d]) dX2_copies_36 (ac_0 ?_)
      refine g_aload_n X dX2_copies_39 rfl rfl ?_
      refine g_aload_n X dX2_copies_40 rfl rfl ?_
      obtain ⟨ob15, eob15, hF⟩ := bnd hF
      rcases thr_some hF with ⟨q18, h16, e19, hF⟩ | ⟨v17, h16, e19, hF⟩
      · refine g_callV X eob15 rfl rfl (w_X2_takesWorked l hl D dA h14 ob15 v10 (.inl q18) h16 e19) q568 q570 qs7 q93 q571 okn_X2_takesWorked ⟨by rw [hRf]; exact Nat.le_of_ble_eq_true rfl, by rw [hRl]; exact Nat.le_of_ble_eq_true rfl⟩ (As := [va_rf v10]) (rest := []) rfl (by first | exact Nat.le_of_ble_eq_true rfl | simp [cat_rf, cat_i, cat_j, cat_f, cat_d]) dX2_copies_41 (ac_x ?_)
        cases hF
        exact gx_out X (fun x hx => nomatch hx)
      · refine g_callV X eob15 rfl rfl (w_X2_takesWorked l hl D dA h14 ob15 v10 (.inr v17) h16 e19) q568 q570 qs7 q93 q571 okn_X2_takesWorked ⟨by rw [hRf]; exact Nat.le_of_ble_eq_true rfl, by rw [hRl]; exact Nat.le_of_ble_eq_true rfl⟩ (As := [va_rf v10]) (rest := []) rfl (by first | exact Nat.le_of_ble_eq_true rfl | simp [cat_rf, cat_i, cat_j, cat_f, cat_d]) dX2_copies_41 (ac_v ?_)
        refine g_istore (L' := [some (va_rf (some this)), some (.int a1), some (.int a2), some (va_rf v10), some (.int v17)]) X dX2_copies_44 (Nat.le_of_ble_eq_true rfl) (by first | rfl | simp [stL, rm1, clr2, cat_rf, cat_i, cat_j, cat_f, cat_d]) ?_
        refine g_aload_n X dX2_copies_46 rfl rfl ?_
        obtain ⟨v20, ev20, hF⟩ := bnd hF
        refine g_get (k := 3) X in_X2 rfl (by decide) q188 (Or.inl rfl) (getR_V ev20) dX2_copies_47 ?_
        refine g_iconst (v := (3 : Int32)) X dX2_copies_50 (by decide) ?_
        refine g_iload_n X dX2_copies_51 rfl rfl ?_
        obtain ⟨ob21, eob21, hF⟩ := bnd hF
        obtain ⟨v22, ev22, hF⟩ := bnd hF
        refine g_callV X eob21 rfl rfl (w_X3_at l hl D dA h16 ob21 (3 : Int32) a1 v22 ev22) q563 q495 q496 q97 q497 okn_X3_at ⟨by rw [hRf]; exact Nat.le_of_ble_eq_true rfl, by rw [hRl]; exact Nat.le_of_ble_eq_true rfl⟩ (As := [.int (3 : Int32), .int a1]) (rest := []) rfl (by first | exact Nat.le_of_ble_eq_true rfl | simp [cat_rf, cat_i, cat_j, cat_f, cat_d]) dX2_copies_52 (ac_v ?_)
        refine g_ineg X dX2_copies_55 ?_
        cases hF
        exact g_iret X hr dX2_copies_56
def F_X2_shifts (this : Nat) (a1 : Int32) (a2 : Int32) (h0 : HH) : Option (((Nat × String) ⊕ Int32) × HH) :=
  thr (F_X1_need (if (F_X1_isClock a1) = 0 then (0 : Int32) else (if (F_X1_isBetween (a2.toInt64) (1 : Int64) (9 : Int64)) = 0 then (0 : Int32) else (1 : Int32))) (1 : Int32) h0) (fun q5 h3 =>
    some (.inl q5, h3)
  ) (fun u4 h3 =>
    Option.bind (isO h3 2 (some this)) fun ob7 =>
    thr (F_X2_readied ob7 h3) (fun q10 h8 =>
      some (.inl q10, h8)
    ) (fun v9 h8 =>
      Option.bind (isO h8 3 v9) fun ob12 =>
      Option.bind (F_X3_shifts ob12 a1 a2 h8) fun h13 =>
      Option.bind (isO h13 2 (some this)) fun ob14 =>
      thr (F_X2_takesWorked ob14 v9 h13) (fun q17 h15 =>
        some (.inl q17, h15)
      ) (fun v16 h15 =>
        Option.bind (getR h15 2 3 (some this)) fun v19 =>
        Option.bind (isO h15 3 v19) fun ob20 =>
        Option.bind (F_X3_at ob20 (3 : Int32) a1 h15) fun v21 =>
        some (.inr (-v21), h15)
      )
    )
  )
set_option maxHeartbeats 4000000 in
theorem w_X2_shifts (l : Launch) (hl : l.stackTraces = false) (D : va_G) (dA : Nat → ClassId) (h0 : HH) (this : Nat) (a1 : Int32) (a2 : Int32) (oE : (Nat × String) ⊕ Int32) (hE : HH) (hF : F_X2_shifts this a1 a2 h0 = some (oE, hE)) : MC D dA l yX2_shifts cX2_shifts 5 (Option.some Jvm.ClassFile.FieldType.int) [] 13 365 [va_rf (some this), .int a1, .int a2] h0 (rsI oE, hE) := by
  refine mc_of hl (plainFor_of_name pn_X2) (by simp [lg_sl, cat_rf, cat_i, cat_j, cat_f, cat_d]) ?_
  intro p e s m args below meth c R hRf hRl X hr hnm
  unfold F_X2_shifts at hF
  rw [show argL [va_rf (some this), .int a1, .int a2] = [some (va_rf (some this)), some (.int a1), some (.int a2)] from by simp [argL, cat_rf, cat_i, cat_j, cat_f, cat_d]]
  refine G.pad 2 (L' := [some (va_rf (some this)), some (.int a1), some (.int a2), none, none]) rfl ?_
  refine g_iload_n X dX2_shifts_0 rfl rfl ?_
  refine g_callSN X (w_X1_isClock l hl D dA h0 a1) (nw_in q559 rfl) q560 q92 q561 okn_X1_isClock ⟨by rw [hRf]; exact Nat.le_of_ble_eq_true rfl, by rw [hRl]; exact Nat.le_of_ble_eq_true rfl⟩ (As := [.int a1]) (rest := []) rfl (by first | exact Nat.le_of_ble_eq_true rfl | simp [cat_rf, cat_i, cat_j, cat_f, cat_d]) dX2_shifts_1 (ac_v ?_)
  suffices K : G p l e R s m args below meth c (RQ D dA h0 (rsI oE, hE) below s) D dA h0 5 h0 24 [some (va_rf (some this)), some (.int a1), some (.int a2), none, none] [.int (if (F_X1_isClock a1) = 0 then (0 : Int32) else (if (F_X1_isBetween (a2.toInt64) (1 : Int64) (9 : Int64)) = 0 then (0 : Int32) else (1 : Int32)))] by
    refine g_if_eq X 23 dX2_shifts_4 (by decide) (fun c1 => ?_) (fun c1 => ?_)
    · (try simp only [if_pos c1] at K)
      refine g_iconst (v := (0 : Int32)) X dX2_shifts_23 (by decide) ?_
      first | exact K | (simp only [if_pos c1]; exact K)
    · (try simp only [if_neg c1] at K)
      refine g_iload_n X dX2_shifts_7 rfl rfl ?_
      refine g_i2l X dX2_shifts_8 ?_
      refine g_lconst (v := (1 : Int64)) X dX2_shifts_9 (by decide) ?_
      refine g_ldc2 (v := (9 : Int64)) X q418 dX2_shifts_10 ?_
      refine g_callSN X (w_X1_isBetween l hl D dA h0 (a2.toInt64) (1 : Int64) (9 : Int64)) (nw_in q419 rfl) q415 q92 q416 okn_X1_isBetween ⟨by rw [hRf]; exact Nat.le_of_ble_eq_true rfl, by rw [hRl]; exact Nat.le_of_ble_eq_true rfl⟩ (As := [.long (a2.toInt64), .long (1 : Int64), .long (9 : Int64)]) (rest := []) rfl (by first | exact Nat.le_of_ble_eq_true rfl | simp [cat_rf, cat_i, cat_j, cat_f, cat_d]) dX2_shifts_13 (ac_v ?_)
      refine g_if_eq X 23 dX2_shifts_16 (by decide) (fun c2 => ?_) (fun c2 => ?_)
      · (try simp only [if_pos c2] at K)
        refine g_iconst (v := (0 : Int32)) X dX2_shifts_23 (by decide) ?_
        first | exact K | (simp only [if_neg c1, if_pos c2]; exact K)
      · (try simp only [if_neg c2] at K)
        refine g_iconst (v := (1 : Int32)) X dX2_shifts_19 (by decide) ?_
        refine g_goto X 24 dX2_shifts_20 (by decide) ?_
        first | exact K | (simp only [if_neg c1, if_neg c2]; exact K)
  refine g_iconst (v := (1 : Int32)) X dX2_shifts_24 (by decide) ?_
  rcases thr_some hF with ⟨q5, h3, e6, hF⟩ | ⟨u4, h3, e6, hF⟩
  · refine g_callSN X (w_X1_need l hl D dA h0 (if (F_X1_isClock a1) = 0 then (0 : Int32) else (if (F_X1_isBetween (a2.toInt64) (1 : Int64) (9 : Int64)) = 0 then (0 : Int32) else (1 : Int32))) (1 : Int32) (.inl q5) h3 e6) (nw_in q420 rfl) q421 q92 q422 okn_X1_need ⟨by rw [hRf]; exact Nat.le_of_ble_eq_true rfl, by rw [hRl]; exact Nat.le_of_ble_eq_true rfl⟩ (As := [.int (if (F_X1_isClock a1) = 0 then (0 : Int32) else (if (F_X1_isBetween (a2.toInt64) (1 : Int64) (9 : Int64)) = 0 then (0 : Int32) else (1 : Int32))), .int (1 : Int32)]) (rest := []) rfl (by first | exact Nat.le_of_ble_eq_true rfl | simp [cat_rf, cat_i, cat_j, cat_f, cat_d]) dX2_shifts_25 (ac_x ?_)
    cases hF
    exact gx_out X (fun x hx => nomatch hx)
  · refine g_callSN X (w_X1_need l hl D dA h0 (if (F_X1_isClock a1) = 0 then (0 : Int32) else (if (F_X1_isBetween (a2.toInt64) (1 : Int64) (9 : Int64)) = 0 then (0 : Int32) else (1 : Int32))) (1 : Int32) (.inr u4) h3 e6) (nw_in q420 rfl) q421 q92 q422 okn_X1_need ⟨by rw [hRf]; exact Nat.le_of_ble_eq_true rfl, by rw [hRl]; exact Nat.le_of_ble_eq_true rfl⟩ (As := [.int (if (F_X1_isClock a1) = 0 then (0 : Int32) else (if (F_X1_isBetween (a2.toInt64) (1 : Int64) (9 : Int64)) = 0 then (0 : Int32) else (1 : Int32))), .int (1 : Int32)]) (rest := []) rfl (by first | exact Nat.le_of_ble_eq_true rfl | simp [cat_rf, cat_i, cat_j, cat_f, cat_d]) dX2_shifts_25 (ac_0 ?_)
    refine g_aload_n X dX2_shifts_28 rfl rfl ?_
    obtain ⟨ob7, eob7, hF⟩ := bnd hF
    rcases thr_some hF with ⟨q10, h8, e11, hF⟩ | ⟨v9, h8, e11, hF⟩
    · refine g_callV X eob7 rfl rfl (w_X2_readied l hl D dA h3 ob7  (.inl q10) h8 e11) q551 q553 qs6 q93 q554 okn_X2_readied ⟨by rw [hRf]; exact Nat.le_of_ble_eq_true rfl, by rw [hRl]; exact Nat.le_of_ble_eq_true rfl⟩ (As := []) (rest := []) rfl (by first | exact Nat.le_of_ble_eq_true rfl | simp [cat_rf, cat_i, cat_j, cat_f, cat_d]) dX2_shifts_29 (ac_x ?_)
      cases hF
      exact gx_out X (fun x hx => nomatch hx)
    · refine g_callV X eob7 rfl rfl (w_X2_readied l hl D dA h3 ob7  (.inr v9) h8 e11) q551 q553 qs6 q93 q554 okn_X2_readied ⟨by rw [hRf]; exact Nat.le_of_ble_eq_true rfl, by rw [hRl]; exact Nat.le_of_ble_eq_true rfl⟩ (As := []) (rest := []) rfl (by first | exact Nat.le_of_ble_eq_true rfl | simp [cat_rf, cat_i, cat_j, cat_f, cat_d]) dX2_shifts_29 (ac_v ?_)
      refine g_astore_n (L' := [some (va_rf (some this)), some (.int a1), some (.int a2), some (va_rf v9), none]) X dX2_shifts_32 rfl (Nat.le_of_ble_eq_true rfl) (by first | rfl | simp [stL, rm1, clr2, cat_rf, cat_i, cat_j, cat_f, cat_d]) ?_
      refine g_aload_n X dX2_shifts_33 rfl rfl ?_
      refine g_iload_n X dX2_shifts_34 rfl rfl ?_
      refine g_iload_n X dX2_shifts_35 rfl rfl ?_
      obtain ⟨ob12, eob12, hF⟩ := bnd hF
      obtain ⟨h13, eh13, hF⟩ := bnd hF
      refine g_callV X eob12 rfl rfl (w_X3_shifts l hl D dA h8 ob12 a1 a2 h13 eh13) q608 q609 q610 q97 q611 okn_X3_shifts ⟨by rw [hRf]; exact Nat.le_of_ble_eq_true rfl, by rw [hRl]; exact Nat.le_of_ble_eq_true rfl⟩ (As := [.int a1, .int a2]) (rest := []) rfl (by first | exact Nat.le_of_ble_eq_true rfl | simp [cat_rf, cat_i, cat_j, cat_f, cat_d]) dX2_shifts_36 (ac_0 ?_)
      refine g_aload_n X dX2_shifts_39 rfl rfl ?_
      refine g_aload_n X dX2_shifts_40 rfl rfl ?_
      obtain ⟨ob14, eob14, hF⟩ := bnd hF
      rcases thr_some hF with ⟨q17, h15, e18, hF⟩ | ⟨v16, h15, e18, hF⟩
      · refine g_callV X eob14 rfl rfl (w_X2_takesWorked l hl D dA h13 ob14 v9 (.inl q17) h15 e18) q568 q570 qs7 q93 q571 okn_X2_takesWorked ⟨by rw [hRf]; exact Nat.le_of_ble_eq_true rfl, by rw [hRl]; exact Nat.le_of_ble_eq_true rfl⟩ (As := [va_rf v9]) (rest := []) rfl (by first | exact Nat.le_of_ble_eq_true rfl | simp [cat_rf, cat_i, cat_j, cat_f, cat_d]) dX2_shifts_41 (ac_x ?_)
        cases hF
        exact gx_out X (fun x hx => nomatch hx)
      · refine g_callV X eob14 rfl rfl (w_X2_takesWorked l hl D dA h13 ob14 v9 (.inr v16) h15 e18) q568 q570 qs7 q93 q571 okn_X2_takesWorked ⟨by rw [hRf]; exact Nat.le_of_ble_eq_true rfl, by rw [hRl]; exact Nat.le_of_ble_eq_true rfl⟩ (As := [va_rf v9]) (rest := []) rfl (by first | exact Nat.le_of_ble_eq_true rfl | simp [cat_rf, cat_i, cat_j, cat_f, cat_d]) dX2_shifts_41 (ac_v ?_)
        refine g_istore (L' := [some (va_rf (some this)), some (.int a1), some (.int a2), some (va_rf v9), some (.int v16)]) X dX2_shifts_44 (Nat.le_of_ble_eq_true rfl) (by first | rfl | simp [stL, rm1, clr2, cat_rf, cat_i, cat_j, cat_f, cat_d]) ?_
        refine g_aload_n X dX2_shifts_46 rfl rfl ?_
        obtain ⟨v19, ev19, hF⟩ := bnd hF
        refine g_get (k := 3) X in_X2 rfl (by decide) q188 (Or.inl rfl) (getR_V ev19) dX2_shifts_47 ?_
        refine g_iconst (v := (3 : Int32)) X dX2_shifts_50 (by decide) ?_
        refine g_iload_n X dX2_shifts_51 rfl rfl ?_
        obtain ⟨ob20, eob20, hF⟩ := bnd hF
        obtain ⟨v21, ev21, hF⟩ := bnd hF
        refine g_callV X eob20 rfl rfl (w_X3_at l hl D dA h15 ob20 (3 : Int32) a1 v21 ev21) q563 q495 q496 q97 q497 okn_X3_at ⟨by rw [hRf]; exact Nat.le_of_ble_eq_true rfl, by rw [hRl]; exact Nat.le_of_ble_eq_true rfl⟩ (As := [.int (3 : Int32), .int a1]) (rest := []) rfl (by first | exact Nat.le_of_ble_eq_true rfl | simp [cat_rf, cat_i, cat_j, cat_f, cat_d]) dX2_shifts_52 (ac_v ?_)
        refine g_ineg X dX2_shifts_55 ?_
        cases hF
        exact g_iret X hr dX2_shifts_56
def F_X1_isShelf (a1 : Int32) : Int32 :=
  (F_X1_isBetween (a1.toInt64) (0 : Int64) (3 : Int64))
set_option maxHeartbeats 4000000 in
theorem w_X1_isShelf (l : Launch) (hl : l.stackTraces = false) (D : va_G) (dA : Nat → ClassId) (h0 : HH) (a1 : Int32) : MC D dA l yX1_isShelf cX1_isShelf 1 (Option.some Jvm.ClassFile.FieldType.boolean) [] 1 25 [.int a1] h0 (.inr (some (.int (F_X1_isShelf a1))), h0) := by
  refine mc_of hl (plainFor_of_name pn_X1) (by simp [lg_sl, cat_rf, cat_i, cat_j, cat_f, cat_d]) ?_
  intro p e s m args below meth c R hRf hRl X hr hnm
  generalize hF : F_X1_isShelf a1 = rE
  unfold F_X1_isShelf at hF
  rw [show argL [.int a1] = [some (.int a1)] from by simp [argL, cat_rf, cat_i, cat_j, cat_f, cat_d]]
  refine g_iload_n X dX1_isShelf_0 rfl rfl ?_
  refine g_i2l X dX1_isShelf_1 ?_
  refine g_lconst (v := (0 : Int64)) X dX1_isShelf_2 (by decide) ?_
  refine g_ldc2 (v := (3 : Int64)) X q413 dX1_isShelf_3 ?_
  refine g_callS X (w_X1_isBetween l hl D dA h0 (a1.toInt64) (0 : Int64) (3 : Int64)) q414 q415 q92 q416 okn_X1_isBetween ⟨by rw [hRf]; exact Nat.le_of_ble_eq_true rfl, by rw [hRl]; exact Nat.le_of_ble_eq_true rfl⟩ (As := [.long (a1.toInt64), .long (0 : Int64), .long (3 : Int64)]) (rest := []) rfl (by first | exact Nat.le_of_ble_eq_true rfl | simp [cat_rf, cat_i, cat_j, cat_f, cat_d]) dX1_isShelf_6 (ac_v ?_)
  cases hF
  exact g_zret X hr (by simp only [F_X1_isBetween]; (repeat' split) <;> rfl) dX1_isShelf_9
def F_X2_puts (this : Nat) (a1 : Int32) (h0 : HH) : Option (((Nat × String) ⊕ Int32) × HH) :=
  thr (F_X1_need (F_X1_isShelf a1) (1 : Int32) h0) (fun q3 h1 =>
    some (.inl q3, h1)
  ) (fun u2 h1 =>
    Option.bind (getR h1 2 2 (some this)) fun v5 =>
    Option.bind (aldR h1 3 v5 a1) fun v6 =>
    Option.bind (getR h1 2 2 (some this)) fun v8 =>
    Option.bind (newO h1 3 1 [.null]) fun h9 =>
    Option.bind (getR h9 2 3 (some this)) fun v10 =>
    Option.bind (nnl (some (hSz h1))) fun ob11 =>
    Option.bind (F_X3_init_2 ob11 v10 h9) fun h12 =>
    Option.bind (astR h12 3 v8 a1 (some (hSz h1))) fun h13 =>
    some (.inr (if v6 = none then (0 : Int32) else (1 : Int32)), h13)
  )
set_option maxHeartbeats 4000000 in
theorem w_X2_puts (l : Launch) (hl : l.stackTraces = false) (D : va_G) (dA : Nat → ClassId) (h0 : HH) (this : Nat) (a1 : Int32) (oE : (Nat × String) ⊕ Int32) (hE : HH) (hF : F_X2_puts this a1 h0 = some (oE, hE)) : MC D dA l yX2_puts cX2_puts 3 (Option.some Jvm.ClassFile.FieldType.int) [] 11 321 [va_rf (some this), .int a1] h0 (rsI oE, hE) := by
  refine mc_of hl (plainFor_of_name pn_X2) (by simp [lg_sl, cat_rf, cat_i, cat_j, cat_f, cat_d]) ?_
  intro p e s m args below meth c R hRf hRl X hr hnm
  unfold F_X2_puts at hF
  rw [show argL [va_rf (some this), .int a1] = [some (va_rf (some this)), some (.int a1)] from by simp [argL, cat_rf, cat_i, cat_j, cat_f, cat_d]]
  refine G.pad 1 (L' := [some (va_rf (some this)), some (.int a1), none]) rfl ?_
  refine g_iload_n X dX2_puts_0 rfl rfl ?_
  refine g_callSN X (w_X1_isShelf l hl D dA h0 a1) (nw_in q619 rfl) q620 q92 q621 okn_X1_isShelf ⟨by rw [hRf]; exact Nat.le_of_ble_eq_true rfl, by rw [hRl]; exact Nat.le_of_ble_eq_true rfl⟩ (As := [.int a1]) (rest := []) rfl (by first | exact Nat.le_of_ble_eq_true rfl | simp [cat_rf, cat_i, cat_j, cat_f, cat_d]) dX2_puts_1 (ac_v ?_)
  refine g_iconst (v := (1 : Int32)) X dX2_puts_4 (by decide) ?_
  rcases thr_some hF with ⟨q3, h1, e4, hF⟩ | ⟨u2, h1, e4, hF⟩
  · refine g_callSN X (w_X1_need l hl D dA h0 (F_X1_isShelf a1) (1 : Int32) (.inl q3) h1 e4) (nw_in q420 rfl) q421 q92 q422 okn_X1_need ⟨by rw [hRf]; exact Nat.le_of_ble_eq_true rfl, by rw [hRl]; exact Nat.le_of_ble_eq_true rfl⟩ (As := [.int (F_X1_isShelf a1), .int (1 : Int32)]) (rest := []) rfl (by first | exact Nat.le_of_ble_eq_true rfl | simp [cat_rf, cat_i, cat_j, cat_f, cat_d]) dX2_puts_5 (ac_x ?_)
    cases hF
    exact gx_out X (fun x hx => nomatch hx)
  · refine g_callSN X (w_X1_need l hl D dA h0 (F_X1_isShelf a1) (1 : Int32) (.inr u2) h1 e4) (nw_in q420 rfl) q421 q92 q422 okn_X1_need ⟨by rw [hRf]; exact Nat.le_of_ble_eq_true rfl, by rw [hRl]; exact Nat.le_of_ble_eq_true rfl⟩ (As := [.int (F_X1_isShelf a1), .int (1 : Int32)]) (rest := []) rfl (by first | exact Nat.le_of_ble_eq_true rfl | simp [cat_rf, cat_i, cat_j, cat_f, cat_d]) dX2_puts_5 (ac_0 ?_)
    refine g_aload_n X dX2_puts_8 rfl rfl ?_
    obtain ⟨v5, ev5, hF⟩ := bnd hF
    refine g_get (k := 2) X in_X2 rfl (by decide) q186 (Or.inl rfl) (getR_V ev5) dX2_puts_9 ?_
    refine g_iload_n X dX2_puts_12 rfl rfl ?_
    obtain ⟨v6, ev6, hF⟩ := bnd hF
    refine g_aald X rfl ev6 dX2_puts_13 ?_
    suffices K : G p l e R s m args below meth c (RQ D dA h0 (rsI oE, hE) below s) D dA h0 3 h1 22 [some (va_rf (some this)), some (.int a1), none] [.int (if v6 = none then (0 : Int32) else (1 : Int32))] by
      refine g_ifnonnull X 21 dX2_puts_14 (by decide) (fun c7 => ?_) (fun c7 => ?_)
      · (try simp only [if_neg c7] at K)
        refine g_iconst (v := (1 : Int32)) X dX2_puts_21 (by decide) ?_
        first | exact K | (simp only [if_neg c7]; exact K)
      · (try simp only [if_pos c7] at K)
        refine g_iconst (v := (0 : Int32)) X dX2_puts_17 (by decide) ?_
        refine g_goto X 22 dX2_puts_18 (by decide) ?_
        first | exact K | (simp only [if_pos c7]; exact K)
    refine g_istore_n (L' := [some (va_rf (some this)), some (.int a1), some (.int (if v6 = none then (0 : Int32) else (1 : Int32)))]) X dX2_puts_22 rfl (Nat.le_of_ble_eq_true rfl) (by first | rfl | simp [stL, rm1, clr2, cat_rf, cat_i, cat_j, cat_f, cat_d]) ?_
    refine g_aload_n X dX2_puts_23 rfl rfl ?_
    obtain ⟨v8, ev8, hF⟩ := bnd hF
    refine g_get (k := 2) X in_X2 rfl (by decide) q186 (Or.inl rfl) (getR_V ev8) dX2_puts_24 ?_
    refine g_iload_n X dX2_puts_27 rfl rfl ?_
    obtain ⟨h9, eh9, hF⟩ := bnd hF
    refine g_new X in_X3 tyX3 tyX3_ok rfl q166 q168 q97 rfl dv_X3 eh9 dX2_puts_28 ?_
    refine g_dup X dX2_puts_31 (cat_rf _) ?_
    refine g_aload_n X dX2_puts_32 rfl rfl ?_
    obtain ⟨v10, ev10, hF⟩ := bnd hF
    refine g_get (k := 3) X in_X2 rfl (by decide) q188 (Or.inl rfl) (getR_V ev10) dX2_puts_33 ?_
    obtain ⟨ob11, eob11, hF⟩ := bnd hF
    obtain ⟨h12, eh12, hF⟩ := bnd hF
    refine g_callI X (nnl_some eob11) (w_X3_init_2 l hl D dA h9 ob11 v10 h12 eh12) rfl q398 q399 q97 q400 okn_X3_init_2 ⟨by rw [hRf]; exact Nat.le_of_ble_eq_true rfl, by rw [hRl]; exact Nat.le_of_ble_eq_true rfl⟩ (As := [va_rf v10]) (rest := [va_rf (some (hSz h1)), .int a1, va_rf v8]) rfl (by first | exact Nat.le_of_ble_eq_true rfl | simp [cat_rf, cat_i, cat_j, cat_f, cat_d]) dX2_puts_36 (ac_0 ?_)
    obtain ⟨h13, eh13, hF⟩ := bnd hF
    refine g_aast X eh13 dX2_puts_39 ?_
    refine g_iload_n X dX2_puts_40 rfl rfl ?_
    cases hF
    exact g_iret X hr dX2_puts_41
def F_X2_onShelf (this : Nat) (a1 : Int32) (h0 : HH) : Option (((Nat × String) ⊕ Option Nat) × HH) :=
  thr (F_X1_need (F_X1_isShelf a1) (1 : Int32) h0) (fun q3 h1 =>
    some (.inl q3, h1)
  ) (fun u2 h1 =>
    Option.bind (getR h1 2 2 (some this)) fun v5 =>
    Option.bind (aldR h1 3 v5 a1) fun v6 =>
    thr (F_X1_need (if v6 = none then (0 : Int32) else (1 : Int32)) (2 : Int32) h1) (fun q10 h8 =>
      some (.inl q10, h8)
    ) (fun u9 h8 =>
      Option.bind (getR h8 2 2 (some this)) fun v12 =>
      Option.bind (aldR h8 3 v12 a1) fun v13 =>
      some (.inr v13, h8)
    )
  )
set_option maxHeartbeats 4000000 in
theorem w_X2_onShelf (l : Launch) (hl : l.stackTraces = false) (D : va_G) (dA : Nat → ClassId) (h0 : HH) (this : Nat) (a1 : Int32) (oE : (Nat × String) ⊕ Option Nat) (hE : HH) (hF : F_X2_onShelf this a1 h0 = some (oE, hE)) : MC D dA l yX2_onShelf cX2_onShelf 2 (Option.some (Jvm.ClassFile.FieldType.object "FerryClocks$Zone")) [] 11 321 [va_rf (some this), .int a1] h0 (rsR oE, hE) := by
  refine mc_of hl (plainFor_of_name pn_X2) (by simp [lg_sl, cat_rf, cat_i, cat_j, cat_f, cat_d]) ?_
  intro p e s m args below meth c R hRf hRl X hr hnm
  unfold F_X2_onShelf at hF
  rw [show argL [va_rf (some this), .int a1] = [some (va_rf (some this)), some (.int a1)] from by simp [argL, cat_rf, cat_i, cat_j, cat_f, cat_d]]
  refine g_iload_n X dX2_onShelf_0 rfl rfl ?_
  refine g_callSN X (w_X1_isShelf l hl D dA h0 a1) (nw_in q619 rfl) q620 q92 q621 okn_X1_isShelf ⟨by rw [hRf]; exact Nat.le_of_ble_eq_true rfl, by rw [hRl]; exact Nat.le_of_ble_eq_true rfl⟩ (As := [.int a1]) (rest := []) rfl (by first | exact Nat.le_of_ble_eq_true rfl | simp [cat_rf, cat_i, cat_j, cat_f, cat_d]) dX2_onShelf_1 (ac_v ?_)
  refine g_iconst (v := (1 : Int32)) X dX2_onShelf_4 (by decide) ?_
  rcases thr_some hF with ⟨q3, h1, e4, hF⟩ | ⟨u2, h1, e4, hF⟩
  · refine g_callSN X (w_X1_need l hl D dA h0 (F_X1_isShelf a1) (1 : Int32) (.inl q3) h1 e4) (nw_in q420 rfl) q421 q92 q422 okn_X1_need ⟨by rw [hRf]; exact Nat.le_of_ble_eq_true rfl, by rw [hRl]; exact Nat.le_of_ble_eq_true rfl⟩ (As := [.int (F_X1_isShelf a1), .int (1 : Int32)]) (rest := []) rfl (by first | exact Nat.le_of_ble_eq_true rfl | simp [cat_rf, cat_i, cat_j, cat_f, cat_d]) dX2_onShelf_5 (ac_x ?_)
    cases hF
    exact gx_out X (fun x hx => nomatch hx)
  · refine g_callSN X (w_X1_need l hl D dA h0 (F_X1_isShelf a1) (1 : Int32) (.inr u2) h1 e4) (nw_in q420 rfl) q421 q92 q422 okn_X1_need ⟨by rw [hRf]; exact Nat.le_of_ble_eq_true rfl, by rw [hRl]; exact Nat.le_of_ble_eq_true rfl⟩ (As := [.int (F_X1_isShelf a1), .int (1 : Int32)]) (rest := []) rfl (by first | exact Nat.le_of_ble_eq_true rfl | simp [cat_rf, cat_i, cat_j, cat_f, cat_d]) dX2_onShelf_5 (ac_0 ?_)
    refine g_aload_n X dX2_onShelf_8 rfl rfl ?_
    obtain ⟨v5, ev5, hF⟩ := bnd hF
    refine g_get (k := 2) X in_X2 rfl (by decide) q186 (Or.inl rfl) (getR_V ev5) dX2_onShelf_9 ?_
    refine g_iload_n X dX2_onShelf_12 rfl rfl ?_
    obtain ⟨v6, ev6, hF⟩ := bnd hF
    refine g_aald X rfl ev6 dX2_onShelf_13 ?_
    suffices K : G p l e R s m args below meth c (RQ D dA h0 (rsR oE, hE) below s) D dA h0 2 h1 22 [some (va_rf (some this)), some (.int a1)] [.int (if v6 = none then (0 : Int32) else (1 : Int32))] by
      refine g_ifnull X 21 dX2_onShelf_14 (by decide) (fun c7 => ?_) (fun c7 => ?_)
      · (try simp only [if_pos c7] at K)
        refine g_iconst (v := (0 : Int32)) X dX2_onShelf_21 (by decide) ?_
        first | exact K | (simp only [if_pos c7]; exact K)
      · (try simp only [if_neg c7] at K)
        refine g_iconst (v := (1 : Int32)) X dX2_onShelf_17 (by decide) ?_
        refine g_goto X 22 dX2_onShelf_18 (by decide) ?_
        first | exact K | (simp only [if_neg c7]; exact K)
    refine g_iconst (v := (2 : Int32)) X dX2_onShelf_22 (by decide) ?_
    rcases thr_some hF with ⟨q10, h8, e11, hF⟩ | ⟨u9, h8, e11, hF⟩
    · refine g_callSN X (w_X1_need l hl D dA h1 (if v6 = none then (0 : Int32) else (1 : Int32)) (2 : Int32) (.inl q10) h8 e11) (nw_in q420 rfl) q421 q92 q422 okn_X1_need ⟨by rw [hRf]; exact Nat.le_of_ble_eq_true rfl, by rw [hRl]; exact Nat.le_of_ble_eq_true rfl⟩ (As := [.int (if v6 = none then (0 : Int32) else (1 : Int32)), .int (2 : Int32)]) (rest := []) rfl (by first | exact Nat.le_of_ble_eq_true rfl | simp [cat_rf, cat_i, cat_j, cat_f, cat_d]) dX2_onShelf_23 (ac_x ?_)
      cases hF
      exact gx_out X (fun x hx => nomatch hx)
    · refine g_callSN X (w_X1_need l hl D dA h1 (if v6 = none then (0 : Int32) else (1 : Int32)) (2 : Int32) (.inr u9) h8 e11) (nw_in q420 rfl) q421 q92 q422 okn_X1_need ⟨by rw [hRf]; exact Nat.le_of_ble_eq_true rfl, by rw [hRl]; exact Nat.le_of_ble_eq_true rfl⟩ (As := [.int (if v6 = none then (0 : Int32) else (1 : Int32)), .int (2 : Int32)]) (rest := []) rfl (by first | exact Nat.le_of_ble_eq_true rfl | simp [cat_rf, cat_i, cat_j, cat_f, cat_d]) dX2_onShelf_23 (ac_0 ?_)
      refine g_aload_n X dX2_onShelf_26 rfl rfl ?_
      obtain ⟨v12, ev12, hF⟩ := bnd hF
      refine g_get (k := 2) X in_X2 rfl (by decide) q186 (Or.inl rfl) (getR_V ev12) dX2_onShelf_27 ?_
      refine g_iload_n X dX2_onShelf_30 rfl rfl ?_
      obtain ⟨v13, ev13, hF⟩ := bnd hF
      refine g_aald X rfl ev13 dX2_onShelf_31 ?_
      cases hF
      exact g_aret X hr (Or.inl ⟨_, rfl⟩) dX2_onShelf_32
def F_X2_meets_B21 (this : Nat) (a1 : Int32) (k2_10 : Option Nat) (k3_10 : Option Nat) (x4_10 : Int32) (h_10 : HH) : Option ((Int32 × HH) ⊕ HH) :=
  if (16 : Int32) ≤ x4_10 then (
    some (.inr h_10)
  ) else (
    Option.bind (getR h_10 3 0 k3_10) fun v12 =>
    Option.bind (getR h_10 3 0 k3_10) fun v13 =>
    Option.bind (aldI h_10 0 v13 x4_10) fun v14 =>
    Option.bind (getR h_10 3 0 k2_10) fun v15 =>
    Option.bind (aldI h_10 0 v15 x4_10) fun v16 =>
    Option.bind (astI h_10 v12 x4_10 (F_J11_min v14 v16)) fun h17 =>
    some (.inl ((x4_10 + (1 : Int32)), h17))
  )
def F_X2_meets (this : Nat) (a1 : Int32) (h0 : HH) : Option (((Nat × String) ⊕ Int32) × HH) :=
  Option.bind (isO h0 2 (some this)) fun ob1 =>
  thr (F_X2_onShelf ob1 a1 h0) (fun q4 h2 =>
    some (.inl q4, h2)
  ) (fun v3 h2 =>
    Option.bind (newO h2 3 1 [.null]) fun h6 =>
    Option.bind (getR h6 2 3 (some this)) fun v7 =>
    Option.bind (nnl (some (hSz h2))) fun ob8 =>
    Option.bind (F_X3_init_2 ob8 v7 h6) fun h9 =>
    Option.bind (lp (fun z => F_X2_meets_B21 this a1 v3 (some (hSz h2)) z.1 z.2) 100000 ((0 : Int32), h9)) fun h18 =>
    Option.bind (isO h18 2 (some this)) fun ob19 =>
    thr (F_X2_takes ob19 (some (hSz h2)) h18) (fun q22 h20 =>
      some (.inl q22, h20)
    ) (fun v21 h20 =>
      some (.inr v21, h20)
    )
  )
set_option maxHeartbeats 4000000 in
theorem w_X2_meets (l : Launch) (hl : l.stackTraces = false) (D : va_G) (dA : Nat → ClassId) (h0 : HH) (this : Nat) (a1 : Int32) (oE : (Nat × String) ⊕ Int32) (hE : HH) (hF : F_X2_meets this a1 h0 = some (oE, hE)) : MC D dA l yX2_meets cX2_meets 5 (Option.some Jvm.ClassFile.FieldType.int) [] 12 344 [va_rf (some this), .int a1] h0 (rsI oE, hE) := by
  refine mc_of hl (plainFor_of_name pn_X2) (by simp [lg_sl, cat_rf, cat_i, cat_j, cat_f, cat_d]) ?_
  intro p e s m args below meth c R hRf hRl X hr hnm
  unfold F_X2_meets at hF
  rw [show argL [va_rf (some this), .int a1] = [some (va_rf (some this)), some (.int a1)] from by simp [argL, cat_rf, cat_i, cat_j, cat_f, cat_d]]
  refine G.pad 3 (L' := [some (va_rf (some this)), some (.int a1), none, none, none]) rfl ?_
  refine g_aload_n X dX2_meets_0 rfl rfl ?_
  refine g_iload_n X dX2_meets_1 rfl rfl ?_
  obtain ⟨ob1, eob1, hF⟩ := bnd hF
  rcases thr_some hF with ⟨q4, h2, e5, hF⟩ | ⟨v3, h2, e5, hF⟩
  · refine g_callV X eob1 rfl rfl (w_X2_onShelf l hl D dA h0 ob1 a1 (.inl q4) h2 e5) q626 q628 qs8 q93 q629 okn_X2_onShelf ⟨by rw [hRf]; exact Nat.le_of_ble_eq_true rfl, by rw [hRl]; exact Nat.le_of_ble_eq_true rfl⟩ (As := [.int a1]) (rest := []) rfl (by first | exact Nat.le_of_ble_eq_true rfl | simp [cat_rf, cat_i, cat_j, cat_f, cat_d]) dX2_meets_2 (ac_x ?_)
    cases hF
    exact gx_out X (fun x hx => nomatch hx)
  · refine g_callV X eob1 rfl rfl (w_X2_onShelf l hl D dA h0 ob1 a1 (.inr v3) h2 e5) q626 q628 qs8 q93 q629 okn_X2_onShelf ⟨by rw [hRf]; exact Nat.le_of_ble_eq_true rfl, by rw [hRl]; exact Nat.le_of_ble_eq_true rfl⟩ (As := [.int a1]) (rest := []) rfl (by first | exact Nat.le_of_ble_eq_true rfl | simp [cat_rf, cat_i, cat_j, cat_f, cat_d]) dX2_meets_2 (ac_v ?_)
    refine g_astore_n (L' := [some (va_rf (some this)), some (.int a1), some (va_rf v3), none, none]) X dX2_meets_5 rfl (Nat.le_of_ble_eq_true rfl) (by first | rfl | simp [stL, rm1, clr2, cat_rf, cat_i, cat_j, cat_f, cat_d]) ?_
    obtain ⟨h6, eh6, hF⟩ := bnd hF
    refine g_new X in_X3 tyX3 tyX3_ok rfl q166 q168 q97 rfl dv_X3 eh6 dX2_meets_6 ?_
    refine g_dup X dX2_meets_9 (cat_rf _) ?_
    refine g_aload_n X dX2_meets_10 rfl rfl ?_
    obtain ⟨v7, ev7, hF⟩ := bnd hF
    refine g_get (k := 3) X in_X2 rfl (by decide) q188 (Or.inl rfl) (getR_V ev7) dX2_meets_11 ?_
    obtain ⟨ob8, eob8, hF⟩ := bnd hF
    obtain ⟨h9, eh9, hF⟩ := bnd hF
    refine g_callI X (nnl_some eob8) (w_X3_init_2 l hl D dA h6 ob8 v7 h9 eh9) rfl q398 q399 q97 q400 okn_X3_init_2 ⟨by rw [hRf]; exact Nat.le_of_ble_eq_true rfl, by rw [hRl]; exact Nat.le_of_ble_eq_true rfl⟩ (As := [va_rf v7]) (rest := [va_rf (some (hSz h2))]) rfl (by first | exact Nat.le_of_ble_eq_true rfl | simp [cat_rf, cat_i, cat_j, cat_f, cat_d]) dX2_meets_14 (ac_0 ?_)
    refine g_astore_n (L' := [some (va_rf (some this)), some (.int a1), some (va_rf v3), some (va_rf (some (hSz h2))), none]) X dX2_meets_17 rfl (Nat.le_of_ble_eq_true rfl) (by first | rfl | simp [stL, rm1, clr2, cat_rf, cat_i, cat_j, cat_f, cat_d]) ?_
    refine g_iconst (v := (0 : Int32)) X dX2_meets_18 (by decide) ?_
    refine g_istore (L' := [some (va_rf (some this)), some (.int a1), some (va_rf v3), some (va_rf (some (hSz h2))), some (.int (0 : Int32))]) X dX2_meets_19 (Nat.le_of_ble_eq_true rfl) (by first | rfl | simp [stL, rm1, clr2, cat_rf, cat_i, cat_j, cat_f, cat_d]) ?_
    refine G.drop [true, false, true, true, true] rfl ?_
    obtain ⟨h18, e24, hF⟩ := bnd hF
    refine lp_ind (Gs := (fun z => G p l e R s m args below meth c (RQ D dA h0 (rsI oE, hE) below s) D dA h0 5 z.2 21 [some (va_rf (some this)), none, some (va_rf v3), some (va_rf (some (hSz h2))), some (.int z.1)] [])) (Ge := (fun z => G p l e R s m args below meth c (RQ D dA h0 (rsI oE, hE) below s) D dA h0 5 z 58 [some (va_rf (some this)), none, none, some (va_rf (some (hSz h2))), none] [])) ?_ _ _ _ e24 ?_
    · rintro ⟨x4_10, h_10⟩ o hF hgo hr
      change F_X2_meets_B21 this a1 v3 (some (hSz h2)) x4_10 h_10 = some o at hF
      generalize v3 = k2_10 at hF hgo hr ⊢
      generalize (some (hSz h2)) = k3_10 at hF hgo hr ⊢
      unfold F_X2_meets_B21 at hF
      show G p l e R s m args below meth c (RQ D dA h0 (rsI oE, hE) below s) D dA h0 5 h_10 21 [some (va_rf (some this)), none, some (va_rf k2_10), some (va_rf k3_10), some (.int x4_10)] []
      refine g_iload X dX2_meets_21 rfl ?_
      refine g_bipush (v := (16 : Int32)) X dX2_meets_23 (by decide) ?_
      refine g_icmp_ge X 58 dX2_meets_25 (by decide) (fun c11 => ?_) (fun c11 => ?_)
      · have hF := (if_pos c11).symm.trans hF
        refine G.drop [true, false, false, true, false] rfl ?_
        cases hF
        exact hr _ rfl
      · have hF := (if_neg c11).symm.trans hF
        refine g_aload_n X dX2_meets_28 rfl rfl ?_
        obtain ⟨v12, ev12, hF⟩ := bnd hF
        refine g_getN (k := 0) X in_X3 rfl (by decide) (nw_in q177 rfl) rfl (getR_V ev12) dX2_meets_29 ?_
        refine g_iload X dX2_meets_32 rfl ?_
        refine g_aload_n X dX2_meets_34 rfl rfl ?_
        obtain ⟨v13, ev13, hF⟩ := bnd hF
        refine g_getN (k := 0) X in_X3 rfl (by decide) (nw_in q177 rfl) rfl (getR_V ev13) dX2_meets_35 ?_
        refine g_iload X dX2_meets_38 rfl ?_
        obtain ⟨v14, ev14, hF⟩ := bnd hF
        refine g_iald X ev14 dX2_meets_40 ?_
        refine g_aload_n X dX2_meets_41 rfl rfl ?_
        obtain ⟨v15, ev15, hF⟩ := bnd hF
        refine g_getN (k := 0) X in_X3 rfl (by decide) (nw_in q177 rfl) rfl (getR_V ev15) dX2_meets_42 ?_
        refine g_iload X dX2_meets_45 rfl ?_
        obtain ⟨v16, ev16, hF⟩ := bnd hF
        refine g_iald X ev16 dX2_meets_47 ?_
        refine g_callS X (w_J11_min l hl D dA h_10 v14 v16) q630 q391 q108 q392 okn_J11_min ⟨by rw [hRf]; exact Nat.le_of_ble_eq_true rfl, by rw [hRl]; exact Nat.le_of_ble_eq_true rfl⟩ (As := [.int v14, .int v16]) (rest := [.int x4_10, va_rf v12]) rfl (by first | exact Nat.le_of_ble_eq_true rfl | simp [cat_rf, cat_i, cat_j, cat_f, cat_d]) dX2_meets_48 (ac_v ?_)
        obtain ⟨h17, eh17, hF⟩ := bnd hF
        refine g_iast X eh17 dX2_meets_51 ?_
        refine g_iinc (v := (x4_10 + (1 : Int32))) (L' := [some (va_rf (some this)), none, some (va_rf k2_10), some (va_rf k3_10), some (.int (x4_10 + (1 : Int32)))]) X dX2_meets_52 (Nat.le_of_ble_eq_true rfl) rfl rfl (by first | rfl | simp [stL, rm1, clr2, cat_rf, cat_i, cat_j, cat_f, cat_d]) ?_
        refine g_goto X 21 dX2_meets_55 (by decide) ?_
        cases hF
        exact hgo _ rfl
    show G p l e R s m args below meth c (RQ D dA h0 (rsI oE, hE) below s) D dA h0 5 h18 58 [some (va_rf (some this)), none, none, some (va_rf (some (hSz h2))), none] []
    refine g_aload_n X dX2_meets_58 rfl rfl ?_
    refine g_aload_n X dX2_meets_59 rfl rfl ?_
    obtain ⟨ob19, eob19, hF⟩ := bnd hF
    rcases thr_some hF with ⟨q22, h20, e23, hF⟩ | ⟨v21, h20, e23, hF⟩
    · refine g_callV X eob19 rfl rfl (w_X2_takes l hl D dA h18 ob19 (some (hSz h2)) (.inl q22) h20 e23) q503 q505 qs5 q93 q506 okn_X2_takes ⟨by rw [hRf]; exact Nat.le_of_ble_eq_true rfl, by rw [hRl]; exact Nat.le_of_ble_eq_true rfl⟩ (As := [va_rf (some (hSz h2))]) (rest := []) rfl (by first | exact Nat.le_of_ble_eq_true rfl | simp [cat_rf, cat_i, cat_j, cat_f, cat_d]) dX2_meets_60 (ac_x ?_)
      cases hF
      exact gx_out X (fun x hx => nomatch hx)
    · refine g_callV X eob19 rfl rfl (w_X2_takes l hl D dA h18 ob19 (some (hSz h2)) (.inr v21) h20 e23) q503 q505 qs5 q93 q506 okn_X2_takes ⟨by rw [hRf]; exact Nat.le_of_ble_eq_true rfl, by rw [hRl]; exact Nat.le_of_ble_eq_true rfl⟩ (As := [va_rf (some (hSz h2))]) (rest := []) rfl (by first | exact Nat.le_of_ble_eq_true rfl | simp [cat_rf, cat_i, cat_j, cat_f, cat_d]) dX2_meets_60 (ac_v ?_)
      cases hF
      exact g_iret X hr dX2_meets_63
def F_X2_wraps_B33 (this : Nat) (a1 : Int32) (k2_21 : Option Nat) (k3_21 : Option Nat) (x4_21 : Int32) (h_21 : HH) : Option ((Int32 × HH) ⊕ HH) :=
  if (16 : Int32) ≤ x4_21 then (
    some (.inr h_21)
  ) else (
    Option.bind (getR h_21 3 0 k3_21) fun v23 =>
    Option.bind (getR h_21 3 0 k3_21) fun v24 =>
    Option.bind (aldI h_21 0 v24 x4_21) fun v25 =>
    Option.bind (getR h_21 3 0 k2_21) fun v26 =>
    Option.bind (aldI h_21 0 v26 x4_21) fun v27 =>
    Option.bind (astI h_21 v23 x4_21 (F_J11_max v25 v27)) fun h28 =>
    some (.inl ((x4_21 + (1 : Int32)), h28))
  )
def F_X2_wraps (this : Nat) (a1 : Int32) (h0 : HH) : Option (((Nat × String) ⊕ Int32) × HH) :=
  Option.bind (isO h0 2 (some this)) fun ob1 =>
  thr (F_X2_onShelf ob1 a1 h0) (fun q4 h2 =>
    some (.inl q4, h2)
  ) (fun v3 h2 =>
    Option.bind (isO h2 3 v3) fun ob6 =>
    b2 (F_X3_tight ob6 h2) fun v8 h7 =>
    Option.bind (isO h7 2 (some this)) fun ob9 =>
    thr (F_X2_readied ob9 h7) (fun q12 h10 =>
      some (.inl q12, h10)
    ) (fun v11 h10 =>
      Option.bind (isO h10 3 v8) fun ob14 =>
      Option.bind (F_X3_hasNone ob14 h10) fun v15 =>
      thr (F_X1_need (if v15 = 0 then (1 : Int32) else (0 : Int32)) (2 : Int32) h10) (fun q19 h17 =>
        some (.inl q19, h17)
      ) (fun u18 h17 =>
        Option.bind (lp (fun z => F_X2_wraps_B33 this a1 v8 v11 z.1 z.2) 100000 ((0 : Int32), h17)) fun h29 =>
        Option.bind (isO h29 2 (some this)) fun ob30 =>
        thr (F_X2_takes ob30 v11 h29) (fun q33 h31 =>
          some (.inl q33, h31)
        ) (fun v32 h31 =>
          some (.inr v32, h31)
        )
      )
    )
  )
set_option maxHeartbeats 4000000 in
theorem w_X2_wraps (l : Launch) (hl : l.stackTraces = false) (D : va_G) (dA : Nat → ClassId) (h0 : HH) (this : Nat) (a1 : Int32) (oE : (Nat × String) ⊕ Int32) (hE : HH) (hF : F_X2_wraps this a1 h0 = some (oE, hE)) : MC D dA l yX2_wraps cX2_wraps 5 (Option.some Jvm.ClassFile.FieldType.int) [] 12 344 [va_rf (some this), .int a1] h0 (rsI oE, hE) := by
  refine mc_of hl (plainFor_of_name pn_X2) (by simp [lg_sl, cat_rf, cat_i, cat_j, cat_f, cat_d]) ?_
  intro p e s m args below meth c R hRf hRl X hr hnm
  unfold F_X2_wraps at hF
  rw [show argL [va_rf (some this), .int a1] = [some (va_rf (some this)), some (.int a1)] from by simp [argL, cat_rf, cat_i, cat_j, cat_f, cat_d]]
  refine G.pad 3 (L' := [some (va_rf (some this)), some (.int a1), none, none, none]) rfl ?_
  refine g_aload_n X dX2_wraps_0 rfl rfl ?_
  refine g_iload_n X dX2_wraps_1 rfl rfl ?_
  obtain ⟨ob1, eob1, hF⟩ := bnd hF
  rcases thr_some hF with ⟨q4, h2, e5, hF⟩ | ⟨v3, h2, e5, hF⟩
  · refine g_callV X eob1 rfl rfl (w_X2_onShelf l hl D dA h0 ob1 a1 (.inl q4) h2 e5) q626 q628 qs8 q93 q629 okn_X2_onShelf ⟨by rw [hRf]; exact Nat.le_of_ble_eq_true rfl, by rw [hRl]; exact Nat.le_of_ble_eq_true rfl⟩ (As := [.int a1]) (rest := []) rfl (by first | exact Nat.le_of_ble_eq_true rfl | simp [cat_rf, cat_i, cat_j, cat_f, cat_d]) dX2_wraps_2 (ac_x ?_)
    cases hF
    exact gx_out X (fun x hx => nomatch hx)
  · refine g_callV X eob1 rfl rfl (w_X2_onShelf l hl D dA h0 ob1 a1 (.inr v3) h2 e5) q626 q628 qs8 q93 q629 okn_X2_onShelf ⟨by rw [hRf]; exact Nat.le_of_ble_eq_true rfl, by rw [hRl]; exact Nat.le_of_ble_eq_true rfl⟩ (As := [.int a1]) (rest := []) rfl (by first | exact Nat.le_of_ble_eq_true rfl | simp [cat_rf, cat_i, cat_j, cat_f, cat_d]) dX2_wraps_2 (ac_v ?_)
    obtain ⟨ob6, eob6, hF⟩ := bnd hF
    obtain ⟨v8, h7, eh7, hF⟩ := b2_some hF
    refine g_callV X eob6 rfl rfl (w_X3_tight l hl D dA h2 ob6  v8 h7 eh7) q507 q508 q509 q97 q510 okn_X3_tight ⟨by rw [hRf]; exact Nat.le_of_ble_eq_true rfl, by rw [hRl]; exact Nat.le_of_ble_eq_true rfl⟩ (As := []) (rest := []) rfl (by first | exact Nat.le_of_ble_eq_true rfl | simp [cat_rf, cat_i, cat_j, cat_f, cat_d]) dX2_wraps_5 (ac_v ?_)
    refine g_astore_n (L' := [some (va_rf (some this)), some (.int a1), some (va_rf v8), none, none]) X dX2_wraps_8 rfl (Nat.le_of_ble_eq_true rfl) (by first | rfl | simp [stL, rm1, clr2, cat_rf, cat_i, cat_j, cat_f, cat_d]) ?_
    refine g_aload_n X dX2_wraps_9 rfl rfl ?_
    obtain ⟨ob9, eob9, hF⟩ := bnd hF
    rcases thr_some hF with ⟨q12, h10, e13, hF⟩ | ⟨v11, h10, e13, hF⟩
    · refine g_callV X eob9 rfl rfl (w_X2_readied l hl D dA h7 ob9  (.inl q12) h10 e13) q551 q553 qs6 q93 q554 okn_X2_readied ⟨by rw [hRf]; exact Nat.le_of_ble_eq_true rfl, by rw [hRl]; exact Nat.le_of_ble_eq_true rfl⟩ (As := []) (rest := []) rfl (by first | exact Nat.le_of_ble_eq_true rfl | simp [cat_rf, cat_i, cat_j, cat_f, cat_d]) dX2_wraps_10 (ac_x ?_)
      cases hF
      exact gx_out X (fun x hx => nomatch hx)
    · refine g_callV X eob9 rfl rfl (w_X2_readied l hl D dA h7 ob9  (.inr v11) h10 e13) q551 q553 qs6 q93 q554 okn_X2_readied ⟨by rw [hRf]; exact Nat.le_of_ble_eq_true rfl, by rw [hRl]; exact Nat.le_of_ble_eq_true rfl⟩ (As := []) (rest := []) rfl (by first | exact Nat.le_of_ble_eq_true rfl | simp [cat_rf, cat_i, cat_j, cat_f, cat_d]) dX2_wraps_10 (ac_v ?_)
      refine g_astore_n (L' := [some (va_rf (some this)), some (.int a1), some (va_rf v8), some (va_rf v11), none]) X dX2_wraps_13 rfl (Nat.le_of_ble_eq_true rfl) (by first | rfl | simp [stL, rm1, clr2, cat_rf, cat_i, cat_j, cat_f, cat_d]) ?_
      refine g_aload_n X dX2_wraps_14 rfl rfl ?_
      obtain ⟨ob14, eob14, hF⟩ := bnd hF
      obtain ⟨v15, ev15, hF⟩ := bnd hF
      refine g_callV X eob14 rfl rfl (w_X3_hasNone l hl D dA h10 ob14  v15 ev15) q521 q522 q523 q97 q524 okn_X3_hasNone ⟨by rw [hRf]; exact Nat.le_of_ble_eq_true rfl, by rw [hRl]; exact Nat.le_of_ble_eq_true rfl⟩ (As := []) (rest := []) rfl (by first | exact Nat.le_of_ble_eq_true rfl | simp [cat_rf, cat_i, cat_j, cat_f, cat_d]) dX2_wraps_15 (ac_v ?_)
      suffices K : G p l e R s m args below meth c (RQ D dA h0 (rsI oE, hE) below s) D dA h0 5 h10 26 [some (va_rf (some this)), none, some (va_rf v8), some (va_rf v11), none] [.int (if v15 = 0 then (1 : Int32) else (0 : Int32))] by
        refine g_if_ne X 25 dX2_wraps_18 (by decide) (fun c16 => ?_) (fun c16 => ?_)
        · (try simp only [if_neg c16] at K)
          refine g_iconst (v := (0 : Int32)) X dX2_wraps_25 (by decide) ?_
          refine G.drop [true, false, true, true, false] rfl ?_
          first | exact K | (simp only [if_neg c16]; exact K)
        · (try simp only [if_pos c16] at K)
          refine g_iconst (v := (1 : Int32)) X dX2_wraps_21 (by decide) ?_
          refine g_goto X 26 dX2_wraps_22 (by decide) ?_
          refine G.drop [true, false, true, true, false] rfl ?_
          first | exact K | (simp only [if_pos c16]; exact K)
      refine g_iconst (v := (2 : Int32)) X dX2_wraps_26 (by decide) ?_
      rcases thr_some hF with ⟨q19, h17, e20, hF⟩ | ⟨u18, h17, e20, hF⟩
      · refine g_callSN X (w_X1_need l hl D dA h10 (if v15 = 0 then (1 : Int32) else (0 : Int32)) (2 : Int32) (.inl q19) h17 e20) (nw_in q420 rfl) q421 q92 q422 okn_X1_need ⟨by rw [hRf]; exact Nat.le_of_ble_eq_true rfl, by rw [hRl]; exact Nat.le_of_ble_eq_true rfl⟩ (As := [.int (if v15 = 0 then (1 : Int32) else (0 : Int32)), .int (2 : Int32)]) (rest := []) rfl (by first | exact Nat.le_of_ble_eq_true rfl | simp [cat_rf, cat_i, cat_j, cat_f, cat_d]) dX2_wraps_27 (ac_x ?_)
        cases hF
        exact gx_out X (fun x hx => nomatch hx)
      · refine g_callSN X (w_X1_need l hl D dA h10 (if v15 = 0 then (1 : Int32) else (0 : Int32)) (2 : Int32) (.inr u18) h17 e20) (nw_in q420 rfl) q421 q92 q422 okn_X1_need ⟨by rw [hRf]; exact Nat.le_of_ble_eq_true rfl, by rw [hRl]; exact Nat.le_of_ble_eq_true rfl⟩ (As := [.int (if v15 = 0 then (1 : Int32) else (0 : Int32)), .int (2 : Int32)]) (rest := []) rfl (by first | exact Nat.le_of_ble_eq_true rfl | simp [cat_rf, cat_i, cat_j, cat_f, cat_d]) dX2_wraps_27 (ac_0 ?_)
        refine g_iconst (v := (0 : Int32)) X dX2_wraps_30 (by decide) ?_
        refine g_istore (L' := [some (va_rf (some this)), none, some (va_rf v8), some (va_rf v11), some (.int (0 : Int32))]) X dX2_wraps_31 (Nat.le_of_ble_eq_true rfl) (by first | rfl | simp [stL, rm1, clr2, cat_rf, cat_i, cat_j, cat_f, cat_d]) ?_
        obtain ⟨h29, e35, hF⟩ := bnd hF
        refine lp_ind (Gs := (fun z => G p l e R s m args below meth c (RQ D dA h0 (rsI oE, hE) below s) D dA h0 5 z.2 33 [some (va_rf (some this)), none, some (va_rf v8), some (va_rf v11), some (.int z.1)] [])) (Ge := (fun z => G p l e R s m args below meth c (RQ D dA h0 (rsI oE, hE) below s) D dA h0 5 z 70 [some (va_rf (some this)), none, none, some (va_rf v11), none] [])) ?_ _ _ _ e35 ?_
        · rintro ⟨x4_21, h_21⟩ o hF hgo hr
          change F_X2_wraps_B33 this a1 v8 v11 x4_21 h_21 = some o at hF
          generalize v8 = k2_21 at hF hgo hr ⊢
          generalize v11 = k3_21 at hF hgo hr ⊢
          unfold F_X2_wraps_B33 at hF
          show G p l e R s m args below meth c (RQ D dA h0 (rsI oE, hE) below s) D dA h0 5 h_21 33 [some (va_rf (some this)), none, some (va_rf k2_21), some (va_rf k3_21), some (.int x4_21)] []
          refine g_iload X dX2_wraps_33 rfl ?_
          refine g_bipush (v := (16 : Int32)) X dX2_wraps_35 (by decide) ?_
          refine g_icmp_ge X 70 dX2_wraps_37 (by decide) (fun c22 => ?_) (fun c22 => ?_)
          · have hF := (if_pos c22).symm.trans hF
            refine G.drop [true, false, false, true, false] rfl ?_
            cases hF
            exact hr _ rfl
          · have hF := (if_neg c22).symm.trans hF
            refine g_aload_n X dX2_wraps_40 rfl rfl ?_
            obtain ⟨v23, ev23, hF⟩ := bnd hF
            refine g_getN (k := 0) X in_X3 rfl (by decide) (nw_in q177 rfl) rfl (getR_V ev23) dX2_wraps_41 ?_
            refine g_iload X dX2_wraps_44 rfl ?_
            refine g_aload_n X dX2_wraps_46 rfl rfl ?_
            obtain ⟨v24, ev24, hF⟩ := bnd hF
            refine g_getN (k := 0) X in_X3 rfl (by decide) (nw_in q177 rfl) rfl (getR_V ev24) dX2_wraps_47 ?_
            refine g_iload X dX2_wraps_50 rfl ?_
            obtain ⟨v25, ev25, hF⟩ := bnd hF
            refine g_iald X ev25 dX2_wraps_52 ?_
            refine g_aload_n X dX2_wraps_53 rfl rfl ?_
            obtain ⟨v26, ev26, hF⟩ := bnd hF
            refine g_getN (k := 0) X in_X3 rfl (by decide) (nw_in q177 rfl) rfl (getR_V ev26) dX2_wraps_54 ?_
            refine g_iload X dX2_wraps_57 rfl ?_
            obtain ⟨v27, ev27, hF⟩ := bnd hF
            refine g_iald X ev27 dX2_wraps_59 ?_
            refine g_callS X (w_J11_max l hl D dA h_21 v25 v27) q635 q357 q108 q358 okn_J11_max ⟨by rw [hRf]; exact Nat.le_of_ble_eq_true rfl, by rw [hRl]; exact Nat.le_of_ble_eq_true rfl⟩ (As := [.int v25, .int v27]) (rest := [.int x4_21, va_rf v23]) rfl (by first | exact Nat.le_of_ble_eq_true rfl | simp [cat_rf, cat_i, cat_j, cat_f, cat_d]) dX2_wraps_60 (ac_v ?_)
            obtain ⟨h28, eh28, hF⟩ := bnd hF
            refine g_iast X eh28 dX2_wraps_63 ?_
            refine g_iinc (v := (x4_21 + (1 : Int32))) (L' := [some (va_rf (some this)), none, some (va_rf k2_21), some (va_rf k3_21), some (.int (x4_21 + (1 : Int32)))]) X dX2_wraps_64 (Nat.le_of_ble_eq_true rfl) rfl rfl (by first | rfl | simp [stL, rm1, clr2, cat_rf, cat_i, cat_j, cat_f, cat_d]) ?_
            refine g_goto X 33 dX2_wraps_67 (by decide) ?_
            cases hF
            exact hgo _ rfl
        show G p l e R s m args below meth c (RQ D dA h0 (rsI oE, hE) below s) D dA h0 5 h29 70 [some (va_rf (some this)), none, none, some (va_rf v11), none] []
        refine g_aload_n X dX2_wraps_70 rfl rfl ?_
        refine g_aload_n X dX2_wraps_71 rfl rfl ?_
        obtain ⟨ob30, eob30, hF⟩ := bnd hF
        rcases thr_some hF with ⟨q33, h31, e34, hF⟩ | ⟨v32, h31, e34, hF⟩
        · refine g_callV X eob30 rfl rfl (w_X2_takes l hl D dA h29 ob30 v11 (.inl q33) h31 e34) q503 q505 qs5 q93 q506 okn_X2_takes ⟨by rw [hRf]; exact Nat.le_of_ble_eq_true rfl, by rw [hRl]; exact Nat.le_of_ble_eq_true rfl⟩ (As := [va_rf v11]) (rest := []) rfl (by first | exact Nat.le_of_ble_eq_true rfl | simp [cat_rf, cat_i, cat_j, cat_f, cat_d]) dX2_wraps_72 (ac_x ?_)
          cases hF
          exact gx_out X (fun x hx => nomatch hx)
        · refine g_callV X eob30 rfl rfl (w_X2_takes l hl D dA h29 ob30 v11 (.inr v32) h31 e34) q503 q505 qs5 q93 q506 okn_X2_takes ⟨by rw [hRf]; exact Nat.le_of_ble_eq_true rfl, by rw [hRl]; exact Nat.le_of_ble_eq_true rfl⟩ (As := [va_rf v11]) (rest := []) rfl (by first | exact Nat.le_of_ble_eq_true rfl | simp [cat_rf, cat_i, cat_j, cat_f, cat_d]) dX2_wraps_72 (ac_v ?_)
          cases hF
          exact g_iret X hr dX2_wraps_75
def F_X1_isHarbour (a1 : Int32) : Int32 :=
  (F_X1_isBetween (a1.toInt64) (0 : Int64) (5 : Int64))
set_option maxHeartbeats 4000000 in
theorem w_X1_isHarbour (l : Launch) (hl : l.stackTraces = false) (D : va_G) (dA : Nat → ClassId) (h0 : HH) (a1 : Int32) : MC D dA l yX1_isHarbour cX1_isHarbour 1 (Option.some Jvm.ClassFile.FieldType.boolean) [] 1 25 [.int a1] h0 (.inr (some (.int (F_X1_isHarbour a1))), h0) := by
  refine mc_of hl (plainFor_of_name pn_X1) (by simp [lg_sl, cat_rf, cat_i, cat_j, cat_f, cat_d]) ?_
  intro p e s m args below meth c R hRf hRl X hr hnm
  generalize hF : F_X1_isHarbour a1 = rE
  unfold F_X1_isHarbour at hF
  rw [show argL [.int a1] = [some (.int a1)] from by simp [argL, cat_rf, cat_i, cat_j, cat_f, cat_d]]
  refine g_iload_n X dX1_isHarbour_0 rfl rfl ?_
  refine g_i2l X dX1_isHarbour_1 ?_
  refine g_lconst (v := (0 : Int64)) X dX1_isHarbour_2 (by decide) ?_
  refine g_ldc2 (v := (5 : Int64)) X q643 dX1_isHarbour_3 ?_
  refine g_callS X (w_X1_isBetween l hl D dA h0 (a1.toInt64) (0 : Int64) (5 : Int64)) q414 q415 q92 q416 okn_X1_isBetween ⟨by rw [hRf]; exact Nat.le_of_ble_eq_true rfl, by rw [hRl]; exact Nat.le_of_ble_eq_true rfl⟩ (As := [.long (a1.toInt64), .long (0 : Int64), .long (5 : Int64)]) (rest := []) rfl (by first | exact Nat.le_of_ble_eq_true rfl | simp [cat_rf, cat_i, cat_j, cat_f, cat_d]) dX1_isHarbour_6 (ac_v ?_)
  cases hF
  exact g_zret X hr (by simp only [F_X1_isBetween]; (repeat' split) <;> rfl) dX1_isHarbour_9
def F_X2_stay (this : Nat) (a1 : Int32) (a2 : Int32) (h0 : HH) : Option Int32 :=
  Option.bind (getR h0 2 0 (some this)) fun v1 =>
  Option.bind (aldI h0 0 v1 (((3 : Int32) * a1) + a2)) fun v2 =>
  some v2
set_option maxHeartbeats 4000000 in
theorem w_X2_stay (l : Launch) (hl : l.stackTraces = false) (D : va_G) (dA : Nat → ClassId) (h0 : HH) (this : Nat) (a1 : Int32) (a2 : Int32) (rE : Int32) (hF : F_X2_stay this a1 a2 h0 = some rE) : MC D dA l yX2_stay cX2_stay 3 (Option.some Jvm.ClassFile.FieldType.int) [] 0 0 [va_rf (some this), .int a1, .int a2] h0 (.inr (some (.int rE)), h0) := by
  refine mc_of hl (plainFor_of_name pn_X2) (by simp [lg_sl, cat_rf, cat_i, cat_j, cat_f, cat_d]) ?_
  intro p e s m args below meth c R hRf hRl X hr hnm
  unfold F_X2_stay at hF
  rw [show argL [va_rf (some this), .int a1, .int a2] = [some (va_rf (some this)), some (.int a1), some (.int a2)] from by simp [argL, cat_rf, cat_i, cat_j, cat_f, cat_d]]
  refine g_aload_n X dX2_stay_0 rfl rfl ?_
  obtain ⟨v1, ev1, hF⟩ := bnd hF
  refine g_get (k := 0) X in_X2 rfl (by decide) q183 (Or.inl rfl) (getR_V ev1) dX2_stay_1 ?_
  refine g_iconst (v := (3 : Int32)) X dX2_stay_4 (by decide) ?_
  refine g_iload_n X dX2_stay_5 rfl rfl ?_
  refine g_imul X dX2_stay_6 ?_
  refine g_iload_n X dX2_stay_7 rfl rfl ?_
  refine g_iadd X dX2_stay_8 ?_
  obtain ⟨v2, ev2, hF⟩ := bnd hF
  refine g_iald X ev2 dX2_stay_9 ?_
  cases hF
  exact g_iret X hr dX2_stay_10
def F_X2_allows (this : Nat) (a1 : Int32) (a2 : Int32) (a3 : Int32) (h0 : HH) : Option (((Nat × String) ⊕ Int32) × HH) :=
  thr (F_X1_need (if (F_X1_isHarbour a1) = 0 then (0 : Int32) else (if (F_X1_isClock a2) = 0 then (0 : Int32) else (if (F_X1_isBetween (a3.toInt64) (0 : Int64) (10 : Int64)) = 0 then (0 : Int32) else (1 : Int32)))) (1 : Int32) h0) (fun q6 h4 =>
    some (.inl q6, h4)
  ) (fun u5 h4 =>
    Option.bind (isO h4 2 (some this)) fun ob8 =>
    Option.bind (F_X2_stay ob8 a1 a2 h4) fun v9 =>
    Option.bind (getR h4 2 0 (some this)) fun v10 =>
    Option.bind (astI h4 v10 (((3 : Int32) * a1) + a2) a3) fun h11 =>
    some (.inr v9, h11)
  )
set_option maxHeartbeats 4000000 in
theorem w_X2_allows (l : Launch) (hl : l.stackTraces = false) (D : va_G) (dA : Nat → ClassId) (h0 : HH) (this : Nat) (a1 : Int32) (a2 : Int32) (a3 : Int32) (oE : (Nat × String) ⊕ Int32) (hE : HH) (hF : F_X2_allows this a1 a2 a3 h0 = some (oE, hE)) : MC D dA l yX2_allows cX2_allows 5 (Option.some Jvm.ClassFile.FieldType.int) [] 11 321 [va_rf (some this), .int a1, .int a2, .int a3] h0 (rsI oE, hE) := by
  refine mc_of hl (plainFor_of_name pn_X2) (by simp [lg_sl, cat_rf, cat_i, cat_j, cat_f, cat_d]) ?_
  intro p e s m args below meth c R hRf hRl X hr hnm
  unfold F_X2_allows at hF
  rw [show argL [va_rf (some this), .int a1, .int a2, .int a3] = [some (va_rf (some this)), some (.int a1), some (.int a2), some (.int a3)] from by simp [argL, cat_rf, cat_i, cat_j, cat_f, cat_d]]
  refine G.pad 1 (L' := [some (va_rf (some this)), some (.int a1), some (.int a2), some (.int a3), none]) rfl ?_
  refine g_iload_n X dX2_allows_0 rfl rfl ?_
  refine g_callSN X (w_X1_isHarbour l hl D dA h0 a1) (nw_in q640 rfl) q641 q92 q642 okn_X1_isHarbour ⟨by rw [hRf]; exact Nat.le_of_ble_eq_true rfl, by rw [hRl]; exact Nat.le_of_ble_eq_true rfl⟩ (As := [.int a1]) (rest := []) rfl (by first | exact Nat.le_of_ble_eq_true rfl | simp [cat_rf, cat_i, cat_j, cat_f, cat_d]) dX2_allows_1 (ac_v ?_)
  suffices K : G p l e R s m args below meth c (RQ D dA h0 (rsI oE, hE) below s) D dA h0 5 h0 31 [some (va_rf (some this)), some (.int a1), some (.int a2), some (.int a3), none] [.int (if (F_X1_isHarbour a1) = 0 then (0 : Int32) else (if (F_X1_isClock a2) = 0 then (0 : Int32) else (if (F_X1_isBetween (a3.toInt64) (0 : Int64) (10 : Int64)) = 0 then (0 : Int32) else (1 : Int32))))] by
    refine g_if_eq X 30 dX2_allows_4 (by decide) (fun c1 => ?_) (fun c1 => ?_)
    · (try simp only [if_pos c1] at K)
      refine g_iconst (v := (0 : Int32)) X dX2_allows_30 (by decide) ?_
      first | exact K | (simp only [if_pos c1]; exact K)
    · (try simp only [if_neg c1] at K)
      refine g_iload_n X dX2_allows_7 rfl rfl ?_
      refine g_callSN X (w_X1_isClock l hl D dA h0 a2) (nw_in q559 rfl) q560 q92 q561 okn_X1_isClock ⟨by rw [hRf]; exact Nat.le_of_ble_eq_true rfl, by rw [hRl]; exact Nat.le_of_ble_eq_true rfl⟩ (As := [.int a2]) (rest := []) rfl (by first | exact Nat.le_of_ble_eq_true rfl | simp [cat_rf, cat_i, cat_j, cat_f, cat_d]) dX2_allows_8 (ac_v ?_)
      refine g_if_eq X 30 dX2_allows_11 (by decide) (fun c2 => ?_) (fun c2 => ?_)
      · (try simp only [if_pos c2] at K)
        refine g_iconst (v := (0 : Int32)) X dX2_allows_30 (by decide) ?_
        first | exact K | (simp only [if_neg c1, if_pos c2]; exact K)
      · (try simp only [if_neg c2] at K)
        refine g_iload_n X dX2_allows_14 rfl rfl ?_
        refine g_i2l X dX2_allows_15 ?_
        refine g_lconst (v := (0 : Int64)) X dX2_allows_16 (by decide) ?_
        refine g_ldc2 (v := (10 : Int64)) X q644 dX2_allows_17 ?_
        refine g_callSN X (w_X1_isBetween l hl D dA h0 (a3.toInt64) (0 : Int64) (10 : Int64)) (nw_in q419 rfl) q415 q92 q416 okn_X1_isBetween ⟨by rw [hRf]; exact Nat.le_of_ble_eq_true rfl, by rw [hRl]; exact Nat.le_of_ble_eq_true rfl⟩ (As := [.long (a3.toInt64), .long (0 : Int64), .long (10 : Int64)]) (rest := []) rfl (by first | exact Nat.le_of_ble_eq_true rfl | simp [cat_rf, cat_i, cat_j, cat_f, cat_d]) dX2_allows_20 (ac_v ?_)
        refine g_if_eq X 30 dX2_allows_23 (by decide) (fun c3 => ?_) (fun c3 => ?_)
        · (try simp only [if_pos c3] at K)
          refine g_iconst (v := (0 : Int32)) X dX2_allows_30 (by decide) ?_
          first | exact K | (simp only [if_neg c1, if_neg c2, if_pos c3]; exact K)
        · (try simp only [if_neg c3] at K)
          refine g_iconst (v := (1 : Int32)) X dX2_allows_26 (by decide) ?_
          refine g_goto X 31 dX2_allows_27 (by decide) ?_
          first | exact K | (simp only [if_neg c1, if_neg c2, if_neg c3]; exact K)
  refine g_iconst (v := (1 : Int32)) X dX2_allows_31 (by decide) ?_
  rcases thr_some hF with ⟨q6, h4, e7, hF⟩ | ⟨u5, h4, e7, hF⟩
  · refine g_callSN X (w_X1_need l hl D dA h0 (if (F_X1_isHarbour a1) = 0 then (0 : Int32) else (if (F_X1_isClock a2) = 0 then (0 : Int32) else (if (F_X1_isBetween (a3.toInt64) (0 : Int64) (10 : Int64)) = 0 then (0 : Int32) else (1 : Int32)))) (1 : Int32) (.inl q6) h4 e7) (nw_in q420 rfl) q421 q92 q422 okn_X1_need ⟨by rw [hRf]; exact Nat.le_of_ble_eq_true rfl, by rw [hRl]; exact Nat.le_of_ble_eq_true rfl⟩ (As := [.int (if (F_X1_isHarbour a1) = 0 then (0 : Int32) else (if (F_X1_isClock a2) = 0 then (0 : Int32) else (if (F_X1_isBetween (a3.toInt64) (0 : Int64) (10 : Int64)) = 0 then (0 : Int32) else (1 : Int32)))), .int (1 : Int32)]) (rest := []) rfl (by first | exact Nat.le_of_ble_eq_true rfl | simp [cat_rf, cat_i, cat_j, cat_f, cat_d]) dX2_allows_32 (ac_x ?_)
    cases hF
    exact gx_out X (fun x hx => nomatch hx)
  · refine g_callSN X (w_X1_need l hl D dA h0 (if (F_X1_isHarbour a1) = 0 then (0 : Int32) else (if (F_X1_isClock a2) = 0 then (0 : Int32) else (if (F_X1_isBetween (a3.toInt64) (0 : Int64) (10 : Int64)) = 0 then (0 : Int32) else (1 : Int32)))) (1 : Int32) (.inr u5) h4 e7) (nw_in q420 rfl) q421 q92 q422 okn_X1_need ⟨by rw [hRf]; exact Nat.le_of_ble_eq_true rfl, by rw [hRl]; exact Nat.le_of_ble_eq_true rfl⟩ (As := [.int (if (F_X1_isHarbour a1) = 0 then (0 : Int32) else (if (F_X1_isClock a2) = 0 then (0 : Int32) else (if (F_X1_isBetween (a3.toInt64) (0 : Int64) (10 : Int64)) = 0 then (0 : Int32) else (1 : Int32)))), .int (1 : Int32)]) (rest := []) rfl (by first | exact Nat.le_of_ble_eq_true rfl | simp [cat_rf, cat_i, cat_j, cat_f, cat_d]) dX2_allows_32 (ac_0 ?_)
    refine g_aload_n X dX2_allows_35 rfl rfl ?_
    refine g_iload_n X dX2_allows_36 rfl rfl ?_
    refine g_iload_n X dX2_allows_37 rfl rfl ?_
    obtain ⟨ob8, eob8, hF⟩ := bnd hF
    obtain ⟨v9, ev9, hF⟩ := bnd hF
    refine g_callV X eob8 rfl rfl (w_X2_stay l hl D dA h4 ob8 a1 a2 v9 ev9) q645 q646 q647 q93 q648 okn_X2_stay ⟨by rw [hRf]; exact Nat.le_of_ble_eq_true rfl, by rw [hRl]; exact Nat.le_of_ble_eq_true rfl⟩ (As := [.int a1, .int a2]) (rest := []) rfl (by first | exact Nat.le_of_ble_eq_true rfl | simp [cat_rf, cat_i, cat_j, cat_f, cat_d]) dX2_allows_38 (ac_v ?_)
    refine g_istore (L' := [some (va_rf (some this)), some (.int a1), some (.int a2), some (.int a3), some (.int v9)]) X dX2_allows_41 (Nat.le_of_ble_eq_true rfl) (by first | rfl | simp [stL, rm1, clr2, cat_rf, cat_i, cat_j, cat_f, cat_d]) ?_
    refine g_aload_n X dX2_allows_43 rfl rfl ?_
    obtain ⟨v10, ev10, hF⟩ := bnd hF
    refine g_get (k := 0) X in_X2 rfl (by decide) q183 (Or.inl rfl) (getR_V ev10) dX2_allows_44 ?_
    refine g_iconst (v := (3 : Int32)) X dX2_allows_47 (by decide) ?_
    refine g_iload_n X dX2_allows_48 rfl rfl ?_
    refine g_imul X dX2_allows_49 ?_
    refine g_iload_n X dX2_allows_50 rfl rfl ?_
    refine g_iadd X dX2_allows_51 ?_
    refine g_iload_n X dX2_allows_52 rfl rfl ?_
    obtain ⟨h11, eh11, hF⟩ := bnd hF
    refine g_iast X eh11 dX2_allows_53 ?_
    refine g_iload X dX2_allows_54 rfl ?_
    cases hF
    exact g_iret X hr dX2_allows_56
def F_X2_getsLine (this : Nat) (a1 : Int32) (a2 : Int32) (h0 : HH) : Option (((Nat × String) ⊕ Int32) × HH) :=
  thr (F_X1_need (if (F_X1_isHarbour a1) = 0 then (0 : Int32) else (if (F_X1_isHarbour a2) = 0 then (0 : Int32) else (1 : Int32))) (1 : Int32) h0) (fun q5 h3 =>
    some (.inl q5, h3)
  ) (fun u4 h3 =>
    Option.bind (getR h3 2 1 (some this)) fun v7 =>
    Option.bind (isO h3 8 v7) fun ob8 =>
    Option.bind (F_J2_size ob8 h3) fun v9 =>
    thr (F_X1_need (if (10 : Int32) ≤ v9 then (0 : Int32) else (1 : Int32)) (2 : Int32) h3) (fun q13 h11 =>
      some (.inl q13, h11)
    ) (fun u12 h11 =>
      Option.bind (getR h11 2 1 (some this)) fun v15 =>
      Option.bind (newO h11 4 5 [.int 0, .int 0, .null, .null, .int 0]) fun h16 =>
      Option.bind (nnl (some (hSz h11))) fun ob17 =>
      Option.bind (F_X5_init_2 ob17 a1 a2 h16) fun h18 =>
      Option.bind (isO h18 8 v15) fun ob19 =>
      b2 (F_J2_add ob19 (some (hSz h11)) h18) fun v21 h20 =>
      Option.bind (getR h20 2 1 (some this)) fun v22 =>
      Option.bind (isO h20 8 v22) fun ob23 =>
      Option.bind (F_J2_size ob23 h20) fun v24 =>
      some (.inr (v24 - (1 : Int32)), h20)
    )
  )
set_option maxHeartbeats 4000000 in
theorem w_X2_getsLine (l : Launch) (hl : l.stackTraces = false) (D : va_G) (dA : Nat → ClassId) (h0 : HH) (this : Nat) (a1 : Int32) (a2 : Int32) (oE : (Nat × String) ⊕ Int32) (hE : HH) (hF : F_X2_getsLine this a1 a2 h0 = some (oE, hE)) : MC D dA l yX2_getsLine cX2_getsLine 3 (Option.some Jvm.ClassFile.FieldType.int) [] 11 321 [va_rf (some this), .int a1, .int a2] h0 (rsI oE, hE) := by
  refine mc_of hl (plainFor_of_name pn_X2) (by simp [lg_sl, cat_rf, cat_i, cat_j, cat_f, cat_d]) ?_
  intro p e s m args below meth c R hRf hRl X hr hnm
  unfold F_X2_getsLine at hF
  rw [show argL [va_rf (some this), .int a1, .int a2] = [some (va_rf (some this)), some (.int a1), some (.int a2)] from by simp [argL, cat_rf, cat_i, cat_j, cat_f, cat_d]]
  refine g_iload_n X dX2_getsLine_0 rfl rfl ?_
  refine g_callSN X (w_X1_isHarbour l hl D dA h0 a1) (nw_in q640 rfl) q641 q92 q642 okn_X1_isHarbour ⟨by rw [hRf]; exact Nat.le_of_ble_eq_true rfl, by rw [hRl]; exact Nat.le_of_ble_eq_true rfl⟩ (As := [.int a1]) (rest := []) rfl (by first | exact Nat.le_of_ble_eq_true rfl | simp [cat_rf, cat_i, cat_j, cat_f, cat_d]) dX2_getsLine_1 (ac_v ?_)
  suffices K : G p l e R s m args below meth c (RQ D dA h0 (rsI oE, hE) below s) D dA h0 3 h0 19 [some (va_rf (some this)), some (.int a1), some (.int a2)] [.int (if (F_X1_isHarbour a1) = 0 then (0 : Int32) else (if (F_X1_isHarbour a2) = 0 then (0 : Int32) else (1 : Int32)))] by
    refine g_if_eq X 18 dX2_getsLine_4 (by decide) (fun c1 => ?_) (fun c1 => ?_)
    · (try simp only [if_pos c1] at K)
      refine g_iconst (v := (0 : Int32)) X dX2_getsLine_18 (by decide) ?_
      first | exact K | (simp only [if_pos c1]; exact K)
    · (try simp only [if_neg c1] at K)
      refine g_iload_n X dX2_getsLine_7 rfl rfl ?_
      refine g_callSN X (w_X1_isHarbour l hl D dA h0 a2) (nw_in q640 rfl) q641 q92 q642 okn_X1_isHarbour ⟨by rw [hRf]; exact Nat.le_of_ble_eq_true rfl, by rw [hRl]; exact Nat.le_of_ble_eq_true rfl⟩ (As := [.int a2]) (rest := []) rfl (by first | exact Nat.le_of_ble_eq_true rfl | simp [cat_rf, cat_i, cat_j, cat_f, cat_d]) dX2_getsLine_8 (ac_v ?_)
      refine g_if_eq X 18 dX2_getsLine_11 (by decide) (fun c2 => ?_) (fun c2 => ?_)
      · (try simp only [if_pos c2] at K)
        refine g_iconst (v := (0 : Int32)) X dX2_getsLine_18 (by decide) ?_
        first | exact K | (simp only [if_neg c1, if_pos c2]; exact K)
      · (try simp only [if_neg c2] at K)
        refine g_iconst (v := (1 : Int32)) X dX2_getsLine_14 (by decide) ?_
        refine g_goto X 19 dX2_getsLine_15 (by decide) ?_
        first | exact K | (simp only [if_neg c1, if_neg c2]; exact K)
  refine g_iconst (v := (1 : Int32)) X dX2_getsLine_19 (by decide) ?_
  rcases thr_some hF with ⟨q5, h3, e6, hF⟩ | ⟨u4, h3, e6, hF⟩
  · refine g_callSN X (w_X1_need l hl D dA h0 (if (F_X1_isHarbour a1) = 0 then (0 : Int32) else (if (F_X1_isHarbour a2) = 0 then (0 : Int32) else (1 : Int32))) (1 : Int32) (.inl q5) h3 e6) (nw_in q420 rfl) q421 q92 q422 okn_X1_need ⟨by rw [hRf]; exact Nat.le_of_ble_eq_true rfl, by rw [hRl]; exact Nat.le_of_ble_eq_true rfl⟩ (As := [.int (if (F_X1_isHarbour a1) = 0 then (0 : Int32) else (if (F_X1_isHarbour a2) = 0 then (0 : Int32) else (1 : Int32))), .int (1 : Int32)]) (rest := []) rfl (by first | exact Nat.le_of_ble_eq_true rfl | simp [cat_rf, cat_i, cat_j, cat_f, cat_d]) dX2_getsLine_20 (ac_x ?_)
    cases hF
    exact gx_out X (fun x hx => nomatch hx)
  · refine g_callSN X (w_X1_need l hl D dA h0 (if (F_X1_isHarbour a1) = 0 then (0 : Int32) else (if (F_X1_isHarbour a2) = 0 then (0 : Int32) else (1 : Int32))) (1 : Int32) (.inr u4) h3 e6) (nw_in q420 rfl) q421 q92 q422 okn_X1_need ⟨by rw [hRf]; exact Nat.le_of_ble_eq_true rfl, by rw [hRl]; exact Nat.le_of_ble_eq_true rfl⟩ (As := [.int (if (F_X1_isHarbour a1) = 0 then (0 : Int32) else (if (F_X1_isHarbour a2) = 0 then (0 : Int32) else (1 : Int32))), .int (1 : Int32)]) (rest := []) rfl (by first | exact Nat.le_of_ble_eq_true rfl | simp [cat_rf, cat_i, cat_j, cat_f, cat_d]) dX2_getsLine_20 (ac_0 ?_)
    refine g_aload_n X dX2_getsLine_23 rfl rfl ?_
    obtain ⟨v7, ev7, hF⟩ := bnd hF
    refine g_get (k := 1) X in_X2 rfl (by decide) q184 (Or.inl rfl) (getR_V ev7) dX2_getsLine_24 ?_
    obtain ⟨ob8, eob8, hF⟩ := bnd hF
    obtain ⟨v9, ev9, hF⟩ := bnd hF
    refine g_callV X eob8 rfl rfl (w_J2_size l hl D dA h3 ob8  v9 ev9) q288 q289 q290 q96 q291 okn_J2_size ⟨by rw [hRf]; exact Nat.le_of_ble_eq_true rfl, by rw [hRl]; exact Nat.le_of_ble_eq_true rfl⟩ (As := []) (rest := []) rfl (by first | exact Nat.le_of_ble_eq_true rfl | simp [cat_rf, cat_i, cat_j, cat_f, cat_d]) dX2_getsLine_27 (ac_v ?_)
    refine g_bipush (v := (10 : Int32)) X dX2_getsLine_30 (by decide) ?_
    suffices K : G p l e R s m args below meth c (RQ D dA h0 (rsI oE, hE) below s) D dA h0 3 h3 40 [some (va_rf (some this)), some (.int a1), some (.int a2)] [.int (if (10 : Int32) ≤ v9 then (0 : Int32) else (1 : Int32))] by
      refine g_icmp_ge X 39 dX2_getsLine_32 (by decide) (fun c10 => ?_) (fun c10 => ?_)
      · (try simp only [if_pos c10] at K)
        refine g_iconst (v := (0 : Int32)) X dX2_getsLine_39 (by decide) ?_
        first | exact K | (simp only [if_pos c10]; exact K)
      · (try simp only [if_neg c10] at K)
        refine g_iconst (v := (1 : Int32)) X dX2_getsLine_35 (by decide) ?_
        refine g_goto X 40 dX2_getsLine_36 (by decide) ?_
        first | exact K | (simp only [if_neg c10]; exact K)
    refine g_iconst (v := (2 : Int32)) X dX2_getsLine_40 (by decide) ?_
    rcases thr_some hF with ⟨q13, h11, e14, hF⟩ | ⟨u12, h11, e14, hF⟩
    · refine g_callSN X (w_X1_need l hl D dA h3 (if (10 : Int32) ≤ v9 then (0 : Int32) else (1 : Int32)) (2 : Int32) (.inl q13) h11 e14) (nw_in q420 rfl) q421 q92 q422 okn_X1_need ⟨by rw [hRf]; exact Nat.le_of_ble_eq_true rfl, by rw [hRl]; exact Nat.le_of_ble_eq_true rfl⟩ (As := [.int (if (10 : Int32) ≤ v9 then (0 : Int32) else (1 : Int32)), .int (2 : Int32)]) (rest := []) rfl (by first | exact Nat.le_of_ble_eq_true rfl | simp [cat_rf, cat_i, cat_j, cat_f, cat_d]) dX2_getsLine_41 (ac_x ?_)
      cases hF
      exact gx_out X (fun x hx => nomatch hx)
    · refine g_callSN X (w_X1_need l hl D dA h3 (if (10 : Int32) ≤ v9 then (0 : Int32) else (1 : Int32)) (2 : Int32) (.inr u12) h11 e14) (nw_in q420 rfl) q421 q92 q422 okn_X1_need ⟨by rw [hRf]; exact Nat.le_of_ble_eq_true rfl, by rw [hRl]; exact Nat.le_of_ble_eq_true rfl⟩ (As := [.int (if (10 : Int32) ≤ v9 then (0 : Int32) else (1 : Int32)), .int (2 : Int32)]) (rest := []) rfl (by first | exact Nat.le_of_ble_eq_true rfl | simp [cat_rf, cat_i, cat_j, cat_f, cat_d]) dX2_getsLine_41 (ac_0 ?_)
      refine g_aload_n X dX2_getsLine_44 rfl rfl ?_
      obtain ⟨v15, ev15, hF⟩ := bnd hF
      refine g_get (k := 1) X in_X2 rfl (by decide) q184 (Or.inl rfl) (getR_V ev15) dX2_getsLine_45 ?_
      obtain ⟨h16, eh16, hF⟩ := bnd hF
      refine g_new X in_X5 tyX5 tyX5_ok rfl q292 q293 q104 rfl dv_X5 eh16 dX2_getsLine_48 ?_
      refine g_dup X dX2_getsLine_51 (cat_rf _) ?_
      refine g_iload_n X dX2_getsLine_52 rfl rfl ?_
      refine g_iload_n X dX2_getsLine_53 rfl rfl ?_
      obtain ⟨ob17, eob17, hF⟩ := bnd hF
      obtain ⟨h18, eh18, hF⟩ := bnd hF
      refine g_callI X (nnl_some eob17) (w_X5_init_2 l hl D dA h16 ob17 a1 a2 h18 eh18) rfl q653 q654 q104 q655 okn_X5_init_2 ⟨by rw [hRf]; exact Nat.le_of_ble_eq_true rfl, by rw [hRl]; exact Nat.le_of_ble_eq_true rfl⟩ (As := [.int a1, .int a2]) (rest := [va_rf (some (hSz h11)), va_rf v15]) rfl (by first | exact Nat.le_of_ble_eq_true rfl | simp [cat_rf, cat_i, cat_j, cat_f, cat_d]) dX2_getsLine_54 (ac_0 ?_)
      obtain ⟨ob19, eob19, hF⟩ := bnd hF
      obtain ⟨v21, h20, eh20, hF⟩ := b2_some hF
      refine g_callV X eob19 rfl rfl (w_J2_add l hl D dA h18 ob19 (some (hSz h11)) v21 h20 eh20) q337 q338 q339 q96 q340 okn_J2_add ⟨by rw [hRf]; exact Nat.le_of_ble_eq_true rfl, by rw [hRl]; exact Nat.le_of_ble_eq_true rfl⟩ (As := [va_rf (some (hSz h11))]) (rest := []) rfl (by first | exact Nat.le_of_ble_eq_true rfl | simp [cat_rf, cat_i, cat_j, cat_f, cat_d]) dX2_getsLine_57 (ac_v ?_)
      refine g_pop X dX2_getsLine_60 rfl ?_
      refine g_aload_n X dX2_getsLine_61 rfl rfl ?_
      obtain ⟨v22, ev22, hF⟩ := bnd hF
      refine g_get (k := 1) X in_X2 rfl (by decide) q184 (Or.inl rfl) (getR_V ev22) dX2_getsLine_62 ?_
      obtain ⟨ob23, eob23, hF⟩ := bnd hF
      obtain ⟨v24, ev24, hF⟩ := bnd hF
      refine g_callV X eob23 rfl rfl (w_J2_size l hl D dA h20 ob23  v24 ev24) q288 q289 q290 q96 q291 okn_J2_size ⟨by rw [hRf]; exact Nat.le_of_ble_eq_true rfl, by rw [hRl]; exact Nat.le_of_ble_eq_true rfl⟩ (As := []) (rest := []) rfl (by first | exact Nat.le_of_ble_eq_true rfl | simp [cat_rf, cat_i, cat_j, cat_f, cat_d]) dX2_getsLine_65 (ac_v ?_)
      refine g_iconst (v := (1 : Int32)) X dX2_getsLine_68 (by decide) ?_
      refine g_isub X dX2_getsLine_69 ?_
      cases hF
      exact g_iret X hr dX2_getsLine_70
def F_X2_isLine (this : Nat) (a1 : Int32) (h0 : HH) : Option Int32 :=
  Option.bind (getR h0 2 1 (some this)) fun v1 =>
  Option.bind (isO h0 8 v1) fun ob2 =>
  Option.bind (F_J2_size ob2 h0) fun v3 =>
  some (F_X1_isBetween (a1.toInt64) (0 : Int64) ((v3 - (1 : Int32)).toInt64))
set_option maxHeartbeats 4000000 in
theorem w_X2_isLine (l : Launch) (hl : l.stackTraces = false) (D : va_G) (dA : Nat → ClassId) (h0 : HH) (this : Nat) (a1 : Int32) (rE : Int32) (hF : F_X2_isLine this a1 h0 = some rE) : MC D dA l yX2_isLine cX2_isLine 2 (Option.some Jvm.ClassFile.FieldType.boolean) [] 1 25 [va_rf (some this), .int a1] h0 (.inr (some (.int rE)), h0) := by
  refine mc_of hl (plainFor_of_name pn_X2) (by simp [lg_sl, cat_rf, cat_i, cat_j, cat_f, cat_d]) ?_
  intro p e s m args below meth c R hRf hRl X hr hnm
  unfold F_X2_isLine at hF
  rw [show argL [va_rf (some this), .int a1] = [some (va_rf (some this)), some (.int a1)] from by simp [argL, cat_rf, cat_i, cat_j, cat_f, cat_d]]
  refine g_iload_n X dX2_isLine_0 rfl rfl ?_
  refine g_i2l X dX2_isLine_1 ?_
  refine g_lconst (v := (0 : Int64)) X dX2_isLine_2 (by decide) ?_
  refine g_aload_n X dX2_isLine_3 rfl rfl ?_
  obtain ⟨v1, ev1, hF⟩ := bnd hF
  refine g_get (k := 1) X in_X2 rfl (by decide) q184 (Or.inl rfl) (getR_V ev1) dX2_isLine_4 ?_
  obtain ⟨ob2, eob2, hF⟩ := bnd hF
  obtain ⟨v3, ev3, hF⟩ := bnd hF
  refine g_callV X eob2 rfl rfl (w_J2_size l hl D dA h0 ob2  v3 ev3) q288 q289 q290 q96 q291 okn_J2_size ⟨by rw [hRf]; exact Nat.le_of_ble_eq_true rfl, by rw [hRl]; exact Nat.le_of_ble_eq_true rfl⟩ (As := []) (rest := [.long (0 : Int64), .long (a1.toInt64)]) rfl (by first | exact Nat.le_of_ble_eq_true rfl | simp [cat_rf, cat_i, cat_j, cat_f, cat_d]) dX2_isLine_7 (ac_v ?_)
  refine g_iconst (v := (1 : Int32)) X dX2_isLine_10 (by decide) ?_
  refine g_isub X dX2_isLine_11 ?_
  refine g_i2l X dX2_isLine_12 ?_
  refine g_callSN X (w_X1_isBetween l hl D dA h0 (a1.toInt64) (0 : Int64) ((v3 - (1 : Int32)).toInt64)) (nw_in q419 rfl) q415 q92 q416 okn_X1_isBetween ⟨by rw [hRf]; exact Nat.le_of_ble_eq_true rfl, by rw [hRl]; exact Nat.le_of_ble_eq_true rfl⟩ (As := [.long (a1.toInt64), .long (0 : Int64), .long ((v3 - (1 : Int32)).toInt64)]) (rest := []) rfl (by first | exact Nat.le_of_ble_eq_true rfl | simp [cat_rf, cat_i, cat_j, cat_f, cat_d]) dX2_isLine_13 (ac_v ?_)
  cases hF
  exact g_zret X hr (by simp only [F_X1_isBetween]; (repeat' split) <;> rfl) dX2_isLine_16
def F_X2_wants (this : Nat) (a1 : Int32) (a2 : Int32) (a3 : Int32) (a4 : Int32) (h0 : HH) : Option (((Nat × String) ⊕ Int32) × HH) :=
  Option.bind (isO h0 2 (some this)) fun ob1 =>
  Option.bind (F_X2_isLine ob1 a1 h0) fun v2 =>
  thr (F_X1_need (if v2 = 0 then (0 : Int32) else (if (F_X1_isClock a2) = 0 then (0 : Int32) else (if (F_X1_isBetween (a3.toInt64) (0 : Int64) (9 : Int64)) = 0 then (0 : Int32) else (if (F_X1_isBetween (a4.toInt64) (a3.toInt64) (10 : Int64)) = 0 then (0 : Int32) else (1 : Int32))))) (1 : Int32) h0) (fun q9 h7 =>
    some (.inl q9, h7)
  ) (fun u8 h7 =>
    Option.bind (getR h7 2 1 (some this)) fun v11 =>
    Option.bind (isO h7 8 v11) fun ob12 =>
    Option.bind (F_J2_get ob12 a1 h7) fun v13 =>
    Option.bind (castO h7 4 v13) fun _ =>
    Option.bind (getR h7 4 2 v13) fun v15 =>
    Option.bind (aldI h7 0 v15 a2) fun v16 =>
    Option.bind (getR h7 4 2 v13) fun v17 =>
    Option.bind (astI h7 v17 a2 a3) fun h18 =>
    Option.bind (getR h18 4 3 v13) fun v19 =>
    Option.bind (astI h18 v19 a2 a4) fun h20 =>
    some (.inr v16, h20)
  )
set_option maxHeartbeats 4000000 in
theorem w_X2_wants (l : Launch) (hl : l.stackTraces = false) (D : va_G) (dA : Nat → ClassId) (h0 : HH) (this : Nat) (a1 : Int32) (a2 : Int32) (a3 : Int32) (a4 : Int32) (oE : (Nat × String) ⊕ Int32) (hE : HH) (hF : F_X2_wants this a1 a2 a3 a4 h0 = some (oE, hE)) : MC D dA l yX2_wants cX2_wants 7 (Option.some Jvm.ClassFile.FieldType.int) [] 11 321 [va_rf (some this), .int a1, .int a2, .int a3, .int a4] h0 (rsI oE, hE) := by
  refine mc_of hl (plainFor_of_name pn_X2) (by simp [lg_sl, cat_rf, cat_i, cat_j, cat_f, cat_d]) ?_
  intro p e s m args below meth c R hRf hRl X hr hnm
  unfold F_X2_wants at hF
  rw [show argL [va_rf (some this), .int a1, .int a2, .int a3, .int a4] = [some (va_rf (some this)), some (.int a1), some (.int a2), some (.int a3), some (.int a4)] from by simp [argL, cat_rf, cat_i, cat_j, cat_f, cat_d]]
  refine G.pad 2 (L' := [some (va_rf (some this)), some (.int a1), some (.int a2), some (.int a3), some (.int a4), none, none]) rfl ?_
  refine g_aload_n X dX2_wants_0 rfl rfl ?_
  refine g_iload_n X dX2_wants_1 rfl rfl ?_
  obtain ⟨ob1, eob1, hF⟩ := bnd hF
  obtain ⟨v2, ev2, hF⟩ := bnd hF
  refine g_callV X eob1 rfl rfl (w_X2_isLine l hl D dA h0 ob1 a1 v2 ev2) q660 q661 q662 q93 q663 okn_X2_isLine ⟨by rw [hRf]; exact Nat.le_of_ble_eq_true rfl, by rw [hRl]; exact Nat.le_of_ble_eq_true rfl⟩ (As := [.int a1]) (rest := []) rfl (by first | exact Nat.le_of_ble_eq_true rfl | simp [cat_rf, cat_i, cat_j, cat_f, cat_d]) dX2_wants_2 (ac_v ?_)
  suffices K : G p l e R s m args below meth c (RQ D dA h0 (rsI oE, hE) below s) D dA h0 7 h0 46 [some (va_rf (some this)), some (.int a1), some (.int a2), some (.int a3), some (.int a4), none, none] [.int (if v2 = 0 then (0 : Int32) else (if (F_X1_isClock a2) = 0 then (0 : Int32) else (if (F_X1_isBetween (a3.toInt64) (0 : Int64) (9 : Int64)) = 0 then (0 : Int32) else (if (F_X1_isBetween (a4.toInt64) (a3.toInt64) (10 : Int64)) = 0 then (0 : Int32) else (1 : Int32)))))] by
    refine g_if_eq X 45 dX2_wants_5 (by decide) (fun c3 => ?_) (fun c3 => ?_)
    · (try simp only [if_pos c3] at K)
      refine g_iconst (v := (0 : Int32)) X dX2_wants_45 (by decide) ?_
      first | exact K | (simp only [if_pos c3]; exact K)
    · (try simp only [if_neg c3] at K)
      refine g_iload_n X dX2_wants_8 rfl rfl ?_
      refine g_callSN X (w_X1_isClock l hl D dA h0 a2) (nw_in q559 rfl) q560 q92 q561 okn_X1_isClock ⟨by rw [hRf]; exact Nat.le_of_ble_eq_true rfl, by rw [hRl]; exact Nat.le_of_ble_eq_true rfl⟩ (As := [.int a2]) (rest := []) rfl (by first | exact Nat.le_of_ble_eq_true rfl | simp [cat_rf, cat_i, cat_j, cat_f, cat_d]) dX2_wants_9 (ac_v ?_)
      refine g_if_eq X 45 dX2_wants_12 (by decide) (fun c4 => ?_) (fun c4 => ?_)
      · (try simp only [if_pos c4] at K)
        refine g_iconst (v := (0 : Int32)) X dX2_wants_45 (by decide) ?_
        first | exact K | (simp only [if_neg c3, if_pos c4]; exact K)
      · (try simp only [if_neg c4] at K)
        refine g_iload_n X dX2_wants_15 rfl rfl ?_
        refine g_i2l X dX2_wants_16 ?_
        refine g_lconst (v := (0 : Int64)) X dX2_wants_17 (by decide) ?_
        refine g_ldc2 (v := (9 : Int64)) X q418 dX2_wants_18 ?_
        refine g_callSN X (w_X1_isBetween l hl D dA h0 (a3.toInt64) (0 : Int64) (9 : Int64)) (nw_in q419 rfl) q415 q92 q416 okn_X1_isBetween ⟨by rw [hRf]; exact Nat.le_of_ble_eq_true rfl, by rw [hRl]; exact Nat.le_of_ble_eq_true rfl⟩ (As := [.long (a3.toInt64), .long (0 : Int64), .long (9 : Int64)]) (rest := []) rfl (by first | exact Nat.le_of_ble_eq_true rfl | simp [cat_rf, cat_i, cat_j, cat_f, cat_d]) dX2_wants_21 (ac_v ?_)
        refine g_if_eq X 45 dX2_wants_24 (by decide) (fun c5 => ?_) (fun c5 => ?_)
        · (try simp only [if_pos c5] at K)
          refine g_iconst (v := (0 : Int32)) X dX2_wants_45 (by decide) ?_
          first | exact K | (simp only [if_neg c3, if_neg c4, if_pos c5]; exact K)
        · (try simp only [if_neg c5] at K)
          refine g_iload X dX2_wants_27 rfl ?_
          refine g_i2l X dX2_wants_29 ?_
          refine g_iload_n X dX2_wants_30 rfl rfl ?_
          refine g_i2l X dX2_wants_31 ?_
          refine g_ldc2 (v := (10 : Int64)) X q644 dX2_wants_32 ?_
          refine g_callSN X (w_X1_isBetween l hl D dA h0 (a4.toInt64) (a3.toInt64) (10 : Int64)) (nw_in q419 rfl) q415 q92 q416 okn_X1_isBetween ⟨by rw [hRf]; exact Nat.le_of_ble_eq_true rfl, by rw [hRl]; exact Nat.le_of_ble_eq_true rfl⟩ (As := [.long (a4.toInt64), .long (a3.toInt64), .long (10 : Int64)]) (rest := []) rfl (by first | exact Nat.le_of_ble_eq_true rfl | simp [cat_rf, cat_i, cat_j, cat_f, cat_d]) dX2_wants_35 (ac_v ?_)
          refine g_if_eq X 45 dX2_wants_38 (by decide) (fun c6 => ?_) (fun c6 => ?_)
          · (try simp only [if_pos c6] at K)
            refine g_iconst (v := (0 : Int32)) X dX2_wants_45 (by decide) ?_
            first | exact K | (simp only [if_neg c3, if_neg c4, if_neg c5, if_pos c6]; exact K)
          · (try simp only [if_neg c6] at K)
            refine g_iconst (v := (1 : Int32)) X dX2_wants_41 (by decide) ?_
            refine g_goto X 46 dX2_wants_42 (by decide) ?_
            first | exact K | (simp only [if_neg c3, if_neg c4, if_neg c5, if_neg c6]; exact K)
  refine g_iconst (v := (1 : Int32)) X dX2_wants_46 (by decide) ?_
  rcases thr_some hF with ⟨q9, h7, e10, hF⟩ | ⟨u8, h7, e10, hF⟩
  · refine g_callSN X (w_X1_need l hl D dA h0 (if v2 = 0 then (0 : Int32) else (if (F_X1_isClock a2) = 0 then (0 : Int32) else (if (F_X1_isBetween (a3.toInt64) (0 : Int64) (9 : Int64)) = 0 then (0 : Int32) else (if (F_X1_isBetween (a4.toInt64) (a3.toInt64) (10 : Int64)) = 0 then (0 : Int32) else (1 : Int32))))) (1 : Int32) (.inl q9) h7 e10) (nw_in q420 rfl) q421 q92 q422 okn_X1_need ⟨by rw [hRf]; exact Nat.le_of_ble_eq_true rfl, by rw [hRl]; exact Nat.le_of_ble_eq_true rfl⟩ (As := [.int (if v2 = 0 then (0 : Int32) else (if (F_X1_isClock a2) = 0 then (0 : Int32) else (if (F_X1_isBetween (a3.toInt64) (0 : Int64) (9 : Int64)) = 0 then (0 : Int32) else (if (F_X1_isBetween (a4.toInt64) (a3.toInt64) (10 : Int64)) = 0 then (0 : Int32) else (1 : Int32))))), .int (1 : Int32)]) (rest := []) rfl (by first | exact Nat.le_of_ble_eq_true rfl | simp [cat_rf, cat_i, cat_j, cat_f, cat_d]) dX2_wants_47 (ac_x ?_)
    cases hF
    exact gx_out X (fun x hx => nomatch hx)
  · refine g_callSN X (w_X1_need l hl D dA h0 (if v2 = 0 then (0 : Int32) else (if (F_X1_isClock a2) = 0 then (0 : Int32) else (if (F_X1_isBetween (a3.toInt64) (0 : Int64) (9 : Int64)) = 0 then (0 : Int32) else (if (F_X1_isBetween (a4.toInt64) (a3.toInt64) (10 : Int64)) = 0 then (0 : Int32) else (1 : Int32))))) (1 : Int32) (.inr u8) h7 e10) (nw_in q420 rfl) q421 q92 q422 okn_X1_need ⟨by rw [hRf]; exact Nat.le_of_ble_eq_true rfl, by rw [hRl]; exact Nat.le_of_ble_eq_true rfl⟩ (As := [.int (if v2 = 0 then (0 : Int32) else (if (F_X1_isClock a2) = 0 then (0 : Int32) else (if (F_X1_isBetween (a3.toInt64) (0 : Int64) (9 : Int64)) = 0 then (0 : Int32) else (if (F_X1_isBetween (a4.toInt64) (a3.toInt64) (10 : Int64)) = 0 then (0 : Int32) else (1 : Int32))))), .int (1 : Int32)]) (rest := []) rfl (by first | exact Nat.le_of_ble_eq_true rfl | simp [cat_rf, cat_i, cat_j, cat_f, cat_d]) dX2_wants_47 (ac_0 ?_)
    refine g_aload_n X dX2_wants_50 rfl rfl ?_
    obtain ⟨v11, ev11, hF⟩ := bnd hF
    refine g_get (k := 1) X in_X2 rfl (by decide) q184 (Or.inl rfl) (getR_V ev11) dX2_wants_51 ?_
    refine g_iload_n X dX2_wants_54 rfl rfl ?_
    obtain ⟨ob12, eob12, hF⟩ := bnd hF
    obtain ⟨v13, ev13, hF⟩ := bnd hF
    refine g_callV X eob12 rfl rfl (w_J2_get l hl D dA h7 ob12 a1 v13 ev13) q294 q295 q296 q96 q297 okn_J2_get ⟨by rw [hRf]; exact Nat.le_of_ble_eq_true rfl, by rw [hRl]; exact Nat.le_of_ble_eq_true rfl⟩ (As := [.int a1]) (rest := []) rfl (by first | exact Nat.le_of_ble_eq_true rfl | simp [cat_rf, cat_i, cat_j, cat_f, cat_d]) dX2_wants_55 (ac_v ?_)
    obtain ⟨_, z14, hF⟩ := bnd hF
    refine g_castO X q292 rfl z14 dX2_wants_58 ?_
    refine g_astore (L' := [some (va_rf (some this)), some (.int a1), some (.int a2), some (.int a3), some (.int a4), some (va_rf v13), none]) X dX2_wants_61 (Nat.le_of_ble_eq_true rfl) (by first | rfl | simp [stL, rm1, clr2, cat_rf, cat_i, cat_j, cat_f, cat_d]) ?_
    refine g_aload X dX2_wants_63 rfl ?_
    obtain ⟨v15, ev15, hF⟩ := bnd hF
    refine g_getN (k := 2) X in_X5 rfl (by decide) (nw_in q321 rfl) rfl (getR_V ev15) dX2_wants_65 ?_
    refine g_iload_n X dX2_wants_68 rfl rfl ?_
    obtain ⟨v16, ev16, hF⟩ := bnd hF
    refine g_iald X ev16 dX2_wants_69 ?_
    refine g_istore (L' := [some (va_rf (some this)), some (.int a1), some (.int a2), some (.int a3), some (.int a4), some (va_rf v13), some (.int v16)]) X dX2_wants_70 (Nat.le_of_ble_eq_true rfl) (by first | rfl | simp [stL, rm1, clr2, cat_rf, cat_i, cat_j, cat_f, cat_d]) ?_
    refine g_aload X dX2_wants_72 rfl ?_
    obtain ⟨v17, ev17, hF⟩ := bnd hF
    refine g_getN (k := 2) X in_X5 rfl (by decide) (nw_in q321 rfl) rfl (getR_V ev17) dX2_wants_74 ?_
    refine g_iload_n X dX2_wants_77 rfl rfl ?_
    refine g_iload_n X dX2_wants_78 rfl rfl ?_
    obtain ⟨h18, eh18, hF⟩ := bnd hF
    refine g_iast X eh18 dX2_wants_79 ?_
    refine g_aload X dX2_wants_80 rfl ?_
    obtain ⟨v19, ev19, hF⟩ := bnd hF
    refine g_getN (k := 3) X in_X5 rfl (by decide) (nw_in q323 rfl) rfl (getR_V ev19) dX2_wants_82 ?_
    refine g_iload_n X dX2_wants_85 rfl rfl ?_
    refine g_iload X dX2_wants_86 rfl ?_
    obtain ⟨h20, eh20, hF⟩ := bnd hF
    refine g_iast X eh20 dX2_wants_88 ?_
    refine g_iload X dX2_wants_89 rfl ?_
    cases hF
    exact g_iret X hr dX2_wants_91
