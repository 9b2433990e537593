def F_J4_init (this : Nat) (a1 : Int32) (h0 : HH) : Option HH :=
  Option.bind (nnl (some this)) fun ob1 =>
  if (1 : Int32) = 0 then (
    none
  ) else (
    Option.bind (newA h0 1 a1) fun h3 =>
    Option.bind (putV h3 10 0 (some this) (va_rf (some (hSz h0)))) fun h4 =>
    Option.bind (putV h4 10 1 (some this) (.int (0 : Int32))) fun h5 =>
    some h5
  )
set_option maxHeartbeats 4000000 in
theorem w_J4_init (l : Launch) (hl : l.stackTraces = false) (D : va_G) (dA : Nat → ClassId) (h0 : HH) (this : Nat) (a1 : Int32) (hE : HH) (hF : F_J4_init this a1 h0 = some hE) : MC D dA l yJ4_init cJ4_init 2 (Option.none : Option Jvm.ClassFile.FieldType) [] 1 20 [va_rf (some this), .int a1] h0 (.inr none, hE) := by
  refine mc_of hl (plainFor_of_name pn_J4) (by simp [lg_sl, cat_rf, cat_i, cat_j, cat_f, cat_d]) ?_
  intro p e s m args below meth c R hRf hRl X hr hnm
  unfold F_J4_init at hF
  rw [show argL [va_rf (some this), .int a1] = [some (va_rf (some this)), some (.int a1)] from by simp [argL, cat_rf, cat_i, cat_j, cat_f, cat_d]]
  refine g_aload_n X dJ4_init_0 rfl rfl ?_
  obtain ⟨ob1, eob1, hF⟩ := bnd hF
  refine g_objInit X ob1 eob1 q229 q132 q133 ⟨by rw [hRf]; exact Nat.le_of_ble_eq_true rfl, by rw [hRl]; exact Nat.le_of_ble_eq_true rfl⟩ (by first | exact Nat.le_of_ble_eq_true rfl | simp [cat_rf, cat_i, cat_j, cat_f, cat_d]) dJ4_init_1 ?_
  refine g_getsC X q230 rfl dJ4_init_4 ?_
  refine g_if_eq X 25 dJ4_init_7 (by decide) (fun c2 => ?_) (fun c2 => ?_)
  · have hF := (if_pos c2).symm.trans hF
    cases hF
  · have hF := (if_neg c2).symm.trans hF
    refine g_aload_n X dJ4_init_10 rfl rfl ?_
    refine g_iload_n X dJ4_init_11 rfl rfl ?_
    obtain ⟨h3, eh3, hF⟩ := bnd hF
    refine g_newa (atype := .byte) (t := 1) X q253 rfl (funext fun _ => rfl) (by decide) eh3 dJ4_init_12 ?_
    obtain ⟨h4, eh4, hF⟩ := bnd hF
    refine g_put (k := 0) X in_J5 tyJ5 tyJ5_ok nmJ5 rfl (by decide) q239 (Or.inl rfl) rfl (tyJ5_ok 0 (by decide)) (narrow_rfA _ _) (fits_rfA _ _) eh4 dJ4_init_14 ?_
    refine g_aload_n X dJ4_init_17 rfl rfl ?_
    refine g_iconst (v := (0 : Int32)) X dJ4_init_18 (by decide) ?_
    obtain ⟨h5, eh5, hF⟩ := bnd hF
    refine g_put (k := 1) X in_J5 tyJ5 tyJ5_ok nmJ5 rfl (by decide) q240 (Or.inl rfl) rfl (tyJ5_ok 1 (by decide)) (by decide) (by decide) eh5 dJ4_init_19 ?_
    refine g_goto X 38 dJ4_init_22 (by decide) ?_
    cases hF
    exact g_vret X hr dJ4_init_38
def F_J5_init (this : Nat) (h0 : HH) : Option HH :=
  Option.bind (nnl (some this)) fun ob1 =>
  Option.bind (F_J4_init ob1 (16 : Int32) h0) fun h2 =>
  some h2
set_option maxHeartbeats 4000000 in
theorem w_J5_init (l : Launch) (hl : l.stackTraces = false) (D : va_G) (dA : Nat → ClassId) (h0 : HH) (this : Nat) (hE : HH) (hF : F_J5_init this h0 = some hE) : MC D dA l yJ5_init cJ5_init 1 (Option.none : Option Jvm.ClassFile.FieldType) [] 2 41 [va_rf (some this)] h0 (.inr none, hE) := by
  refine mc_of hl (plainFor_of_name pn_J5) (by simp [lg_sl, cat_rf, cat_i, cat_j, cat_f, cat_d]) ?_
  intro p e s m args below meth c R hRf hRl X hr hnm
  unfold F_J5_init at hF
  rw [show argL [va_rf (some this)] = [some (va_rf (some this))] from by simp [argL, cat_rf, cat_i, cat_j, cat_f, cat_d]]
  refine g_aload_n X dJ5_init_0 rfl rfl ?_
  refine g_bipush (v := (16 : Int32)) X dJ5_init_1 (by decide) ?_
  obtain ⟨ob1, eob1, hF⟩ := bnd hF
  obtain ⟨h2, eh2, hF⟩ := bnd hF
  refine g_callI X (nnl_some eob1) (w_J4_init l hl D dA h0 ob1 (16 : Int32) h2 eh2) rfl q226 q227 q99 q228 okn_J4_init ⟨by rw [hRf]; exact Nat.le_of_ble_eq_true rfl, by rw [hRl]; exact Nat.le_of_ble_eq_true rfl⟩ (As := [.int (16 : Int32)]) (rest := []) rfl (by first | exact Nat.le_of_ble_eq_true rfl | simp [cat_rf, cat_i, cat_j, cat_f, cat_d]) dJ5_init_3 (ac_0 ?_)
  cases hF
  exact g_vret X hr dJ5_init_6
def F_J3_init (this : Nat) (h0 : HH) : Option HH :=
  Option.bind (nnl (some this)) fun ob1 =>
  Option.bind (F_J0_init ob1 h0) fun v2 =>
  Option.bind (newA h0 2 (17 : Int32)) fun h3 =>
  Option.bind (putV h3 9 0 (some this) (va_rf (some (hSz h0)))) fun h4 =>
  some h4
set_option maxHeartbeats 4000000 in
theorem w_J3_init (l : Launch) (hl : l.stackTraces = false) (D : va_G) (dA : Nat → ClassId) (h0 : HH) (this : Nat) (hE : HH) (hF : F_J3_init this h0 = some hE) : MC D dA l yJ3_init cJ3_init 1 (Option.none : Option Jvm.ClassFile.FieldType) [] 2 40 [va_rf (some this)] h0 (.inr none, hE) := by
  refine mc_of hl (plainFor_of_name pn_J3) (by simp [lg_sl, cat_rf, cat_i, cat_j, cat_f, cat_d]) ?_
  intro p e s m args below meth c R hRf hRl X hr hnm
  unfold F_J3_init at hF
  rw [show argL [va_rf (some this)] = [some (va_rf (some this))] from by simp [argL, cat_rf, cat_i, cat_j, cat_f, cat_d]]
  refine g_aload_n X dJ3_init_0 rfl rfl ?_
  obtain ⟨ob1, eob1, hF⟩ := bnd hF
  obtain ⟨v2, ev2, hF⟩ := bnd hF
  refine g_callI X (nnl_some eob1) (w_J0_init l hl D dA h0 ob1  ev2) rfl q208 q149 q94 q150 okn_J0_init ⟨by rw [hRf]; exact Nat.le_of_ble_eq_true rfl, by rw [hRl]; exact Nat.le_of_ble_eq_true rfl⟩ (As := []) (rest := []) rfl (by first | exact Nat.le_of_ble_eq_true rfl | simp [cat_rf, cat_i, cat_j, cat_f, cat_d]) dJ3_init_1 (ac_0 ?_)
  refine g_aload_n X dJ3_init_4 rfl rfl ?_
  refine g_bipush (v := (17 : Int32)) X dJ3_init_5 (by decide) ?_
  obtain ⟨h3, eh3, hF⟩ := bnd hF
  refine g_newq (t := 2) X q209 rfl X.2.2.2.2.2.1.2.2.2.1.1 (funext fun _ => rfl) eh3 dJ3_init_7 ?_
  obtain ⟨h4, eh4, hF⟩ := bnd hF
  refine g_put (k := 0) X in_J3 tyJ3 tyJ3_ok nmJ3 rfl (by decide) q211 (Or.inl rfl) rfl (tyJ3_ok 0 (by decide)) (narrow_rfA _ _) (fits_rfA _ _) eh4 dJ3_init_10 ?_
  cases hF
  exact g_vret X hr dJ3_init_13
def F_X1_init (this : Nat) (h0 : HH) : Option HH :=
  Option.bind (nnl (some this)) fun ob1 =>
  Option.bind (newO h0 2 5 [.null, .null, .null, .null, .int 0]) fun h2 =>
  Option.bind (nnl (some (hSz h0))) fun ob3 =>
  Option.bind (F_X2_init ob3 h2) fun h4 =>
  Option.bind (putV h4 0 0 (some this) (va_rf (some (hSz h0)))) fun h5 =>
  Option.bind (newO h5 9 3 [.null, .int 0, .int 0]) fun h6 =>
  Option.bind (nnl (some (hSz h5))) fun ob7 =>
  Option.bind (F_J3_init ob7 h6) fun h8 =>
  Option.bind (putV h8 0 2 (some this) (va_rf (some (hSz h5)))) fun h9 =>
  Option.bind (newO h9 10 4 [.null, .int 0, .int 0, .int 0]) fun h10 =>
  Option.bind (nnl (some (hSz h9))) fun ob11 =>
  Option.bind (F_J5_init ob11 h10) fun h12 =>
  Option.bind (putV h12 0 3 (some this) (va_rf (some (hSz h9)))) fun h13 =>
  some h13
set_option maxHeartbeats 4000000 in
theorem w_X1_init (l : Launch) (hl : l.stackTraces = false) (D : va_G) (dA : Nat → ClassId) (h0 : HH) (this : Nat) (hE : HH) (hF : F_X1_init this h0 = some hE) : MC D dA l yX1_init cX1_init 1 (Option.none : Option Jvm.ClassFile.FieldType) [] 5 101 [va_rf (some this)] h0 (.inr none, hE) := by
  refine mc_of hl (plainFor_of_name pn_X1) (by simp [lg_sl, cat_rf, cat_i, cat_j, cat_f, cat_d]) ?_
  intro p e s m args below meth c R hRf hRl X hr hnm
  unfold F_X1_init at hF
  rw [show argL [va_rf (some this)] = [some (va_rf (some this))] from by simp [argL, cat_rf, cat_i, cat_j, cat_f, cat_d]]
  refine g_aload_n X dX1_init_0 rfl rfl ?_
  obtain ⟨ob1, eob1, hF⟩ := bnd hF
  refine g_objInit X ob1 eob1 q131 q132 q133 ⟨by rw [hRf]; exact Nat.le_of_ble_eq_true rfl, by rw [hRl]; exact Nat.le_of_ble_eq_true rfl⟩ (by first | exact Nat.le_of_ble_eq_true rfl | simp [cat_rf, cat_i, cat_j, cat_f, cat_d]) dX1_init_1 ?_
  refine g_aload_n X dX1_init_4 rfl rfl ?_
  obtain ⟨h2, eh2, hF⟩ := bnd hF
  refine g_new X in_X2 tyX2 tyX2_ok rfl q134 q135 q93 rfl dv_X2 eh2 dX1_init_5 ?_
  refine g_dup X dX1_init_8 (cat_rf _) ?_
  obtain ⟨ob3, eob3, hF⟩ := bnd hF
  obtain ⟨h4, eh4, hF⟩ := bnd hF
  refine g_callI X (nnl_some eob3) (w_X2_init l hl D dA h2 ob3  h4 eh4) rfl q136 q137 q93 q138 okn_X2_init ⟨by rw [hRf]; exact Nat.le_of_ble_eq_true rfl, by rw [hRl]; exact Nat.le_of_ble_eq_true rfl⟩ (As := []) (rest := [va_rf (some (hSz h0)), va_rf (some this)]) rfl (by first | exact Nat.le_of_ble_eq_true rfl | simp [cat_rf, cat_i, cat_j, cat_f, cat_d]) dX1_init_9 (ac_0 ?_)
  obtain ⟨h5, eh5, hF⟩ := bnd hF
  refine g_put (k := 0) X in_X1 tyX1 tyX1_ok nmX1 rfl (by decide) q255 (Or.inl rfl) rfl (tyX1_ok 0 (by decide)) (narrow_rf _ _) (fits_rf _ _) eh5 dX1_init_12 ?_
  refine g_aload_n X dX1_init_15 rfl rfl ?_
  obtain ⟨h6, eh6, hF⟩ := bnd hF
  refine g_new X in_J3 tyJ3 tyJ3_ok rfl q203 q204 q98 rfl dv_J3 eh6 dX1_init_16 ?_
  refine g_dup X dX1_init_19 (cat_rf _) ?_
  obtain ⟨ob7, eob7, hF⟩ := bnd hF
  obtain ⟨h8, eh8, hF⟩ := bnd hF
  refine g_callI X (nnl_some eob7) (w_J3_init l hl D dA h6 ob7  h8 eh8) rfl q205 q206 q98 q207 okn_J3_init ⟨by rw [hRf]; exact Nat.le_of_ble_eq_true rfl, by rw [hRl]; exact Nat.le_of_ble_eq_true rfl⟩ (As := []) (rest := [va_rf (some (hSz h5)), va_rf (some this)]) rfl (by first | exact Nat.le_of_ble_eq_true rfl | simp [cat_rf, cat_i, cat_j, cat_f, cat_d]) dX1_init_20 (ac_0 ?_)
  obtain ⟨h9, eh9, hF⟩ := bnd hF
  refine g_putF (k := 2) X in_X1 tyX1 tyX1_ok nmX1 rfl (by decide) q257 rfl rfl hnm rfl (tyX1_ok 2 (by decide)) (narrow_rf _ _) (fits_rf _ _) eh9 dX1_init_23 ?_
  refine g_aload_n X dX1_init_26 rfl rfl ?_
  obtain ⟨h10, eh10, hF⟩ := bnd hF
  refine g_new X in_J5 tyJ5 tyJ5_ok rfl q221 q222 q100 rfl dv_J5 eh10 dX1_init_27 ?_
  refine g_dup X dX1_init_30 (cat_rf _) ?_
  obtain ⟨ob11, eob11, hF⟩ := bnd hF
  obtain ⟨h12, eh12, hF⟩ := bnd hF
  refine g_callI X (nnl_some eob11) (w_J5_init l hl D dA h10 ob11  h12 eh12) rfl q223 q224 q100 q225 okn_J5_init ⟨by rw [hRf]; exact Nat.le_of_ble_eq_true rfl, by rw [hRl]; exact Nat.le_of_ble_eq_true rfl⟩ (As := []) (rest := [va_rf (some (hSz h9)), va_rf (some this)]) rfl (by first | exact Nat.le_of_ble_eq_true rfl | simp [cat_rf, cat_i, cat_j, cat_f, cat_d]) dX1_init_31 (ac_0 ?_)
  obtain ⟨h13, eh13, hF⟩ := bnd hF
  refine g_putF (k := 3) X in_X1 tyX1 tyX1_ok nmX1 rfl (by decide) q259 rfl rfl hnm rfl (tyX1_ok 3 (by decide)) (narrow_rf _ _) (fits_rf _ _) eh13 dX1_init_34 ?_
  cases hF
  exact g_vret X hr dX1_init_37
def F_J3_inc (a1 : Int32) (a2 : Int32) : Int32 :=
  (if (a1 + (1 : Int32)) < a2 then (a1 + (1 : Int32)) else (0 : Int32))
set_option maxHeartbeats 4000000 in
theorem w_J3_inc (l : Launch) (hl : l.stackTraces = false) (D : va_G) (dA : Nat → ClassId) (h0 : HH) (a1 : Int32) (a2 : Int32) : MC D dA l yJ3_inc cJ3_inc 2 (Option.some Jvm.ClassFile.FieldType.int) [] 0 0 [.int a1, .int a2] h0 (.inr (some (.int (F_J3_inc a1 a2))), h0) := by
  refine mc_of hl (plainFor_of_name pn_J3) (by simp [lg_sl, cat_rf, cat_i, cat_j, cat_f, cat_d]) ?_
  intro p e s m args below meth c R hRf hRl X hr hnm
  generalize hF : F_J3_inc a1 a2 = rE
  unfold F_J3_inc at hF
  rw [show argL [.int a1, .int a2] = [some (.int a1), some (.int a2)] from by simp [argL, cat_rf, cat_i, cat_j, cat_f, cat_d]]
  refine g_iinc (v := (a1 + (1 : Int32))) (L' := [some (.int (a1 + (1 : Int32))), some (.int a2)]) X dJ3_inc_0 (Nat.le_of_ble_eq_true rfl) rfl rfl (by first | rfl | simp [stL, rm1, clr2, cat_rf, cat_i, cat_j, cat_f, cat_d]) ?_
  refine g_iload_n X dJ3_inc_3 rfl rfl ?_
  refine g_iload_n X dJ3_inc_4 rfl rfl ?_
  suffices K : G p l e R s m args below meth c (RQ D dA h0 (.inr (some (.int rE)), h0) below s) D dA h0 2 h0 10 [some (.int (if (a1 + (1 : Int32)) < a2 then (a1 + (1 : Int32)) else (0 : Int32))), none] [] by
    refine g_icmp_lt X 10 dJ3_inc_5 (by decide) (fun c1 => ?_) (fun c1 => ?_)
    · (try simp only [if_pos c1] at K)
      refine G.drop [true, false] rfl ?_
      first | exact K | (simp only [if_pos c1]; exact K)
    · (try simp only [if_neg c1] at K)
      refine g_iconst (v := (0 : Int32)) X dJ3_inc_8 (by decide) ?_
      refine g_istore_n (L' := [some (.int (0 : Int32)), some (.int a2)]) X dJ3_inc_9 rfl (Nat.le_of_ble_eq_true rfl) (by first | rfl | simp [stL, rm1, clr2, cat_rf, cat_i, cat_j, cat_f, cat_d]) ?_
      refine G.drop [true, false] rfl ?_
      first | exact K | (simp only [if_neg c1]; exact K)
  refine g_iload_n X dJ3_inc_10 rfl rfl ?_
  cases hF
  exact g_iret X hr dJ3_inc_11
def F_J3_addLast (this : Nat) (a1 : Option Nat) (h0 : HH) : Option HH :=
  if a1 = none then (
    none
  ) else (
    Option.bind (getR h0 9 0 (some this)) fun v2 =>
    Option.bind (getI h0 9 2 (some this)) fun v3 =>
    Option.bind (astR h0 2 v2 v3 a1) fun h4 =>
    Option.bind (getI h4 9 1 (some this)) fun v5 =>
    Option.bind (getI h4 9 2 (some this)) fun v6 =>
    Option.bind (alen h4 v2) fun v7 =>
    Option.bind (putV h4 9 2 (some this) (.int (F_J3_inc v6 v7))) fun h8 =>
    if v5 = (F_J3_inc v6 v7) then (
      none
    ) else (
      some h8
    )
  )
set_option maxHeartbeats 4000000 in
theorem w_J3_addLast (l : Launch) (hl : l.stackTraces = false) (D : va_G) (dA : Nat → ClassId) (h0 : HH) (this : Nat) (a1 : Option Nat) (hE : HH) (hF : F_J3_addLast this a1 h0 = some hE) : MC D dA l yJ3_addLast cJ3_addLast 3 (Option.none : Option Jvm.ClassFile.FieldType) [] 1 21 [va_rf (some this), va_rf a1] h0 (.inr none, hE) := by
  refine mc_of hl (plainFor_of_name pn_J3) (by simp [lg_sl, cat_rf, cat_i, cat_j, cat_f, cat_d]) ?_
  intro p e s m args below meth c R hRf hRl X hr hnm
  unfold F_J3_addLast at hF
  rw [show argL [va_rf (some this), va_rf a1] = [some (va_rf (some this)), some (va_rf a1)] from by simp [argL, cat_rf, cat_i, cat_j, cat_f, cat_d]]
  refine G.pad 1 (L' := [some (va_rf (some this)), some (va_rf a1), none]) rfl ?_
  refine g_aload_n X dJ3_addLast_0 rfl rfl ?_
  refine g_ifnonnull X 12 dJ3_addLast_1 (by decide) (fun c1 => ?_) (fun c1 => ?_)
  · have hF := (if_neg c1).symm.trans hF
    refine g_aload_n X dJ3_addLast_12 rfl rfl ?_
    obtain ⟨v2, ev2, hF⟩ := bnd hF
    refine g_get (k := 0) X in_J3 rfl (by decide) q211 (Or.inl rfl) (getR_V ev2) dJ3_addLast_13 ?_
    refine g_astore_n (L' := [some (va_rf (some this)), some (va_rf a1), some (va_rf v2)]) X dJ3_addLast_16 rfl (Nat.le_of_ble_eq_true rfl) (by first | rfl | simp [stL, rm1, clr2, cat_rf, cat_i, cat_j, cat_f, cat_d]) ?_
    refine g_aload_n X dJ3_addLast_17 rfl rfl ?_
    refine g_aload_n X dJ3_addLast_18 rfl rfl ?_
    obtain ⟨v3, ev3, hF⟩ := bnd hF
    refine g_get (k := 2) X in_J3 rfl (by decide) q213 (Or.inl rfl) (getI_V ev3) dJ3_addLast_19 ?_
    refine g_aload_n X dJ3_addLast_22 rfl rfl ?_
    obtain ⟨h4, eh4, hF⟩ := bnd hF
    refine g_aast X eh4 dJ3_addLast_23 ?_
    refine g_aload_n X dJ3_addLast_24 rfl rfl ?_
    obtain ⟨v5, ev5, hF⟩ := bnd hF
    refine g_get (k := 1) X in_J3 rfl (by decide) q212 (Or.inl rfl) (getI_V ev5) dJ3_addLast_25 ?_
    refine g_aload_n X dJ3_addLast_28 rfl rfl ?_
    refine g_aload_n X dJ3_addLast_29 rfl rfl ?_
    obtain ⟨v6, ev6, hF⟩ := bnd hF
    refine g_get (k := 2) X in_J3 rfl (by decide) q213 (Or.inl rfl) (getI_V ev6) dJ3_addLast_30 ?_
    refine g_aload_n X dJ3_addLast_33 rfl rfl ?_
    obtain ⟨v7, ev7, hF⟩ := bnd hF
    refine g_alen X ev7 dJ3_addLast_34 ?_
    refine g_callS X (w_J3_inc l hl D dA h4 v6 v7) q680 q681 q98 q682 okn_J3_inc ⟨by rw [hRf]; exact Nat.le_of_ble_eq_true rfl, by rw [hRl]; exact Nat.le_of_ble_eq_true rfl⟩ (As := [.int v6, .int v7]) (rest := [va_rf (some this), .int v5]) rfl (by first | exact Nat.le_of_ble_eq_true rfl | simp [cat_rf, cat_i, cat_j, cat_f, cat_d]) dJ3_addLast_35 (ac_v ?_)
    refine g_dup_x1 X dJ3_addLast_38 rfl (cat_rf _) ?_
    obtain ⟨h8, eh8, hF⟩ := bnd hF
    refine g_put (k := 2) X in_J3 tyJ3 tyJ3_ok nmJ3 rfl (by decide) q213 (Or.inl rfl) rfl (tyJ3_ok 2 (by decide)) rfl rfl eh8 dJ3_addLast_39 ?_
    refine g_icmp_ne X 50 dJ3_addLast_42 (by decide) (fun c9 => ?_) (fun c9 => ?_)
    · have hF := (if_neg c9).symm.trans hF
      cases hF
      exact g_vret X hr dJ3_addLast_50
    · have hF := (if_pos c9).symm.trans hF
      cases hF
  · have hF := (if_pos c1).symm.trans hF
    cases hF
def F_J3_elementAt (a1 : Option Nat) (a2 : Int32) (h0 : HH) : Option (Option Nat) :=
  Option.bind (aldR h0 2 a1 a2) fun v1 =>
  some v1
set_option maxHeartbeats 4000000 in
theorem w_J3_elementAt (l : Launch) (hl : l.stackTraces = false) (D : va_G) (dA : Nat → ClassId) (h0 : HH) (a1 : Option Nat) (a2 : Int32) (rE : Option Nat) (hF : F_J3_elementAt a1 a2 h0 = some rE) : MC D dA l yJ3_elementAt cJ3_elementAt 2 (Option.some (Jvm.ClassFile.FieldType.object "java/lang/Object")) [] 0 0 [va_rf a1, .int a2] h0 (.inr (some (va_rf rE)), h0) := by
  refine mc_of hl (plainFor_of_name pn_J3) (by simp [lg_sl, cat_rf, cat_i, cat_j, cat_f, cat_d]) ?_
  intro p e s m args below meth c R hRf hRl X hr hnm
  unfold F_J3_elementAt at hF
  rw [show argL [va_rf a1, .int a2] = [some (va_rf a1), some (.int a2)] from by simp [argL, cat_rf, cat_i, cat_j, cat_f, cat_d]]
  refine g_aload_n X dJ3_elementAt_0 rfl rfl ?_
  refine g_iload_n X dJ3_elementAt_1 rfl rfl ?_
  obtain ⟨v1, ev1, hF⟩ := bnd hF
  refine g_aald X rfl ev1 dJ3_elementAt_2 ?_
  cases hF
  exact g_aret X hr (Or.inl ⟨_, rfl⟩) dJ3_elementAt_3
def F_J3_pollFirst (this : Nat) (h0 : HH) : Option (Option Nat × HH) :=
  Option.bind (getR h0 9 0 (some this)) fun v1 =>
  Option.bind (getI h0 9 1 (some this)) fun v2 =>
  Option.bind (F_J3_elementAt v1 v2 h0) fun v3 =>
  if v3 = none then (
    some (v3, h0)
  ) else (
    Option.bind (astR h0 2 v1 v2 none) fun h5 =>
    Option.bind (alen h5 v1) fun v6 =>
    Option.bind (putV h5 9 1 (some this) (.int (F_J3_inc v2 v6))) fun h7 =>
    some (v3, h7)
  )
set_option maxHeartbeats 4000000 in
theorem w_J3_pollFirst (l : Launch) (hl : l.stackTraces = false) (D : va_G) (dA : Nat → ClassId) (h0 : HH) (this : Nat) (rE : Option Nat) (hE : HH) (hF : F_J3_pollFirst this h0 = some (rE, hE)) : MC D dA l yJ3_pollFirst cJ3_pollFirst 4 (Option.some (Jvm.ClassFile.FieldType.object "java/lang/Object")) [] 1 21 [va_rf (some this)] h0 (.inr (some (va_rf rE)), hE) := by
  refine mc_of hl (plainFor_of_name pn_J3) (by simp [lg_sl, cat_rf, cat_i, cat_j, cat_f, cat_d]) ?_
  intro p e s m args below meth c R hRf hRl X hr hnm
  unfold F_J3_pollFirst at hF
  rw [show argL [va_rf (some this)] = [some (va_rf (some this))] from by simp [argL, cat_rf, cat_i, cat_j, cat_f, cat_d]]
  refine G.pad 3 (L' := [some (va_rf (some this)), none, none, none]) rfl ?_
  refine g_aload_n X dJ3_pollFirst_0 rfl rfl ?_
  obtain ⟨v1, ev1, hF⟩ := bnd hF
  refine g_get (k := 0) X in_J3 rfl (by decide) q211 (Or.inl rfl) (getR_V ev1) dJ3_pollFirst_1 ?_
  refine g_dup X dJ3_pollFirst_4 (cat_rf _) ?_
  refine g_astore_n (L' := [some (va_rf (some this)), some (va_rf v1), none, none]) X dJ3_pollFirst_5 rfl (Nat.le_of_ble_eq_true rfl) (by first | rfl | simp [stL, rm1, clr2, cat_rf, cat_i, cat_j, cat_f, cat_d]) ?_
  refine g_aload_n X dJ3_pollFirst_6 rfl rfl ?_
  obtain ⟨v2, ev2, hF⟩ := bnd hF
  refine g_get (k := 1) X in_J3 rfl (by decide) q212 (Or.inl rfl) (getI_V ev2) dJ3_pollFirst_7 ?_
  refine g_dup X dJ3_pollFirst_10 rfl ?_
  refine g_istore_n (L' := [some (va_rf (some this)), some (va_rf v1), some (.int v2), none]) X dJ3_pollFirst_11 rfl (Nat.le_of_ble_eq_true rfl) (by first | rfl | simp [stL, rm1, clr2, cat_rf, cat_i, cat_j, cat_f, cat_d]) ?_
  obtain ⟨v3, ev3, hF⟩ := bnd hF
  refine g_callS X (w_J3_elementAt l hl D dA h0 v1 v2 v3 ev3) q731 q732 q98 q733 okn_J3_elementAt ⟨by rw [hRf]; exact Nat.le_of_ble_eq_true rfl, by rw [hRl]; exact Nat.le_of_ble_eq_true rfl⟩ (As := [va_rf v1, .int v2]) (rest := []) rfl (by first | exact Nat.le_of_ble_eq_true rfl | simp [cat_rf, cat_i, cat_j, cat_f, cat_d]) dJ3_pollFirst_12 (ac_v ?_)
  refine g_astore_n (L' := [some (va_rf (some this)), some (va_rf v1), some (.int v2), some (va_rf v3)]) X dJ3_pollFirst_15 rfl (Nat.le_of_ble_eq_true rfl) (by first | rfl | simp [stL, rm1, clr2, cat_rf, cat_i, cat_j, cat_f, cat_d]) ?_
  refine g_aload_n X dJ3_pollFirst_16 rfl rfl ?_
  refine g_ifnull X 34 dJ3_pollFirst_17 (by decide) (fun c4 => ?_) (fun c4 => ?_)
  · have hF := (if_pos c4).symm.trans hF
    refine g_aload_n X dJ3_pollFirst_34 rfl rfl ?_
    cases hF
    exact g_aret X hr (Or.inl ⟨_, rfl⟩) dJ3_pollFirst_35
  · have hF := (if_neg c4).symm.trans hF
    refine g_aload_n X dJ3_pollFirst_20 rfl rfl ?_
    refine g_iload_n X dJ3_pollFirst_21 rfl rfl ?_
    refine g_null X dJ3_pollFirst_22 ?_
    obtain ⟨h5, eh5, hF⟩ := bnd hF
    refine g_aast X eh5 dJ3_pollFirst_23 ?_
    refine g_aload_n X dJ3_pollFirst_24 rfl rfl ?_
    refine g_iload_n X dJ3_pollFirst_25 rfl rfl ?_
    refine g_aload_n X dJ3_pollFirst_26 rfl rfl ?_
    obtain ⟨v6, ev6, hF⟩ := bnd hF
    refine g_alen X ev6 dJ3_pollFirst_27 ?_
    refine g_callS X (w_J3_inc l hl D dA h5 v2 v6) q680 q681 q98 q682 okn_J3_inc ⟨by rw [hRf]; exact Nat.le_of_ble_eq_true rfl, by rw [hRl]; exact Nat.le_of_ble_eq_true rfl⟩ (As := [.int v2, .int v6]) (rest := [va_rf (some this)]) rfl (by first | exact Nat.le_of_ble_eq_true rfl | simp [cat_rf, cat_i, cat_j, cat_f, cat_d]) dJ3_pollFirst_28 (ac_v ?_)
    obtain ⟨h7, eh7, hF⟩ := bnd hF
    refine g_put (k := 1) X in_J3 tyJ3 tyJ3_ok nmJ3 rfl (by decide) q212 (Or.inl rfl) rfl (tyJ3_ok 1 (by decide)) rfl rfl eh7 dJ3_pollFirst_31 ?_
    refine g_aload_n X dJ3_pollFirst_34 rfl rfl ?_
    cases hF
    exact g_aret X hr (Or.inl ⟨_, rfl⟩) dJ3_pollFirst_35
def F_J3_removeFirst (this : Nat) (h0 : HH) : Option (Option Nat × HH) :=
  Option.bind (isO h0 9 (some this)) fun ob1 =>
  b2 (F_J3_pollFirst ob1 h0) fun v3 h2 =>
  if v3 = none then (
    none
  ) else (
    some (v3, h2)
  )
set_option maxHeartbeats 4000000 in
theorem w_J3_removeFirst (l : Launch) (hl : l.stackTraces = false) (D : va_G) (dA : Nat → ClassId) (h0 : HH) (this : Nat) (rE : Option Nat) (hE : HH) (hF : F_J3_removeFirst this h0 = some (rE, hE)) : MC D dA l yJ3_removeFirst cJ3_removeFirst 2 (Option.some (Jvm.ClassFile.FieldType.object "java/lang/Object")) [] 2 44 [va_rf (some this)] h0 (.inr (some (va_rf rE)), hE) := by
  refine mc_of hl (plainFor_of_name pn_J3) (by simp [lg_sl, cat_rf, cat_i, cat_j, cat_f, cat_d]) ?_
  intro p e s m args below meth c R hRf hRl X hr hnm
  unfold F_J3_removeFirst at hF
  rw [show argL [va_rf (some this)] = [some (va_rf (some this))] from by simp [argL, cat_rf, cat_i, cat_j, cat_f, cat_d]]
  refine G.pad 1 (L' := [some (va_rf (some this)), none]) rfl ?_
  refine g_aload_n X dJ3_removeFirst_0 rfl rfl ?_
  obtain ⟨ob1, eob1, hF⟩ := bnd hF
  obtain ⟨v3, h2, eh2, hF⟩ := b2_some hF
  refine g_callV X eob1 rfl rfl (w_J3_pollFirst l hl D dA h0 ob1  v3 h2 eh2) q727 q728 q729 q98 q730 okn_J3_pollFirst ⟨by rw [hRf]; exact Nat.le_of_ble_eq_true rfl, by rw [hRl]; exact Nat.le_of_ble_eq_true rfl⟩ (As := []) (rest := []) rfl (by first | exact Nat.le_of_ble_eq_true rfl | simp [cat_rf, cat_i, cat_j, cat_f, cat_d]) dJ3_removeFirst_1 (ac_v ?_)
  refine g_astore_n (L' := [some (va_rf (some this)), some (va_rf v3)]) X dJ3_removeFirst_4 rfl (Nat.le_of_ble_eq_true rfl) (by first | rfl | simp [stL, rm1, clr2, cat_rf, cat_i, cat_j, cat_f, cat_d]) ?_
  refine g_aload_n X dJ3_removeFirst_5 rfl rfl ?_
  refine g_ifnonnull X 17 dJ3_removeFirst_6 (by decide) (fun c4 => ?_) (fun c4 => ?_)
  · have hF := (if_neg c4).symm.trans hF
    refine g_aload_n X dJ3_removeFirst_17 rfl rfl ?_
    cases hF
    exact g_aret X hr (Or.inl ⟨_, rfl⟩) dJ3_removeFirst_18
  · have hF := (if_pos c4).symm.trans hF
    cases hF
def F_J3_sub (a1 : Int32) (a2 : Int32) (a3 : Int32) : Int32 :=
  (if 0 ≤ (a1 - a2) then (a1 - a2) else ((a1 - a2) + a3))
set_option maxHeartbeats 4000000 in
theorem w_J3_sub (l : Launch) (hl : l.stackTraces = false) (D : va_G) (dA : Nat → ClassId) (h0 : HH) (a1 : Int32) (a2 : Int32) (a3 : Int32) : MC D dA l yJ3_sub cJ3_sub 3 (Option.some Jvm.ClassFile.FieldType.int) [] 0 0 [.int a1, .int a2, .int a3] h0 (.inr (some (.int (F_J3_sub a1 a2 a3))), h0) := by
  refine mc_of hl (plainFor_of_name pn_J3) (by simp [lg_sl, cat_rf, cat_i, cat_j, cat_f, cat_d]) ?_
  intro p e s m args below meth c R hRf hRl X hr hnm
  generalize hF : F_J3_sub a1 a2 a3 = rE
  unfold F_J3_sub at hF
  rw [show argL [.int a1, .int a2, .int a3] = [some (.int a1), some (.int a2), some (.int a3)] from by simp [argL, cat_rf, cat_i, cat_j, cat_f, cat_d]]
  refine g_iload_n X dJ3_sub_0 rfl rfl ?_
  refine g_iload_n X dJ3_sub_1 rfl rfl ?_
  refine g_isub X dJ3_sub_2 ?_
  refine g_dup X dJ3_sub_3 rfl ?_
  refine g_istore_n (L' := [some (.int (a1 - a2)), some (.int a2), some (.int a3)]) X dJ3_sub_4 rfl (Nat.le_of_ble_eq_true rfl) (by first | rfl | simp [stL, rm1, clr2, cat_rf, cat_i, cat_j, cat_f, cat_d]) ?_
  suffices K : G p l e R s m args below meth c (RQ D dA h0 (.inr (some (.int rE)), h0) below s) D dA h0 3 h0 12 [some (.int (if 0 ≤ (a1 - a2) then (a1 - a2) else ((a1 - a2) + a3))), none, none] [] by
    refine g_if_ge X 12 dJ3_sub_5 (by decide) (fun c1 => ?_) (fun c1 => ?_)
    · (try simp only [if_pos c1] at K)
      refine G.drop [true, false, false] rfl ?_
      first | exact K | (simp only [if_pos c1]; exact K)
    · (try simp only [if_neg c1] at K)
      refine g_iload_n X dJ3_sub_8 rfl rfl ?_
      refine g_iload_n X dJ3_sub_9 rfl rfl ?_
      refine g_iadd X dJ3_sub_10 ?_
      refine g_istore_n (L' := [some (.int ((a1 - a2) + a3)), some (.int a2), some (.int a3)]) X dJ3_sub_11 rfl (Nat.le_of_ble_eq_true rfl) (by first | rfl | simp [stL, rm1, clr2, cat_rf, cat_i, cat_j, cat_f, cat_d]) ?_
      refine G.drop [true, false, false] rfl ?_
      first | exact K | (simp only [if_neg c1]; exact K)
  refine g_iload_n X dJ3_sub_12 rfl rfl ?_
  cases hF
  exact g_iret X hr dJ3_sub_13
def F_J3_size (this : Nat) (h0 : HH) : Option Int32 :=
  Option.bind (getI h0 9 2 (some this)) fun v1 =>
  Option.bind (getI h0 9 1 (some this)) fun v2 =>
  Option.bind (getR h0 9 0 (some this)) fun v3 =>
  Option.bind (alen h0 v3) fun v4 =>
  some (F_J3_sub v1 v2 v4)
set_option maxHeartbeats 4000000 in
theorem w_J3_size (l : Launch) (hl : l.stackTraces = false) (D : va_G) (dA : Nat → ClassId) (h0 : HH) (this : Nat) (rE : Int32) (hF : F_J3_size this h0 = some rE) : MC D dA l yJ3_size cJ3_size 1 (Option.some Jvm.ClassFile.FieldType.int) [] 1 22 [va_rf (some this)] h0 (.inr (some (.int rE)), h0) := by
  refine mc_of hl (plainFor_of_name pn_J3) (by simp [lg_sl, cat_rf, cat_i, cat_j, cat_f, cat_d]) ?_
  intro p e s m args below meth c R hRf hRl X hr hnm
  unfold F_J3_size at hF
  rw [show argL [va_rf (some this)] = [some (va_rf (some this))] from by simp [argL, cat_rf, cat_i, cat_j, cat_f, cat_d]]
  refine g_aload_n X dJ3_size_0 rfl rfl ?_
  obtain ⟨v1, ev1, hF⟩ := bnd hF
  refine g_get (k := 2) X in_J3 rfl (by decide) q213 (Or.inl rfl) (getI_V ev1) dJ3_size_1 ?_
  refine g_aload_n X dJ3_size_4 rfl rfl ?_
  obtain ⟨v2, ev2, hF⟩ := bnd hF
  refine g_get (k := 1) X in_J3 rfl (by decide) q212 (Or.inl rfl) (getI_V ev2) dJ3_size_5 ?_
  refine g_aload_n X dJ3_size_8 rfl rfl ?_
  obtain ⟨v3, ev3, hF⟩ := bnd hF
  refine g_get (k := 0) X in_J3 rfl (by decide) q211 (Or.inl rfl) (getR_V ev3) dJ3_size_9 ?_
  obtain ⟨v4, ev4, hF⟩ := bnd hF
  refine g_alen X ev4 dJ3_size_12 ?_
  refine g_callS X (w_J3_sub l hl D dA h0 v1 v2 v4) q720 q721 q98 q722 okn_J3_sub ⟨by rw [hRf]; exact Nat.le_of_ble_eq_true rfl, by rw [hRl]; exact Nat.le_of_ble_eq_true rfl⟩ (As := [.int v1, .int v2, .int v4]) (rest := []) rfl (by first | exact Nat.le_of_ble_eq_true rfl | simp [cat_rf, cat_i, cat_j, cat_f, cat_d]) dJ3_size_13 (ac_v ?_)
  cases hF
  exact g_iret X hr dJ3_size_16
def F_X1_changed (this : Nat) (a1 : Option Nat) (a2 : Int32) (h0 : HH) : Option (Int32 × HH) :=
  Option.bind (getR h0 0 2 (some this)) fun v1 =>
  Option.bind (getR h0 0 0 (some this)) fun v2 =>
  Option.bind (isO h0 9 v1) fun ob3 =>
  Option.bind (F_J3_addLast ob3 v2 h0) fun h4 =>
  Option.bind (getR h4 0 2 (some this)) fun v5 =>
  Option.bind (isO h4 9 v5) fun ob6 =>
  Option.bind (F_J3_size ob6 h4) fun v7 =>
  if v7 ≤ (4 : Int32) then (
    Option.bind (putV h4 0 0 (some this) (va_rf a1)) fun h9 =>
    some (a2, h9)
  ) else (
    Option.bind (getR h4 0 2 (some this)) fun v10 =>
    Option.bind (isO h4 9 v10) fun ob11 =>
    b2 (F_J3_removeFirst ob11 h4) fun v13 h12 =>
    Option.bind (putV h12 0 0 (some this) (va_rf a1)) fun h14 =>
    some (a2, h14)
  )
set_option maxHeartbeats 4000000 in
theorem w_X1_changed (l : Launch) (hl : l.stackTraces = false) (D : va_G) (dA : Nat → ClassId) (h0 : HH) (this : Nat) (a1 : Option Nat) (a2 : Int32) (rE : Int32) (hE : HH) (hF : F_X1_changed this a1 a2 h0 = some (rE, hE)) : MC D dA l yX1_changed cX1_changed 3 (Option.some Jvm.ClassFile.FieldType.int) [] 3 65 [va_rf (some this), va_rf a1, .int a2] h0 (.inr (some (.int rE)), hE) := by
  refine mc_of hl (plainFor_of_name pn_X1) (by simp [lg_sl, cat_rf, cat_i, cat_j, cat_f, cat_d]) ?_
  intro p e s m args below meth c R hRf hRl X hr hnm
  unfold F_X1_changed at hF
  rw [show argL [va_rf (some this), va_rf a1, .int a2] = [some (va_rf (some this)), some (va_rf a1), some (.int a2)] from by simp [argL, cat_rf, cat_i, cat_j, cat_f, cat_d]]
  refine g_aload_n X dX1_changed_0 rfl rfl ?_
  obtain ⟨v1, ev1, hF⟩ := bnd hF
  refine g_get (k := 2) X in_X1 rfl (by decide) q257 (Or.inl rfl) (getR_V ev1) dX1_changed_1 ?_
  refine g_aload_n X dX1_changed_4 rfl rfl ?_
  obtain ⟨v2, ev2, hF⟩ := bnd hF
  refine g_get (k := 0) X in_X1 rfl (by decide) q255 (Or.inl rfl) (getR_V ev2) dX1_changed_5 ?_
  obtain ⟨ob3, eob3, hF⟩ := bnd hF
  obtain ⟨h4, eh4, hF⟩ := bnd hF
  refine g_callV X eob3 rfl rfl (w_J3_addLast l hl D dA h0 ob3 v2 h4 eh4) q676 q677 q678 q98 q679 okn_J3_addLast ⟨by rw [hRf]; exact Nat.le_of_ble_eq_true rfl, by rw [hRl]; exact Nat.le_of_ble_eq_true rfl⟩ (As := [va_rf v2]) (rest := []) rfl (by first | exact Nat.le_of_ble_eq_true rfl | simp [cat_rf, cat_i, cat_j, cat_f, cat_d]) dX1_changed_8 (ac_0 ?_)
  refine g_aload_n X dX1_changed_11 rfl rfl ?_
  obtain ⟨v5, ev5, hF⟩ := bnd hF
  refine g_get (k := 2) X in_X1 rfl (by decide) q257 (Or.inl rfl) (getR_V ev5) dX1_changed_12 ?_
  obtain ⟨ob6, eob6, hF⟩ := bnd hF
  obtain ⟨v7, ev7, hF⟩ := bnd hF
  refine g_callV X eob6 rfl rfl (w_J3_size l hl D dA h4 ob6  v7 ev7) q716 q717 q718 q98 q719 okn_J3_size ⟨by rw [hRf]; exact Nat.le_of_ble_eq_true rfl, by rw [hRl]; exact Nat.le_of_ble_eq_true rfl⟩ (As := []) (rest := []) rfl (by first | exact Nat.le_of_ble_eq_true rfl | simp [cat_rf, cat_i, cat_j, cat_f, cat_d]) dX1_changed_15 (ac_v ?_)
  refine g_iconst (v := (4 : Int32)) X dX1_changed_18 (by decide) ?_
  refine g_icmp_le X 30 dX1_changed_19 (by decide) (fun c8 => ?_) (fun c8 => ?_)
  · have hF := (if_pos c8).symm.trans hF
    refine g_aload_n X dX1_changed_30 rfl rfl ?_
    refine g_aload_n X dX1_changed_31 rfl rfl ?_
    obtain ⟨h9, eh9, hF⟩ := bnd hF
    refine g_put (k := 0) X in_X1 tyX1 tyX1_ok nmX1 rfl (by decide) q255 (Or.inl rfl) rfl (tyX1_ok 0 (by decide)) (narrow_rf _ _) (fits_rf _ _) eh9 dX1_changed_32 ?_
    refine g_iload_n X dX1_changed_35 rfl rfl ?_
    cases hF
    exact g_iret X hr dX1_changed_36
  · have hF := (if_neg c8).symm.trans hF
    refine g_aload_n X dX1_changed_22 rfl rfl ?_
    obtain ⟨v10, ev10, hF⟩ := bnd hF
    refine g_get (k := 2) X in_X1 rfl (by decide) q257 (Or.inl rfl) (getR_V ev10) dX1_changed_23 ?_
    obtain ⟨ob11, eob11, hF⟩ := bnd hF
    obtain ⟨v13, h12, eh12, hF⟩ := b2_some hF
    refine g_callV X eob11 rfl rfl (w_J3_removeFirst l hl D dA h4 ob11  v13 h12 eh12) q723 q724 q725 q98 q726 okn_J3_removeFirst ⟨by rw [hRf]; exact Nat.le_of_ble_eq_true rfl, by rw [hRl]; exact Nat.le_of_ble_eq_true rfl⟩ (As := []) (rest := []) rfl (by first | exact Nat.le_of_ble_eq_true rfl | simp [cat_rf, cat_i, cat_j, cat_f, cat_d]) dX1_changed_26 (ac_v ?_)
    refine g_pop X dX1_changed_29 (cat_rf _) ?_
    refine g_aload_n X dX1_changed_30 rfl rfl ?_
    refine g_aload_n X dX1_changed_31 rfl rfl ?_
    obtain ⟨h14, eh14, hF⟩ := bnd hF
    refine g_put (k := 0) X in_X1 tyX1 tyX1_ok nmX1 rfl (by decide) q255 (Or.inl rfl) rfl (tyX1_ok 0 (by decide)) (narrow_rf _ _) (fits_rf _ _) eh14 dX1_changed_32 ?_
    refine g_iload_n X dX1_changed_35 rfl rfl ?_
    cases hF
    exact g_iret X hr dX1_changed_36
def F_X1_act (this : Nat) (a1 : Int32) (a2 : Option Nat) (h0 : HH) : Option (((Nat × String) ⊕ Int32) × HH) :=
  Option.bind (newO h0 2 5 [.null, .null, .null, .null, .int 0]) fun h1 =>
  Option.bind (getR h1 0 0 (some this)) fun v2 =>
  Option.bind (nnl (some (hSz h0))) fun ob3 =>
  Option.bind (F_X2_init_2 ob3 v2 h1) fun h4 =>
  thr (F_X1_done (some (hSz h0)) a1 a2 h4) (fun q7 h5 =>
    if q7.2 = "FerryClocks$Refused" then (
      Option.bind (getI h5 7 0 (some q7.1)) fun v13 =>
      if v13 = (1 : Int32) then (
        Option.bind (newE h5) fun h16 =>
        some (.inl (hSz h5, "java/lang/IllegalArgumentException"), h16)
      ) else (
        Option.bind (newE h5) fun h15 =>
        some (.inl (hSz h5, "java/lang/IllegalStateException"), h15)
      )
    ) else (
      none
    )
  ) (fun v6 h5 =>
    Option.bind (isO h5 0 (some this)) fun ob9 =>
    b2 (F_X1_changed ob9 (some (hSz h0)) v6 h5) fun v11 h10 =>
    some (.inr v11, h10)
  )
set_option maxHeartbeats 4000000 in
theorem w_X1_act (l : Launch) (hl : l.stackTraces = false) (D : va_G) (dA : Nat → ClassId) (h0 : HH) (this : Nat) (a1 : Int32) (a2 : Option Nat) (oE : (Nat × String) ⊕ Int32) (hE : HH) (hF : F_X1_act this a1 a2 h0 = some (oE, hE)) : MC D dA l yX1_act cX1_act 5 (Option.some Jvm.ClassFile.FieldType.int) [(12, 23, 24, 15)] 15 412 [va_rf (some this), .int a1, va_rf a2] h0 (rsI oE, hE) := by
  refine mc_of hl (plainFor_of_name pn_X1) (by simp [lg_sl, cat_rf, cat_i, cat_j, cat_f, cat_d]) ?_
  intro p e s m args below meth c R hRf hRl X hr hnm
  unfold F_X1_act at hF
  rw [show argL [va_rf (some this), .int a1, va_rf a2] = [some (va_rf (some this)), some (.int a1), some (va_rf a2)] from by simp [argL, cat_rf, cat_i, cat_j, cat_f, cat_d]]
  refine G.pad 2 (L' := [some (va_rf (some this)), some (.int a1), some (va_rf a2), none, none]) rfl ?_
  obtain ⟨h1, eh1, hF⟩ := bnd hF
  refine g_new X in_X2 tyX2 tyX2_ok rfl q134 q135 q93 rfl dv_X2 eh1 dX1_act_0 ?_
  refine g_dup X dX1_act_3 (cat_rf _) ?_
  refine g_aload_n X dX1_act_4 rfl rfl ?_
  obtain ⟨v2, ev2, hF⟩ := bnd hF
  refine g_get (k := 0) X in_X1 rfl (by decide) q255 (Or.inl rfl) (getR_V ev2) dX1_act_5 ?_
  obtain ⟨ob3, eob3, hF⟩ := bnd hF
  obtain ⟨h4, eh4, hF⟩ := bnd hF
  refine g_callI X (nnl_some eob3) (w_X2_init_2 l hl D dA h1 ob3 v2 h4 eh4) rfl q278 q279 q93 q280 okn_X2_init_2 ⟨by rw [hRf]; exact Nat.le_of_ble_eq_true rfl, by rw [hRl]; exact Nat.le_of_ble_eq_true rfl⟩ (As := [va_rf v2]) (rest := [va_rf (some (hSz h0))]) rfl (by first | exact Nat.le_of_ble_eq_true rfl | simp [cat_rf, cat_i, cat_j, cat_f, cat_d]) dX1_act_8 (ac_0 ?_)
  refine g_astore_n (L' := [some (va_rf (some this)), some (.int a1), some (va_rf a2), some (va_rf (some (hSz h0))), none]) X dX1_act_11 rfl (Nat.le_of_ble_eq_true rfl) (by first | rfl | simp [stL, rm1, clr2, cat_rf, cat_i, cat_j, cat_f, cat_d]) ?_
  refine g_aload_n X dX1_act_12 rfl rfl ?_
  refine g_aload_n X dX1_act_13 rfl rfl ?_
  refine g_aload_n X dX1_act_14 rfl rfl ?_
  refine g_iload_n X dX1_act_15 rfl rfl ?_
  refine g_aload_n X dX1_act_16 rfl rfl ?_
  rcases thr_some hF with ⟨q7, h5, e8, hF⟩ | ⟨v6, h5, e8, hF⟩
  · refine g_callS X (w_X1_done l hl D dA h4 (some (hSz h0)) a1 a2 (.inl q7) h5 e8) q403 q404 q92 q405 okn_X1_done ⟨by rw [hRf]; exact Nat.le_of_ble_eq_true rfl, by rw [hRl]; exact Nat.le_of_ble_eq_true rfl⟩ (As := [va_rf (some (hSz h0)), .int a1, va_rf a2]) (rest := [va_rf (some (hSz h0)), va_rf (some this)]) rfl (by first | exact Nat.le_of_ble_eq_true rfl | simp [cat_rf, cat_i, cat_j, cat_f, cat_d]) dX1_act_17 (ac_x ?_)
    by_cases c12 : q7.2 = "FerryClocks$Refused"
    · have hF := (if_pos c12).symm.trans hF
      refine gx_catch X (name := "FerryClocks$Refused") [] ⟨12, 23, 24, 15⟩ [] rfl (fun z hz => nomatch hz) rfl (by decide) q277 (by rw [c12]; exact nw_in q424 rfl) ?_
      refine G.drop [false, false, false, false, false] rfl ?_
      refine g_astore (L' := [none, none, none, none, some (va_rf (some q7.1))]) X dX1_act_24 (Nat.le_of_ble_eq_true rfl) (by first | rfl | simp [stL, rm1, clr2, cat_rf, cat_i, cat_j, cat_f, cat_d]) ?_
      refine g_aload X dX1_act_26 rfl ?_
      obtain ⟨v13, ev13, hF⟩ := bnd hF
      refine g_getN (k := 0) X in_K6 rfl (by decide) (nw_in q474 rfl) rfl (getI_V ev13) dX1_act_28 ?_
      refine g_iconst (v := (1 : Int32)) X dX1_act_31 (by decide) ?_
      refine g_icmp_ne X 45 dX1_act_32 (by decide) (fun c14 => ?_) (fun c14 => ?_)
      · have hF := (if_neg c14).symm.trans hF
        obtain ⟨h15, eh15, hF⟩ := bnd hF
        refine g_throwS X eh15 1 rfl ex_X1_IllegalStateException dX1_act_45 dX1_act_48 dX1_act_49 dX1_act_51 dX1_act_54 ⟨by rw [hRf]; exact Nat.le_of_ble_eq_true rfl, by rw [hRl]; exact Nat.le_of_ble_eq_true rfl⟩ (by first | exact Nat.le_of_ble_eq_true rfl | simp [cat_rf, cat_i, cat_j, cat_f, cat_d]) ?_
        cases hF
        exact gx_out X (by simp [tableOf, covers])
      · have hF := (if_pos c14).symm.trans hF
        obtain ⟨h16, eh16, hF⟩ := bnd hF
        refine g_throwS X eh16 0 rfl ex_X1_IllegalArgumentException dX1_act_35 dX1_act_38 dX1_act_39 dX1_act_41 dX1_act_44 ⟨by rw [hRf]; exact Nat.le_of_ble_eq_true rfl, by rw [hRl]; exact Nat.le_of_ble_eq_true rfl⟩ (by first | exact Nat.le_of_ble_eq_true rfl | simp [cat_rf, cat_i, cat_j, cat_f, cat_d]) ?_
        cases hF
        exact gx_out X (by simp [tableOf, covers])
    · have hF := (if_neg c12).symm.trans hF
      cases hF
  · refine g_callS X (w_X1_done l hl D dA h4 (some (hSz h0)) a1 a2 (.inr v6) h5 e8) q403 q404 q92 q405 okn_X1_done ⟨by rw [hRf]; exact Nat.le_of_ble_eq_true rfl, by rw [hRl]; exact Nat.le_of_ble_eq_true rfl⟩ (As := [va_rf (some (hSz h0)), .int a1, va_rf a2]) (rest := [va_rf (some (hSz h0)), va_rf (some this)]) rfl (by first | exact Nat.le_of_ble_eq_true rfl | simp [cat_rf, cat_i, cat_j, cat_f, cat_d]) dX1_act_17 (ac_v ?_)
    obtain ⟨ob9, eob9, hF⟩ := bnd hF
    obtain ⟨v11, h10, eh10, hF⟩ := b2_some hF
    refine g_callV X eob9 rfl rfl (w_X1_changed l hl D dA h5 ob9 (some (hSz h0)) v6 v11 h10 eh10) q672 q674 qs9 q92 q675 okn_X1_changed ⟨by rw [hRf]; exact Nat.le_of_ble_eq_true rfl, by rw [hRl]; exact Nat.le_of_ble_eq_true rfl⟩ (As := [va_rf (some (hSz h0)), .int v6]) (rest := []) rfl (by first | exact Nat.le_of_ble_eq_true rfl | simp [cat_rf, cat_i, cat_j, cat_f, cat_d]) dX1_act_20 (ac_v ?_)
    cases hF
    exact g_iret X hr dX1_act_23
def F_X1_forgetAll (this : Nat) (h0 : HH) : Option (((Nat × String) ⊕ Int32) × HH) :=
  Option.bind (newA h0 0 (0 : Int32)) fun h1 =>
  Option.bind (isO h1 0 (some this)) fun ob2 =>
  thr (F_X1_act ob2 (121 : Int32) (some (hSz h0)) h1) (fun q5 h3 =>
    some (.inl q5, h3)
  ) (fun v4 h3 =>
    some (.inr v4, h3)
  )
set_option maxHeartbeats 4000000 in
theorem w_X1_forgetAll (l : Launch) (hl : l.stackTraces = false) (D : va_G) (dA : Nat → ClassId) (h0 : HH) (this : Nat) (oE : (Nat × String) ⊕ Int32) (hE : HH) (hF : F_X1_forgetAll this h0 = some (oE, hE)) : MC D dA l yX1_forgetAll cX1_forgetAll 1 (Option.some Jvm.ClassFile.FieldType.int) [] 16 436 [va_rf (some this)] h0 (rsI oE, hE) := by
  refine mc_of hl (plainFor_of_name pn_X1) (by simp [lg_sl, cat_rf, cat_i, cat_j, cat_f, cat_d]) ?_
  intro p e s m args below meth c R hRf hRl X hr hnm
  unfold F_X1_forgetAll at hF
  rw [show argL [va_rf (some this)] = [some (va_rf (some this))] from by simp [argL, cat_rf, cat_i, cat_j, cat_f, cat_d]]
  refine g_aload_n X dX1_forgetAll_0 rfl rfl ?_
  refine g_bipush (v := (121 : Int32)) X dX1_forgetAll_1 (by decide) ?_
  refine g_iconst (v := (0 : Int32)) X dX1_forgetAll_3 (by decide) ?_
  obtain ⟨h1, eh1, hF⟩ := bnd hF
  refine g_newa (atype := .int) (t := 0) X q182 rfl (funext fun _ => rfl) (by decide) eh1 dX1_forgetAll_4 ?_
  obtain ⟨ob2, eob2, hF⟩ := bnd hF
  rcases thr_some hF with ⟨q5, h3, e6, hF⟩ | ⟨v4, h3, e6, hF⟩
  · refine g_callV X eob2 rfl rfl (w_X1_act l hl D dA h1 ob2 (121 : Int32) (some (hSz h0)) (.inl q5) h3 e6) q273 q275 qs0 q92 q276 okn_X1_act ⟨by rw [hRf]; exact Nat.le_of_ble_eq_true rfl, by rw [hRl]; exact Nat.le_of_ble_eq_true rfl⟩ (As := [.int (121 : Int32), va_rf (some (hSz h0))]) (rest := []) rfl (by first | exact Nat.le_of_ble_eq_true rfl | simp [cat_rf, cat_i, cat_j, cat_f, cat_d]) dX1_forgetAll_6 (ac_x ?_)
    cases hF
    exact gx_out X (fun x hx => nomatch hx)
  · refine g_callV X eob2 rfl rfl (w_X1_act l hl D dA h1 ob2 (121 : Int32) (some (hSz h0)) (.inr v4) h3 e6) q273 q275 qs0 q92 q276 okn_X1_act ⟨by rw [hRf]; exact Nat.le_of_ble_eq_true rfl, by rw [hRl]; exact Nat.le_of_ble_eq_true rfl⟩ (As := [.int (121 : Int32), va_rf (some (hSz h0))]) (rest := []) rfl (by first | exact Nat.le_of_ble_eq_true rfl | simp [cat_rf, cat_i, cat_j, cat_f, cat_d]) dX1_forgetAll_6 (ac_v ?_)
    cases hF
    exact g_iret X hr dX1_forgetAll_9
def F_X1_isTight (this : Nat) (h0 : HH) : Option (Int32 × HH) :=
  Option.bind (getR h0 0 0 (some this)) fun v1 =>
  Option.bind (getR h0 2 3 v1) fun v2 =>
  Option.bind (isO h0 3 v2) fun ob3 =>
  b2 (F_X3_tight ob3 h0) fun v5 h4 =>
  Option.bind (isO h4 3 v5) fun ob6 =>
  Option.bind (F_X3_hasNone ob6 h4) fun v7 =>
  if v7 = 0 then (
    Option.bind (getR h4 0 0 (some this)) fun v9 =>
    Option.bind (getR h4 2 3 v9) fun v10 =>
    Option.bind (isO h4 3 v5) fun ob11 =>
    Option.bind (F_X3_unlike ob11 v10 h4) fun v12 =>
    some ((if v12 = 0 then (1 : Int32) else (0 : Int32)), h4)
  ) else (
    some ((0 : Int32), h4)
  )
set_option maxHeartbeats 4000000 in
theorem w_X1_isTight (l : Launch) (hl : l.stackTraces = false) (D : va_G) (dA : Nat → ClassId) (h0 : HH) (this : Nat) (rE : Int32) (hE : HH) (hF : F_X1_isTight this h0 = some (rE, hE)) : MC D dA l yX1_isTight cX1_isTight 2 (Option.some Jvm.ClassFile.FieldType.boolean) [] 4 90 [va_rf (some this)] h0 (.inr (some (.int rE)), hE) := by
  refine mc_of hl (plainFor_of_name pn_X1) (by simp [lg_sl, cat_rf, cat_i, cat_j, cat_f, cat_d]) ?_
  intro p e s m args below meth c R hRf hRl X hr hnm
  unfold F_X1_isTight at hF
  rw [show argL [va_rf (some this)] = [some (va_rf (some this))] from by simp [argL, cat_rf, cat_i, cat_j, cat_f, cat_d]]
  refine G.pad 1 (L' := [some (va_rf (some this)), none]) rfl ?_
  refine g_aload_n X dX1_isTight_0 rfl rfl ?_
  obtain ⟨v1, ev1, hF⟩ := bnd hF
  refine g_get (k := 0) X in_X1 rfl (by decide) q255 (Or.inl rfl) (getR_V ev1) dX1_isTight_1 ?_
  obtain ⟨v2, ev2, hF⟩ := bnd hF
  refine g_getN (k := 3) X in_X2 rfl (by decide) (nw_in q189 rfl) rfl (getR_V ev2) dX1_isTight_4 ?_
  obtain ⟨ob3, eob3, hF⟩ := bnd hF
  obtain ⟨v5, h4, eh4, hF⟩ := b2_some hF
  refine g_callV X eob3 rfl rfl (w_X3_tight l hl D dA h0 ob3  v5 h4 eh4) q778 q508 q509 q97 q510 okn_X3_tight ⟨by rw [hRf]; exact Nat.le_of_ble_eq_true rfl, by rw [hRl]; exact Nat.le_of_ble_eq_true rfl⟩ (As := []) (rest := []) rfl (by first | exact Nat.le_of_ble_eq_true rfl | simp [cat_rf, cat_i, cat_j, cat_f, cat_d]) dX1_isTight_7 (ac_v ?_)
  refine g_astore_n (L' := [some (va_rf (some this)), some (va_rf v5)]) X dX1_isTight_10 rfl (Nat.le_of_ble_eq_true rfl) (by first | rfl | simp [stL, rm1, clr2, cat_rf, cat_i, cat_j, cat_f, cat_d]) ?_
  refine g_aload_n X dX1_isTight_11 rfl rfl ?_
  obtain ⟨ob6, eob6, hF⟩ := bnd hF
  obtain ⟨v7, ev7, hF⟩ := bnd hF
  refine g_callV X eob6 rfl rfl (w_X3_hasNone l hl D dA h4 ob6  v7 ev7) q779 q522 q523 q97 q524 okn_X3_hasNone ⟨by rw [hRf]; exact Nat.le_of_ble_eq_true rfl, by rw [hRl]; exact Nat.le_of_ble_eq_true rfl⟩ (As := []) (rest := []) rfl (by first | exact Nat.le_of_ble_eq_true rfl | simp [cat_rf, cat_i, cat_j, cat_f, cat_d]) dX1_isTight_12 (ac_v ?_)
  refine g_if_ne X 36 dX1_isTight_15 (by decide) (fun c8 => ?_) (fun c8 => ?_)
  · have hF := (if_neg c8).symm.trans hF
    refine g_iconst (v := (0 : Int32)) X dX1_isTight_36 (by decide) ?_
    cases hF
    exact g_zret X hr rfl dX1_isTight_37
  · have hF := (if_pos c8).symm.trans hF
    refine g_aload_n X dX1_isTight_18 rfl rfl ?_
    refine g_aload_n X dX1_isTight_19 rfl rfl ?_
    obtain ⟨v9, ev9, hF⟩ := bnd hF
    refine g_get (k := 0) X in_X1 rfl (by decide) q255 (Or.inl rfl) (getR_V ev9) dX1_isTight_20 ?_
    obtain ⟨v10, ev10, hF⟩ := bnd hF
    refine g_getN (k := 3) X in_X2 rfl (by decide) (nw_in q189 rfl) rfl (getR_V ev10) dX1_isTight_23 ?_
    obtain ⟨ob11, eob11, hF⟩ := bnd hF
    obtain ⟨v12, ev12, hF⟩ := bnd hF
    refine g_callV X eob11 rfl rfl (w_X3_unlike l hl D dA h4 ob11 v10 v12 ev12) q780 q534 q535 q97 q536 okn_X3_unlike ⟨by rw [hRf]; exact Nat.le_of_ble_eq_true rfl, by rw [hRl]; exact Nat.le_of_ble_eq_true rfl⟩ (As := [va_rf v10]) (rest := []) rfl (by first | exact Nat.le_of_ble_eq_true rfl | simp [cat_rf, cat_i, cat_j, cat_f, cat_d]) dX1_isTight_26 (ac_v ?_)
    suffices K : G p l e R s m args below meth c (RQ D dA h0 (.inr (some (.int rE)), hE) below s) D dA h0 2 h4 37 [none, none] [.int (if v12 = 0 then (1 : Int32) else (0 : Int32))] by
      refine g_if_ne X 36 dX1_isTight_29 (by decide) (fun c13 => ?_) (fun c13 => ?_)
      · (try simp only [if_neg c13] at K)
        refine g_iconst (v := (0 : Int32)) X dX1_isTight_36 (by decide) ?_
        refine G.drop [false, false] rfl ?_
        first | exact K | (simp only [if_neg c13]; exact K)
      · (try simp only [if_pos c13] at K)
        refine g_iconst (v := (1 : Int32)) X dX1_isTight_32 (by decide) ?_
        refine g_goto X 37 dX1_isTight_33 (by decide) ?_
        refine G.drop [false, false] rfl ?_
        first | exact K | (simp only [if_pos c13]; exact K)
    cases hF
    exact g_zret X hr (by (repeat' split) <;> rfl) dX1_isTight_37
def F_X1_isEmpty (this : Nat) (h0 : HH) : Option (Int32 × HH) :=
  Option.bind (getR h0 0 0 (some this)) fun v1 =>
  Option.bind (getR h0 2 3 v1) fun v2 =>
  Option.bind (isO h0 3 v2) fun ob3 =>
  b2 (F_X3_isVoid ob3 h0) fun v5 h4 =>
  Option.bind (okZ v5) fun _ =>
  some (v5, h4)
set_option maxHeartbeats 4000000 in
theorem w_X1_isEmpty (l : Launch) (hl : l.stackTraces = false) (D : va_G) (dA : Nat → ClassId) (h0 : HH) (this : Nat) (rE : Int32) (hE : HH) (hF : F_X1_isEmpty this h0 = some (rE, hE)) : MC D dA l yX1_isEmpty cX1_isEmpty 1 (Option.some Jvm.ClassFile.FieldType.boolean) [] 5 110 [va_rf (some this)] h0 (.inr (some (.int rE)), hE) := by
  refine mc_of hl (plainFor_of_name pn_X1) (by simp [lg_sl, cat_rf, cat_i, cat_j, cat_f, cat_d]) ?_
  intro p e s m args below meth c R hRf hRl X hr hnm
  unfold F_X1_isEmpty at hF
  rw [show argL [va_rf (some this)] = [some (va_rf (some this))] from by simp [argL, cat_rf, cat_i, cat_j, cat_f, cat_d]]
  refine g_aload_n X dX1_isEmpty_0 rfl rfl ?_
  obtain ⟨v1, ev1, hF⟩ := bnd hF
  refine g_get (k := 0) X in_X1 rfl (by decide) q255 (Or.inl rfl) (getR_V ev1) dX1_isEmpty_1 ?_
  obtain ⟨v2, ev2, hF⟩ := bnd hF
  refine g_getN (k := 3) X in_X2 rfl (by decide) (nw_in q189 rfl) rfl (getR_V ev2) dX1_isEmpty_4 ?_
  obtain ⟨ob3, eob3, hF⟩ := bnd hF
  obtain ⟨v5, h4, eh4, hF⟩ := b2_some hF
  refine g_callV X eob3 rfl rfl (w_X3_isVoid l hl D dA h0 ob3  v5 h4 eh4) q785 q786 q787 q97 q788 okn_X3_isVoid ⟨by rw [hRf]; exact Nat.le_of_ble_eq_true rfl, by rw [hRl]; exact Nat.le_of_ble_eq_true rfl⟩ (As := []) (rest := []) rfl (by first | exact Nat.le_of_ble_eq_true rfl | simp [cat_rf, cat_i, cat_j, cat_f, cat_d]) dX1_isEmpty_7 (ac_v ?_)
  obtain ⟨_, z6, hF⟩ := bnd hF
  cases hF
  exact g_zret X hr (narZ z6) dX1_isEmpty_10
def F_X1_isEmptyByMoments (this : Nat) (h0 : HH) : Option (Int32 × HH) :=
  Option.bind (getR h0 0 0 (some this)) fun v1 =>
  Option.bind (getR h0 2 3 v1) fun v2 =>
  Option.bind (isO h0 3 v2) fun ob3 =>
  b2 (F_X3_count ob3 none h0) fun v5 h4 =>
  some ((if v5 = 0 then (1 : Int32) else (0 : Int32)), h4)
set_option maxHeartbeats 4000000 in
theorem w_X1_isEmptyByMoments (l : Launch) (hl : l.stackTraces = false) (D : va_G) (dA : Nat → ClassId) (h0 : HH) (this : Nat) (rE : Int32) (hE : HH) (hF : F_X1_isEmptyByMoments this h0 = some (rE, hE)) : MC D dA l yX1_isEmptyByMoments cX1_isEmptyByMoments 1 (Option.some Jvm.ClassFile.FieldType.boolean) [] 3 71 [va_rf (some this)] h0 (.inr (some (.int rE)), hE) := by
  refine mc_of hl (plainFor_of_name pn_X1) (by simp [lg_sl, cat_rf, cat_i, cat_j, cat_f, cat_d]) ?_
  intro p e s m args below meth c R hRf hRl X hr hnm
  unfold F_X1_isEmptyByMoments at hF
  rw [show argL [va_rf (some this)] = [some (va_rf (some this))] from by simp [argL, cat_rf, cat_i, cat_j, cat_f, cat_d]]
  refine g_aload_n X dX1_isEmptyByMoments_0 rfl rfl ?_
  obtain ⟨v1, ev1, hF⟩ := bnd hF
  refine g_get (k := 0) X in_X1 rfl (by decide) q255 (Or.inl rfl) (getR_V ev1) dX1_isEmptyByMoments_1 ?_
  obtain ⟨v2, ev2, hF⟩ := bnd hF
  refine g_getN (k := 3) X in_X2 rfl (by decide) (nw_in q189 rfl) rfl (getR_V ev2) dX1_isEmptyByMoments_4 ?_
  refine g_null X dX1_isEmptyByMoments_7 ?_
  obtain ⟨ob3, eob3, hF⟩ := bnd hF
  obtain ⟨v5, h4, eh4, hF⟩ := b2_some hF
  refine g_callV X eob3 rfl rfl (w_X3_count l hl D dA h0 ob3 none v5 h4 eh4) q795 q796 q797 q97 q798 okn_X3_count ⟨by rw [hRf]; exact Nat.le_of_ble_eq_true rfl, by rw [hRl]; exact Nat.le_of_ble_eq_true rfl⟩ (As := [va_rf none]) (rest := []) rfl (by first | exact Nat.le_of_ble_eq_true rfl | simp [cat_rf, cat_i, cat_j, cat_f, cat_d]) dX1_isEmptyByMoments_8 (ac_v ?_)
  suffices K : G p l e R s m args below meth c (RQ D dA h0 (.inr (some (.int rE)), hE) below s) D dA h0 1 h4 19 [none] [.int (if v5 = 0 then (1 : Int32) else (0 : Int32))] by
    refine g_if_ne X 18 dX1_isEmptyByMoments_11 (by decide) (fun c6 => ?_) (fun c6 => ?_)
    · (try simp only [if_neg c6] at K)
      refine g_iconst (v := (0 : Int32)) X dX1_isEmptyByMoments_18 (by decide) ?_
      refine G.drop [false] rfl ?_
      first | exact K | (simp only [if_neg c6]; exact K)
    · (try simp only [if_pos c6] at K)
      refine g_iconst (v := (1 : Int32)) X dX1_isEmptyByMoments_14 (by decide) ?_
      refine g_goto X 19 dX1_isEmptyByMoments_15 (by decide) ?_
      refine G.drop [false] rfl ?_
      first | exact K | (simp only [if_pos c6]; exact K)
  cases hF
  exact g_zret X hr (by (repeat' split) <;> rfl) dX1_isEmptyByMoments_19
def F_X1_moments (this : Nat) (h0 : HH) : Option (Int32 × HH) :=
  Option.bind (getR h0 0 0 (some this)) fun v1 =>
  Option.bind (getR h0 2 3 v1) fun v2 =>
  Option.bind (isO h0 3 v2) fun ob3 =>
  b2 (F_X3_count ob3 none h0) fun v5 h4 =>
  some (v5, h4)
set_option maxHeartbeats 4000000 in
theorem w_X1_moments (l : Launch) (hl : l.stackTraces = false) (D : va_G) (dA : Nat → ClassId) (h0 : HH) (this : Nat) (rE : Int32) (hE : HH) (hF : F_X1_moments this h0 = some (rE, hE)) : MC D dA l yX1_moments cX1_moments 1 (Option.some Jvm.ClassFile.FieldType.int) [] 3 71 [va_rf (some this)] h0 (.inr (some (.int rE)), hE) := by
  refine mc_of hl (plainFor_of_name pn_X1) (by simp [lg_sl, cat_rf, cat_i, cat_j, cat_f, cat_d]) ?_
  intro p e s m args below meth c R hRf hRl X hr hnm
  unfold F_X1_moments at hF
  rw [show argL [va_rf (some this)] = [some (va_rf (some this))] from by simp [argL, cat_rf, cat_i, cat_j, cat_f, cat_d]]
  refine g_aload_n X dX1_moments_0 rfl rfl ?_
  obtain ⟨v1, ev1, hF⟩ := bnd hF
  refine g_get (k := 0) X in_X1 rfl (by decide) q255 (Or.inl rfl) (getR_V ev1) dX1_moments_1 ?_
  obtain ⟨v2, ev2, hF⟩ := bnd hF
  refine g_getN (k := 3) X in_X2 rfl (by decide) (nw_in q189 rfl) rfl (getR_V ev2) dX1_moments_4 ?_
  refine g_null X dX1_moments_7 ?_
  obtain ⟨ob3, eob3, hF⟩ := bnd hF
  obtain ⟨v5, h4, eh4, hF⟩ := b2_some hF
  refine g_callV X eob3 rfl rfl (w_X3_count l hl D dA h0 ob3 none v5 h4 eh4) q795 q796 q797 q97 q798 okn_X3_count ⟨by rw [hRf]; exact Nat.le_of_ble_eq_true rfl, by rw [hRl]; exact Nat.le_of_ble_eq_true rfl⟩ (As := [va_rf none]) (rest := []) rfl (by first | exact Nat.le_of_ble_eq_true rfl | simp [cat_rf, cat_i, cat_j, cat_f, cat_d]) dX1_moments_8 (ac_v ?_)
  cases hF
  exact g_iret X hr dX1_moments_11
def F_X1_momentsTightened (this : Nat) (h0 : HH) : Option (Int32 × HH) :=
  Option.bind (getR h0 0 0 (some this)) fun v1 =>
  Option.bind (getR h0 2 3 v1) fun v2 =>
  Option.bind (isO h0 3 v2) fun ob3 =>
  b2 (F_X3_tight ob3 h0) fun v5 h4 =>
  Option.bind (isO h4 3 v5) fun ob6 =>
  Option.bind (F_X3_hasNone ob6 h4) fun v7 =>
  if v7 = 0 then (
    Option.bind (isO h4 3 v5) fun ob9 =>
    b2 (F_X3_count ob9 none h4) fun v11 h10 =>
    some (v11, h10)
  ) else (
    some ((0 : Int32), h4)
  )
set_option maxHeartbeats 4000000 in
theorem w_X1_momentsTightened (l : Launch) (hl : l.stackTraces = false) (D : va_G) (dA : Nat → ClassId) (h0 : HH) (this : Nat) (rE : Int32) (hE : HH) (hF : F_X1_momentsTightened this h0 = some (rE, hE)) : MC D dA l yX1_momentsTightened cX1_momentsTightened 2 (Option.some Jvm.ClassFile.FieldType.int) [] 4 90 [va_rf (some this)] h0 (.inr (some (.int rE)), hE) := by
  refine mc_of hl (plainFor_of_name pn_X1) (by simp [lg_sl, cat_rf, cat_i, cat_j, cat_f, cat_d]) ?_
  intro p e s m args below meth c R hRf hRl X hr hnm
  unfold F_X1_momentsTightened at hF
  rw [show argL [va_rf (some this)] = [some (va_rf (some this))] from by simp [argL, cat_rf, cat_i, cat_j, cat_f, cat_d]]
  refine G.pad 1 (L' := [some (va_rf (some this)), none]) rfl ?_
  refine g_aload_n X dX1_momentsTightened_0 rfl rfl ?_
  obtain ⟨v1, ev1, hF⟩ := bnd hF
  refine g_get (k := 0) X in_X1 rfl (by decide) q255 (Or.inl rfl) (getR_V ev1) dX1_momentsTightened_1 ?_
  obtain ⟨v2, ev2, hF⟩ := bnd hF
  refine g_getN (k := 3) X in_X2 rfl (by decide) (nw_in q189 rfl) rfl (getR_V ev2) dX1_momentsTightened_4 ?_
  obtain ⟨ob3, eob3, hF⟩ := bnd hF
  obtain ⟨v5, h4, eh4, hF⟩ := b2_some hF
  refine g_callV X eob3 rfl rfl (w_X3_tight l hl D dA h0 ob3  v5 h4 eh4) q778 q508 q509 q97 q510 okn_X3_tight ⟨by rw [hRf]; exact Nat.le_of_ble_eq_true rfl, by rw [hRl]; exact Nat.le_of_ble_eq_true rfl⟩ (As := []) (rest := []) rfl (by first | exact Nat.le_of_ble_eq_true rfl | simp [cat_rf, cat_i, cat_j, cat_f, cat_d]) dX1_momentsTightened_7 (ac_v ?_)
  refine g_astore_n (L' := [some (va_rf (some this)), some (va_rf v5)]) X dX1_momentsTightened_10 rfl (Nat.le_of_ble_eq_true rfl) (by first | rfl | simp [stL, rm1, clr2, cat_rf, cat_i, cat_j, cat_f, cat_d]) ?_
  refine g_aload_n X dX1_momentsTightened_11 rfl rfl ?_
  obtain ⟨ob6, eob6, hF⟩ := bnd hF
  obtain ⟨v7, ev7, hF⟩ := bnd hF
  refine g_callV X eob6 rfl rfl (w_X3_hasNone l hl D dA h4 ob6  v7 ev7) q779 q522 q523 q97 q524 okn_X3_hasNone ⟨by rw [hRf]; exact Nat.le_of_ble_eq_true rfl, by rw [hRl]; exact Nat.le_of_ble_eq_true rfl⟩ (As := []) (rest := []) rfl (by first | exact Nat.le_of_ble_eq_true rfl | simp [cat_rf, cat_i, cat_j, cat_f, cat_d]) dX1_momentsTightened_12 (ac_v ?_)
  refine g_if_eq X 22 dX1_momentsTightened_15 (by decide) (fun c8 => ?_) (fun c8 => ?_)
  · have hF := (if_pos c8).symm.trans hF
    refine g_aload_n X dX1_momentsTightened_22 rfl rfl ?_
    refine g_null X dX1_momentsTightened_23 ?_
    obtain ⟨ob9, eob9, hF⟩ := bnd hF
    obtain ⟨v11, h10, eh10, hF⟩ := b2_some hF
    refine g_callV X eob9 rfl rfl (w_X3_count l hl D dA h4 ob9 none v11 h10 eh10) q795 q796 q797 q97 q798 okn_X3_count ⟨by rw [hRf]; exact Nat.le_of_ble_eq_true rfl, by rw [hRl]; exact Nat.le_of_ble_eq_true rfl⟩ (As := [va_rf none]) (rest := []) rfl (by first | exact Nat.le_of_ble_eq_true rfl | simp [cat_rf, cat_i, cat_j, cat_f, cat_d]) dX1_momentsTightened_24 (ac_v ?_)
    cases hF
    exact g_iret X hr dX1_momentsTightened_27
  · have hF := (if_neg c8).symm.trans hF
    refine g_iconst (v := (0 : Int32)) X dX1_momentsTightened_18 (by decide) ?_
    refine g_goto X 27 dX1_momentsTightened_19 (by decide) ?_
    cases hF
    exact g_iret X hr dX1_momentsTightened_27
def F_X1_lines (this : Nat) (h0 : HH) : Option Int32 :=
  Option.bind (getR h0 0 0 (some this)) fun v1 =>
  Option.bind (getR h0 2 1 v1) fun v2 =>
  Option.bind (isO h0 8 v2) fun ob3 =>
  Option.bind (F_J2_size ob3 h0) fun v4 =>
  some v4
set_option maxHeartbeats 4000000 in
theorem w_X1_lines (l : Launch) (hl : l.stackTraces = false) (D : va_G) (dA : Nat → ClassId) (h0 : HH) (this : Nat) (rE : Int32) (hF : F_X1_lines this h0 = some rE) : MC D dA l yX1_lines cX1_lines 1 (Option.some Jvm.ClassFile.FieldType.int) [] 1 20 [va_rf (some this)] h0 (.inr (some (.int rE)), h0) := by
  refine mc_of hl (plainFor_of_name pn_X1) (by simp [lg_sl, cat_rf, cat_i, cat_j, cat_f, cat_d]) ?_
  intro p e s m args below meth c R hRf hRl X hr hnm
  unfold F_X1_lines at hF
  rw [show argL [va_rf (some this)] = [some (va_rf (some this))] from by simp [argL, cat_rf, cat_i, cat_j, cat_f, cat_d]]
  refine g_aload_n X dX1_lines_0 rfl rfl ?_
  obtain ⟨v1, ev1, hF⟩ := bnd hF
  refine g_get (k := 0) X in_X1 rfl (by decide) q255 (Or.inl rfl) (getR_V ev1) dX1_lines_1 ?_
  obtain ⟨v2, ev2, hF⟩ := bnd hF
  refine g_getN (k := 1) X in_X2 rfl (by decide) (nw_in q185 rfl) rfl (getR_V ev2) dX1_lines_4 ?_
  obtain ⟨ob3, eob3, hF⟩ := bnd hF
  obtain ⟨v4, ev4, hF⟩ := bnd hF
  refine g_callV X eob3 rfl rfl (w_J2_size l hl D dA h0 ob3  v4 ev4) q818 q289 q290 q96 q291 okn_J2_size ⟨by rw [hRf]; exact Nat.le_of_ble_eq_true rfl, by rw [hRl]; exact Nat.le_of_ble_eq_true rfl⟩ (As := []) (rest := []) rfl (by first | exact Nat.le_of_ble_eq_true rfl | simp [cat_rf, cat_i, cat_j, cat_f, cat_d]) dX1_lines_7 (ac_v ?_)
  cases hF
  exact g_iret X hr dX1_lines_10
def F_X1_reachableByMoments (this : Nat) (h0 : HH) : Option (Int32 × HH) :=
  Option.bind (getR h0 0 0 (some this)) fun v1 =>
  Option.bind (isO h0 2 v1) fun ob2 =>
  b2 (F_X2_harboursByMoments ob2 h0) fun v4 h3 =>
  some (v4, h3)
set_option maxHeartbeats 4000000 in
theorem w_X1_reachableByMoments (l : Launch) (hl : l.stackTraces = false) (D : va_G) (dA : Nat → ClassId) (h0 : HH) (this : Nat) (rE : Int32) (hE : HH) (hF : F_X1_reachableByMoments this h0 = some (rE, hE)) : MC D dA l yX1_reachableByMoments cX1_reachableByMoments 1 (Option.some Jvm.ClassFile.FieldType.int) [] 6 150 [va_rf (some this)] h0 (.inr (some (.int rE)), hE) := by
  refine mc_of hl (plainFor_of_name pn_X1) (by simp [lg_sl, cat_rf, cat_i, cat_j, cat_f, cat_d]) ?_
  intro p e s m args below meth c R hRf hRl X hr hnm
  unfold F_X1_reachableByMoments at hF
  rw [show argL [va_rf (some this)] = [some (va_rf (some this))] from by simp [argL, cat_rf, cat_i, cat_j, cat_f, cat_d]]
  refine g_aload_n X dX1_reachableByMoments_0 rfl rfl ?_
  obtain ⟨v1, ev1, hF⟩ := bnd hF
  refine g_get (k := 0) X in_X1 rfl (by decide) q255 (Or.inl rfl) (getR_V ev1) dX1_reachableByMoments_1 ?_
  obtain ⟨ob2, eob2, hF⟩ := bnd hF
  obtain ⟨v4, h3, eh3, hF⟩ := b2_some hF
  refine g_callV X eob2 rfl rfl (w_X2_harboursByMoments l hl D dA h0 ob2  v4 h3 eh3) q823 q824 q825 q93 q826 okn_X2_harboursByMoments ⟨by rw [hRf]; exact Nat.le_of_ble_eq_true rfl, by rw [hRl]; exact Nat.le_of_ble_eq_true rfl⟩ (As := []) (rest := []) rfl (by first | exact Nat.le_of_ble_eq_true rfl | simp [cat_rf, cat_i, cat_j, cat_f, cat_d]) dX1_reachableByMoments_4 (ac_v ?_)
  cases hF
  exact g_iret X hr dX1_reachableByMoments_7
def F_X1_stuckIn (this : Nat) (h0 : HH) : Option (Int32 × HH) :=
  Option.bind (getR h0 0 0 (some this)) fun v1 =>
  Option.bind (isO h0 2 v1) fun ob2 =>
  b2 (F_X2_stuck ob2 h0) fun v4 h3 =>
  some (v4, h3)
set_option maxHeartbeats 4000000 in
theorem w_X1_stuckIn (l : Launch) (hl : l.stackTraces = false) (D : va_G) (dA : Nat → ClassId) (h0 : HH) (this : Nat) (rE : Int32) (hE : HH) (hF : F_X1_stuckIn this h0 = some (rE, hE)) : MC D dA l yX1_stuckIn cX1_stuckIn 1 (Option.some Jvm.ClassFile.FieldType.int) [] 6 151 [va_rf (some this)] h0 (.inr (some (.int rE)), hE) := by
  refine mc_of hl (plainFor_of_name pn_X1) (by simp [lg_sl, cat_rf, cat_i, cat_j, cat_f, cat_d]) ?_
  intro p e s m args below meth c R hRf hRl X hr hnm
  unfold F_X1_stuckIn at hF
  rw [show argL [va_rf (some this)] = [some (va_rf (some this))] from by simp [argL, cat_rf, cat_i, cat_j, cat_f, cat_d]]
  refine g_aload_n X dX1_stuckIn_0 rfl rfl ?_
  obtain ⟨v1, ev1, hF⟩ := bnd hF
  refine g_get (k := 0) X in_X1 rfl (by decide) q255 (Or.inl rfl) (getR_V ev1) dX1_stuckIn_1 ?_
  obtain ⟨ob2, eob2, hF⟩ := bnd hF
  obtain ⟨v4, h3, eh3, hF⟩ := b2_some hF
  refine g_callV X eob2 rfl rfl (w_X2_stuck l hl D dA h0 ob2  v4 h3 eh3) q862 q863 q864 q93 q865 okn_X2_stuck ⟨by rw [hRf]; exact Nat.le_of_ble_eq_true rfl, by rw [hRl]; exact Nat.le_of_ble_eq_true rfl⟩ (As := []) (rest := []) rfl (by first | exact Nat.le_of_ble_eq_true rfl | simp [cat_rf, cat_i, cat_j, cat_f, cat_d]) dX1_stuckIn_4 (ac_v ?_)
  cases hF
  exact g_iret X hr dX1_stuckIn_7
def F_X1_usableLines (this : Nat) (h0 : HH) : Option (Int32 × HH) :=
  Option.bind (getR h0 0 0 (some this)) fun v1 =>
  Option.bind (isO h0 2 v1) fun ob2 =>
  b2 (F_X2_usable ob2 h0) fun v4 h3 =>
  some (v4, h3)
set_option maxHeartbeats 4000000 in
theorem w_X1_usableLines (l : Launch) (hl : l.stackTraces = false) (D : va_G) (dA : Nat → ClassId) (h0 : HH) (this : Nat) (rE : Int32) (hE : HH) (hF : F_X1_usableLines this h0 = some (rE, hE)) : MC D dA l yX1_usableLines cX1_usableLines 1 (Option.some Jvm.ClassFile.FieldType.int) [] 6 150 [va_rf (some this)] h0 (.inr (some (.int rE)), hE) := by
  refine mc_of hl (plainFor_of_name pn_X1) (by simp [lg_sl, cat_rf, cat_i, cat_j, cat_f, cat_d]) ?_
  intro p e s m args below meth c R hRf hRl X hr hnm
  unfold F_X1_usableLines at hF
  rw [show argL [va_rf (some this)] = [some (va_rf (some this))] from by simp [argL, cat_rf, cat_i, cat_j, cat_f, cat_d]]
  refine g_aload_n X dX1_usableLines_0 rfl rfl ?_
  obtain ⟨v1, ev1, hF⟩ := bnd hF
  refine g_get (k := 0) X in_X1 rfl (by decide) q255 (Or.inl rfl) (getR_V ev1) dX1_usableLines_1 ?_
  obtain ⟨ob2, eob2, hF⟩ := bnd hF
  obtain ⟨v4, h3, eh3, hF⟩ := b2_some hF
  refine g_callV X eob2 rfl rfl (w_X2_usable l hl D dA h0 ob2  v4 h3 eh3) q874 q875 q876 q93 q877 okn_X2_usable ⟨by rw [hRf]; exact Nat.le_of_ble_eq_true rfl, by rw [hRl]; exact Nat.le_of_ble_eq_true rfl⟩ (As := []) (rest := []) rfl (by first | exact Nat.le_of_ble_eq_true rfl | simp [cat_rf, cat_i, cat_j, cat_f, cat_d]) dX1_usableLines_4 (ac_v ?_)
  cases hF
  exact g_iret X hr dX1_usableLines_7
def F_X1_share (this : Nat) (h0 : HH) : Option (UInt32 × HH) :=
  Option.bind (isO h0 0 (some this)) fun ob1 =>
  b2 (F_X1_moments ob1 h0) fun v3 h2 =>
  Option.bind (fdivP (FP.i2f v3) (1189658112 : UInt32)) fun v4 =>
  some ((FP.fdiv (FP.i2f v3) (1189658112 : UInt32)), h2)
set_option maxHeartbeats 4000000 in
theorem w_X1_share (l : Launch) (hl : l.stackTraces = false) (D : va_G) (dA : Nat → ClassId) (h0 : HH) (this : Nat) (rE : UInt32) (hE : HH) (hF : F_X1_share this h0 = some (rE, hE)) : MC D dA l yX1_share cX1_share 1 (Option.some Jvm.ClassFile.FieldType.float) [] 4 91 [va_rf (some this)] h0 (.inr (some (.float rE)), hE) := by
  refine mc_of hl (plainFor_of_name pn_X1) (by simp [lg_sl, cat_rf, cat_i, cat_j, cat_f, cat_d]) ?_
  intro p e s m args below meth c R hRf hRl X hr hnm
  unfold F_X1_share at hF
  rw [show argL [va_rf (some this)] = [some (va_rf (some this))] from by simp [argL, cat_rf, cat_i, cat_j, cat_f, cat_d]]
  refine g_aload_n X dX1_share_0 rfl rfl ?_
  obtain ⟨ob1, eob1, hF⟩ := bnd hF
  obtain ⟨v3, h2, eh2, hF⟩ := b2_some hF
  refine g_callV X eob1 rfl rfl (w_X1_moments l hl D dA h0 ob1  v3 h2 eh2) q882 q807 q808 q92 q809 okn_X1_moments ⟨by rw [hRf]; exact Nat.le_of_ble_eq_true rfl, by rw [hRl]; exact Nat.le_of_ble_eq_true rfl⟩ (As := []) (rest := []) rfl (by first | exact Nat.le_of_ble_eq_true rfl | simp [cat_rf, cat_i, cat_j, cat_f, cat_d]) dX1_share_1 (ac_v ?_)
  refine g_i2f X dX1_share_4 ?_
  refine g_ldcfw (v := (1189658112 : UInt32)) X q883 dX1_share_5 ?_
  obtain ⟨v4, ev4, hF⟩ := bnd hF
  obtain ⟨nv4, rfl⟩ := fdivP_some ev4
  refine g_fdiv X dX1_share_8 nv4 ?_
  cases hF
  exact g_fret X hr dX1_share_9
def F_X1_shareBits (this : Nat) (h0 : HH) : Option (Int32 × HH) :=
  Option.bind (isO h0 0 (some this)) fun ob1 =>
  b2 (F_X1_share ob1 h0) fun v3 h2 =>
  Option.bind (F_J19_floatToIntBits v3 h2) fun v4 =>
  some (v4, h2)
set_option maxHeartbeats 4000000 in
theorem w_X1_shareBits (l : Launch) (hl : l.stackTraces = false) (D : va_G) (dA : Nat → ClassId) (h0 : HH) (this : Nat) (rE : Int32) (hE : HH) (hF : F_X1_shareBits this h0 = some (rE, hE)) : MC D dA l yX1_shareBits cX1_shareBits 1 (Option.some Jvm.ClassFile.FieldType.int) [] 5 111 [va_rf (some this)] h0 (.inr (some (.int rE)), hE) := by
  refine mc_of hl (plainFor_of_name pn_X1) (by simp [lg_sl, cat_rf, cat_i, cat_j, cat_f, cat_d]) ?_
  intro p e s m args below meth c R hRf hRl X hr hnm
  unfold F_X1_shareBits at hF
  rw [show argL [va_rf (some this)] = [some (va_rf (some this))] from by simp [argL, cat_rf, cat_i, cat_j, cat_f, cat_d]]
  refine g_aload_n X dX1_shareBits_0 rfl rfl ?_
  obtain ⟨ob1, eob1, hF⟩ := bnd hF
  obtain ⟨v3, h2, eh2, hF⟩ := b2_some hF
  refine g_callV X eob1 rfl rfl (w_X1_share l hl D dA h0 ob1  v3 h2 eh2) q888 q879 q880 q92 q881 okn_X1_share ⟨by rw [hRf]; exact Nat.le_of_ble_eq_true rfl, by rw [hRl]; exact Nat.le_of_ble_eq_true rfl⟩ (As := []) (rest := []) rfl (by first | exact Nat.le_of_ble_eq_true rfl | simp [cat_rf, cat_i, cat_j, cat_f, cat_d]) dX1_shareBits_1 (ac_v ?_)
  obtain ⟨v4, ev4, hF⟩ := bnd hF
  refine g_callS X (w_J19_floatToIntBits l hl D dA h2 v3 v4 ev4) q889 q890 q120 q891 okn_J19_floatToIntBits ⟨by rw [hRf]; exact Nat.le_of_ble_eq_true rfl, by rw [hRl]; exact Nat.le_of_ble_eq_true rfl⟩ (As := [.float v3]) (rest := []) rfl (by first | exact Nat.le_of_ble_eq_true rfl | simp [cat_rf, cat_i, cat_j, cat_f, cat_d]) dX1_shareBits_4 (ac_v ?_)
  cases hF
  exact g_iret X hr dX1_shareBits_7
def F_X1_worked (this : Nat) (h0 : HH) : Option Int32 :=
  Option.bind (getR h0 0 0 (some this)) fun v1 =>
  Option.bind (getI h0 2 4 v1) fun v2 =>
  some v2
set_option maxHeartbeats 4000000 in
theorem w_X1_worked (l : Launch) (hl : l.stackTraces = false) (D : va_G) (dA : Nat → ClassId) (h0 : HH) (this : Nat) (rE : Int32) (hF : F_X1_worked this h0 = some rE) : MC D dA l yX1_worked cX1_worked 1 (Option.some Jvm.ClassFile.FieldType.int) [] 0 0 [va_rf (some this)] h0 (.inr (some (.int rE)), h0) := by
  refine mc_of hl (plainFor_of_name pn_X1) (by simp [lg_sl, cat_rf, cat_i, cat_j, cat_f, cat_d]) ?_
  intro p e s m args below meth c R hRf hRl X hr hnm
  unfold F_X1_worked at hF
  rw [show argL [va_rf (some this)] = [some (va_rf (some this))] from by simp [argL, cat_rf, cat_i, cat_j, cat_f, cat_d]]
  refine g_aload_n X dX1_worked_0 rfl rfl ?_
  obtain ⟨v1, ev1, hF⟩ := bnd hF
  refine g_get (k := 0) X in_X1 rfl (by decide) q255 (Or.inl rfl) (getR_V ev1) dX1_worked_1 ?_
  obtain ⟨v2, ev2, hF⟩ := bnd hF
  refine g_getN (k := 4) X in_X2 rfl (by decide) (nw_in q191 rfl) rfl (getI_V ev2) dX1_worked_4 ?_
  cases hF
  exact g_iret X hr dX1_worked_7
def F_X1_keep (this : Nat) (h0 : HH) : Option (Int32 × HH) :=
  Option.bind (getR h0 0 0 (some this)) fun v1 =>
  Option.bind (putV h0 0 1 (some this) (va_rf v1)) fun h2 =>
  Option.bind (isO h2 0 (some this)) fun ob3 =>
  b2 (F_X1_moments ob3 h2) fun v5 h4 =>
  some (v5, h4)
set_option maxHeartbeats 4000000 in
theorem w_X1_keep (l : Launch) (hl : l.stackTraces = false) (D : va_G) (dA : Nat → ClassId) (h0 : HH) (this : Nat) (rE : Int32) (hE : HH) (hF : F_X1_keep this h0 = some (rE, hE)) : MC D dA l yX1_keep cX1_keep 1 (Option.some Jvm.ClassFile.FieldType.int) [] 4 91 [va_rf (some this)] h0 (.inr (some (.int rE)), hE) := by
  refine mc_of hl (plainFor_of_name pn_X1) (by simp [lg_sl, cat_rf, cat_i, cat_j, cat_f, cat_d]) ?_
  intro p e s m args below meth c R hRf hRl X hr hnm
  unfold F_X1_keep at hF
  rw [show argL [va_rf (some this)] = [some (va_rf (some this))] from by simp [argL, cat_rf, cat_i, cat_j, cat_f, cat_d]]
  refine g_aload_n X dX1_keep_0 rfl rfl ?_
  refine g_aload_n X dX1_keep_1 rfl rfl ?_
  obtain ⟨v1, ev1, hF⟩ := bnd hF
  refine g_get (k := 0) X in_X1 rfl (by decide) q255 (Or.inl rfl) (getR_V ev1) dX1_keep_2 ?_
  obtain ⟨h2, eh2, hF⟩ := bnd hF
  refine g_put (k := 1) X in_X1 tyX1 tyX1_ok nmX1 rfl (by decide) q256 (Or.inl rfl) rfl (tyX1_ok 1 (by decide)) (narrow_rf _ _) (fits_rf _ _) eh2 dX1_keep_5 ?_
  refine g_aload_n X dX1_keep_8 rfl rfl ?_
  obtain ⟨ob3, eob3, hF⟩ := bnd hF
  obtain ⟨v5, h4, eh4, hF⟩ := b2_some hF
  refine g_callV X eob3 rfl rfl (w_X1_moments l hl D dA h2 ob3  v5 h4 eh4) q882 q807 q808 q92 q809 okn_X1_moments ⟨by rw [hRf]; exact Nat.le_of_ble_eq_true rfl, by rw [hRl]; exact Nat.le_of_ble_eq_true rfl⟩ (As := []) (rest := []) rfl (by first | exact Nat.le_of_ble_eq_true rfl | simp [cat_rf, cat_i, cat_j, cat_f, cat_d]) dX1_keep_9 (ac_v ?_)
  cases hF
  exact g_iret X hr dX1_keep_12
def F_X1_states (this : Nat) (h0 : HH) : Option Int32 :=
  Option.bind (getR h0 0 2 (some this)) fun v1 =>
  Option.bind (isO h0 9 v1) fun ob2 =>
  Option.bind (F_J3_size ob2 h0) fun v3 =>
  some v3
set_option maxHeartbeats 4000000 in
theorem w_X1_states (l : Launch) (hl : l.stackTraces = false) (D : va_G) (dA : Nat → ClassId) (h0 : HH) (this : Nat) (rE : Int32) (hF : F_X1_states this h0 = some rE) : MC D dA l yX1_states cX1_states 1 (Option.some Jvm.ClassFile.FieldType.int) [] 2 42 [va_rf (some this)] h0 (.inr (some (.int rE)), h0) := by
  refine mc_of hl (plainFor_of_name pn_X1) (by simp [lg_sl, cat_rf, cat_i, cat_j, cat_f, cat_d]) ?_
  intro p e s m args below meth c R hRf hRl X hr hnm
  unfold F_X1_states at hF
  rw [show argL [va_rf (some this)] = [some (va_rf (some this))] from by simp [argL, cat_rf, cat_i, cat_j, cat_f, cat_d]]
  refine g_aload_n X dX1_states_0 rfl rfl ?_
  obtain ⟨v1, ev1, hF⟩ := bnd hF
  refine g_get (k := 2) X in_X1 rfl (by decide) q257 (Or.inl rfl) (getR_V ev1) dX1_states_1 ?_
  obtain ⟨ob2, eob2, hF⟩ := bnd hF
  obtain ⟨v3, ev3, hF⟩ := bnd hF
  refine g_callV X eob2 rfl rfl (w_J3_size l hl D dA h0 ob2  v3 ev3) q716 q717 q718 q98 q719 okn_J3_size ⟨by rw [hRf]; exact Nat.le_of_ble_eq_true rfl, by rw [hRl]; exact Nat.le_of_ble_eq_true rfl⟩ (As := []) (rest := []) rfl (by first | exact Nat.le_of_ble_eq_true rfl | simp [cat_rf, cat_i, cat_j, cat_f, cat_d]) dX1_states_4 (ac_v ?_)
  cases hF
  exact g_iret X hr dX1_states_7
def F_J4_newCapacity (this : Nat) (a1 : Int32) (h0 : HH) : Option Int32 :=
  Option.bind (getR h0 10 0 (some this)) fun v1 =>
  Option.bind (alen h0 v1) fun v2 =>
  Option.bind (getI h0 10 1 (some this)) fun v3 =>
  Option.bind (getI h0 10 1 (some this)) fun v4 =>
  Option.bind (F_J10_newLength v2 ((a1 <<< (v3 &&& 31)) - v2) (v2 + ((2 : Int32) <<< (v4 &&& 31))) h0) fun v5 =>
  if v5 = (2147483647 : Int32) then (
    none
  ) else (
    Option.bind (getI h0 10 1 (some this)) fun v7 =>
    some (v5 >>> (v7 &&& 31))
  )
set_option maxHeartbeats 4000000 in
theorem w_J4_newCapacity (l : Launch) (hl : l.stackTraces = false) (D : va_G) (dA : Nat → ClassId) (h0 : HH) (this : Nat) (a1 : Int32) (rE : Int32) (hF : F_J4_newCapacity this a1 h0 = some rE) : MC D dA l yJ4_newCapacity cJ4_newCapacity 6 (Option.some Jvm.ClassFile.FieldType.int) [] 2 44 [va_rf (some this), .int a1] h0 (.inr (some (.int rE)), h0) := by
  refine mc_of hl (plainFor_of_name pn_J4) (by simp [lg_sl, cat_rf, cat_i, cat_j, cat_f, cat_d]) ?_
  intro p e s m args below meth c R hRf hRl X hr hnm
  unfold F_J4_newCapacity at hF
  rw [show argL [va_rf (some this), .int a1] = [some (va_rf (some this)), some (.int a1)] from by simp [argL, cat_rf, cat_i, cat_j, cat_f, cat_d]]
  refine G.pad 4 (L' := [some (va_rf (some this)), some (.int a1), none, none, none, none]) rfl ?_
  refine g_aload_n X dJ4_newCapacity_0 rfl rfl ?_
  obtain ⟨v1, ev1, hF⟩ := bnd hF
  refine g_get (k := 0) X in_J5 rfl (by decide) q239 (Or.inl rfl) (getR_V ev1) dJ4_newCapacity_1 ?_
  obtain ⟨v2, ev2, hF⟩ := bnd hF
  refine g_alen X ev2 dJ4_newCapacity_4 ?_
  refine g_istore_n (L' := [some (va_rf (some this)), some (.int a1), some (.int v2), none, none, none]) X dJ4_newCapacity_5 rfl (Nat.le_of_ble_eq_true rfl) (by first | rfl | simp [stL, rm1, clr2, cat_rf, cat_i, cat_j, cat_f, cat_d]) ?_
  refine g_iload_n X dJ4_newCapacity_6 rfl rfl ?_
  refine g_aload_n X dJ4_newCapacity_7 rfl rfl ?_
  obtain ⟨v3, ev3, hF⟩ := bnd hF
  refine g_get (k := 1) X in_J5 rfl (by decide) q240 (Or.inl rfl) (getI_V ev3) dJ4_newCapacity_8 ?_
  refine g_ishl X dJ4_newCapacity_11 ?_
  refine g_istore_n (L' := [some (va_rf (some this)), some (.int a1), some (.int v2), some (.int (a1 <<< (v3 &&& 31))), none, none]) X dJ4_newCapacity_12 rfl (Nat.le_of_ble_eq_true rfl) (by first | rfl | simp [stL, rm1, clr2, cat_rf, cat_i, cat_j, cat_f, cat_d]) ?_
  refine g_iload_n X dJ4_newCapacity_13 rfl rfl ?_
  refine g_iload_n X dJ4_newCapacity_14 rfl rfl ?_
  refine g_isub X dJ4_newCapacity_15 ?_
  refine g_istore (L' := [some (va_rf (some this)), some (.int a1), some (.int v2), some (.int (a1 <<< (v3 &&& 31))), some (.int ((a1 <<< (v3 &&& 31)) - v2)), none]) X dJ4_newCapacity_16 (Nat.le_of_ble_eq_true rfl) (by first | rfl | simp [stL, rm1, clr2, cat_rf, cat_i, cat_j, cat_f, cat_d]) ?_
  refine g_iload_n X dJ4_newCapacity_18 rfl rfl ?_
  refine g_iload X dJ4_newCapacity_19 rfl ?_
  refine g_iload_n X dJ4_newCapacity_21 rfl rfl ?_
  refine g_iconst (v := (2 : Int32)) X dJ4_newCapacity_22 (by decide) ?_
  refine g_aload_n X dJ4_newCapacity_23 rfl rfl ?_
  obtain ⟨v4, ev4, hF⟩ := bnd hF
  refine g_get (k := 1) X in_J5 rfl (by decide) q240 (Or.inl rfl) (getI_V ev4) dJ4_newCapacity_24 ?_
  refine g_ishl X dJ4_newCapacity_27 ?_
  refine g_iadd X dJ4_newCapacity_28 ?_
  obtain ⟨v5, ev5, hF⟩ := bnd hF
  refine g_callS X (w_J10_newLength l hl D dA h0 v2 ((a1 <<< (v3 &&& 31)) - v2) (v2 + ((2 : Int32) <<< (v4 &&& 31))) v5 ev5) q937 q354 q107 q355 okn_J10_newLength ⟨by rw [hRf]; exact Nat.le_of_ble_eq_true rfl, by rw [hRl]; exact Nat.le_of_ble_eq_true rfl⟩ (As := [.int v2, .int ((a1 <<< (v3 &&& 31)) - v2), .int (v2 + ((2 : Int32) <<< (v4 &&& 31)))]) (rest := []) rfl (by first | exact Nat.le_of_ble_eq_true rfl | simp [cat_rf, cat_i, cat_j, cat_f, cat_d]) dJ4_newCapacity_29 (ac_v ?_)
  refine g_istore (L' := [some (va_rf (some this)), some (.int a1), some (.int v2), some (.int (a1 <<< (v3 &&& 31))), some (.int ((a1 <<< (v3 &&& 31)) - v2)), some (.int v5)]) X dJ4_newCapacity_32 (Nat.le_of_ble_eq_true rfl) (by first | rfl | simp [stL, rm1, clr2, cat_rf, cat_i, cat_j, cat_f, cat_d]) ?_
  refine g_iload X dJ4_newCapacity_34 rfl ?_
  refine g_ldc (v := (2147483647 : Int32)) X q938 dJ4_newCapacity_36 ?_
  refine g_icmp_ne X 51 dJ4_newCapacity_38 (by decide) (fun c6 => ?_) (fun c6 => ?_)
  · have hF := (if_neg c6).symm.trans hF
    refine g_iload X dJ4_newCapacity_51 rfl ?_
    refine g_aload_n X dJ4_newCapacity_53 rfl rfl ?_
    obtain ⟨v7, ev7, hF⟩ := bnd hF
    refine g_get (k := 1) X in_J5 rfl (by decide) q240 (Or.inl rfl) (getI_V ev7) dJ4_newCapacity_54 ?_
    refine g_ishr X dJ4_newCapacity_57 ?_
    cases hF
    exact g_iret X hr dJ4_newCapacity_58
  · have hF := (if_pos c6).symm.trans hF
    cases hF
def F_J12_copyOf_3 (a1 : Option Nat) (a2 : Int32) (h0 : HH) : Option (Option Nat × HH) :=
  Option.bind (alen h0 a1) fun v1 =>
  if a2 = v1 then (
    none
  ) else (
    Option.bind (newA h0 1 a2) fun h3 =>
    Option.bind (alen h3 a1) fun v4 =>
    Option.bind (acpB h3 a1 (0 : Int32) (some (hSz h0)) (0 : Int32) (F_J11_min v4 a2)) fun h5 =>
    some ((some (hSz h0)), h5)
  )
set_option maxHeartbeats 4000000 in
theorem w_J12_copyOf_3 (l : Launch) (hl : l.stackTraces = false) (D : va_G) (dA : Nat → ClassId) (h0 : HH) (a1 : Option Nat) (a2 : Int32) (rE : Option Nat) (hE : HH) (hF : F_J12_copyOf_3 a1 a2 h0 = some (rE, hE)) : MC D dA l yJ12_copyOf_3 cJ12_copyOf_3 3 (Option.some (Jvm.ClassFile.FieldType.array Jvm.ClassFile.FieldType.byte)) [] 1 40 [va_rf a1, .int a2] h0 (.inr (some (va_rf rE)), hE) := by
  refine mc_of hl (plainFor_of_name pn_J12) (by simp [lg_sl, cat_rf, cat_i, cat_j, cat_f, cat_d]) ?_
  intro p e s m args below meth c R hRf hRl X hr hnm
  unfold F_J12_copyOf_3 at hF
  rw [show argL [va_rf a1, .int a2] = [some (va_rf a1), some (.int a2)] from by simp [argL, cat_rf, cat_i, cat_j, cat_f, cat_d]]
  refine G.pad 1 (L' := [some (va_rf a1), some (.int a2), none]) rfl ?_
  refine g_iload_n X dJ12_copyOf_3_0 rfl rfl ?_
  refine g_aload_n X dJ12_copyOf_3_1 rfl rfl ?_
  obtain ⟨v1, ev1, hF⟩ := bnd hF
  refine g_alen X ev1 dJ12_copyOf_3_2 ?_
  refine g_icmp_ne X 14 dJ12_copyOf_3_3 (by decide) (fun c2 => ?_) (fun c2 => ?_)
  · have hF := (if_neg c2).symm.trans hF
    refine g_iload_n X dJ12_copyOf_3_14 rfl rfl ?_
    obtain ⟨h3, eh3, hF⟩ := bnd hF
    refine g_newa (atype := .byte) (t := 1) X q253 rfl (funext fun _ => rfl) (by decide) eh3 dJ12_copyOf_3_15 ?_
    refine g_astore_n (L' := [some (va_rf a1), some (.int a2), some (va_rf (some (hSz h0)))]) X dJ12_copyOf_3_17 rfl (Nat.le_of_ble_eq_true rfl) (by first | rfl | simp [stL, rm1, clr2, cat_rf, cat_i, cat_j, cat_f, cat_d]) ?_
    refine g_aload_n X dJ12_copyOf_3_18 rfl rfl ?_
    refine g_iconst (v := (0 : Int32)) X dJ12_copyOf_3_19 (by decide) ?_
    refine g_aload_n X dJ12_copyOf_3_20 rfl rfl ?_
    refine g_iconst (v := (0 : Int32)) X dJ12_copyOf_3_21 (by decide) ?_
    refine g_aload_n X dJ12_copyOf_3_22 rfl rfl ?_
    obtain ⟨v4, ev4, hF⟩ := bnd hF
    refine g_alen X ev4 dJ12_copyOf_3_23 ?_
    refine g_iload_n X dJ12_copyOf_3_24 rfl rfl ?_
    refine g_callS X (w_J11_min l hl D dA h3 v4 a2) q390 q391 q108 q392 okn_J11_min ⟨by rw [hRf]; exact Nat.le_of_ble_eq_true rfl, by rw [hRl]; exact Nat.le_of_ble_eq_true rfl⟩ (As := [.int v4, .int a2]) (rest := [.int (0 : Int32), va_rf (some (hSz h0)), .int (0 : Int32), va_rf a1]) rfl (by first | exact Nat.le_of_ble_eq_true rfl | simp [cat_rf, cat_i, cat_j, cat_f, cat_d]) dJ12_copyOf_3_25 (ac_v ?_)
    obtain ⟨h5, eh5, hF⟩ := bnd hF
    refine g_copyB X q393 ⟨by rw [hRf]; exact Nat.le_of_ble_eq_true rfl, by rw [hRl]; exact Nat.le_of_ble_eq_true rfl⟩ (by first | exact Nat.le_of_ble_eq_true rfl | simp [cat_rf, cat_i, cat_j, cat_f, cat_d]) eh5 dJ12_copyOf_3_28 ?_
    refine g_aload_n X dJ12_copyOf_3_31 rfl rfl ?_
    cases hF
    exact g_aret X hr (Or.inr ⟨_, rfl⟩) dJ12_copyOf_3_32
  · have hF := (if_pos c2).symm.trans hF
    cases hF
def F_J4_ensureCapacityInternal (this : Nat) (a1 : Int32) (h0 : HH) : Option HH :=
  Option.bind (getR h0 10 0 (some this)) fun v1 =>
  Option.bind (alen h0 v1) fun v2 =>
  Option.bind (getI h0 10 1 (some this)) fun v3 =>
  if (a1 - (v2 >>> (v3 &&& 31))) ≤ 0 then (
    some h0
  ) else (
    Option.bind (getR h0 10 0 (some this)) fun v5 =>
    Option.bind (isO h0 10 (some this)) fun ob6 =>
    Option.bind (F_J4_newCapacity ob6 a1 h0) fun v7 =>
    Option.bind (getI h0 10 1 (some this)) fun v8 =>
    b2 (F_J12_copyOf_3 v5 (v7 <<< (v8 &&& 31)) h0) fun v10 h9 =>
    Option.bind (putV h9 10 0 (some this) (va_rf v10)) fun h11 =>
    some h11
  )
set_option maxHeartbeats 4000000 in
theorem w_J4_ensureCapacityInternal (l : Launch) (hl : l.stackTraces = false) (D : va_G) (dA : Nat → ClassId) (h0 : HH) (this : Nat) (a1 : Int32) (hE : HH) (hF : F_J4_ensureCapacityInternal this a1 h0 = some hE) : MC D dA l yJ4_ensureCapacityInternal cJ4_ensureCapacityInternal 3 (Option.none : Option Jvm.ClassFile.FieldType) [] 3 69 [va_rf (some this), .int a1] h0 (.inr none, hE) := by
  refine mc_of hl (plainFor_of_name pn_J4) (by simp [lg_sl, cat_rf, cat_i, cat_j, cat_f, cat_d]) ?_
  intro p e s m args below meth c R hRf hRl X hr hnm
  unfold F_J4_ensureCapacityInternal at hF
  rw [show argL [va_rf (some this), .int a1] = [some (va_rf (some this)), some (.int a1)] from by simp [argL, cat_rf, cat_i, cat_j, cat_f, cat_d]]
  refine G.pad 1 (L' := [some (va_rf (some this)), some (.int a1), none]) rfl ?_
  refine g_aload_n X dJ4_ensureCapacityInternal_0 rfl rfl ?_
  obtain ⟨v1, ev1, hF⟩ := bnd hF
  refine g_get (k := 0) X in_J5 rfl (by decide) q239 (Or.inl rfl) (getR_V ev1) dJ4_ensureCapacityInternal_1 ?_
  obtain ⟨v2, ev2, hF⟩ := bnd hF
  refine g_alen X ev2 dJ4_ensureCapacityInternal_4 ?_
  refine g_aload_n X dJ4_ensureCapacityInternal_5 rfl rfl ?_
  obtain ⟨v3, ev3, hF⟩ := bnd hF
  refine g_get (k := 1) X in_J5 rfl (by decide) q240 (Or.inl rfl) (getI_V ev3) dJ4_ensureCapacityInternal_6 ?_
  refine g_ishr X dJ4_ensureCapacityInternal_9 ?_
  refine g_istore_n (L' := [some (va_rf (some this)), some (.int a1), some (.int (v2 >>> (v3 &&& 31)))]) X dJ4_ensureCapacityInternal_10 rfl (Nat.le_of_ble_eq_true rfl) (by first | rfl | simp [stL, rm1, clr2, cat_rf, cat_i, cat_j, cat_f, cat_d]) ?_
  refine g_iload_n X dJ4_ensureCapacityInternal_11 rfl rfl ?_
  refine g_iload_n X dJ4_ensureCapacityInternal_12 rfl rfl ?_
  refine g_isub X dJ4_ensureCapacityInternal_13 ?_
  refine g_if_le X 38 dJ4_ensureCapacityInternal_14 (by decide) (fun c4 => ?_) (fun c4 => ?_)
  · have hF := (if_pos c4).symm.trans hF
    cases hF
    exact g_vret X hr dJ4_ensureCapacityInternal_38
  · have hF := (if_neg c4).symm.trans hF
    refine g_aload_n X dJ4_ensureCapacityInternal_17 rfl rfl ?_
    refine g_aload_n X dJ4_ensureCapacityInternal_18 rfl rfl ?_
    obtain ⟨v5, ev5, hF⟩ := bnd hF
    refine g_get (k := 0) X in_J5 rfl (by decide) q239 (Or.inl rfl) (getR_V ev5) dJ4_ensureCapacityInternal_19 ?_
    refine g_aload_n X dJ4_ensureCapacityInternal_22 rfl rfl ?_
    refine g_iload_n X dJ4_ensureCapacityInternal_23 rfl rfl ?_
    obtain ⟨ob6, eob6, hF⟩ := bnd hF
    obtain ⟨v7, ev7, hF⟩ := bnd hF
    refine g_callP X eob6 rfl (w_J4_newCapacity l hl D dA h0 ob6 a1 v7 ev7) q933 q935 q950 rfl okn_J4_isLatin1 (nw_in q934 rfl) q99 q936 okn_J4_newCapacity ⟨by rw [hRf]; exact Nat.le_of_ble_eq_true rfl, by rw [hRl]; exact Nat.le_of_ble_eq_true rfl⟩ (As := [.int a1]) (rest := [va_rf v5, va_rf (some this)]) rfl (by first | exact Nat.le_of_ble_eq_true rfl | simp [cat_rf, cat_i, cat_j, cat_f, cat_d]) dJ4_ensureCapacityInternal_24 (ac_v ?_)
    refine g_aload_n X dJ4_ensureCapacityInternal_27 rfl rfl ?_
    obtain ⟨v8, ev8, hF⟩ := bnd hF
    refine g_get (k := 1) X in_J5 rfl (by decide) q240 (Or.inl rfl) (getI_V ev8) dJ4_ensureCapacityInternal_28 ?_
    refine g_ishl X dJ4_ensureCapacityInternal_31 ?_
    obtain ⟨v10, h9, eh9, hF⟩ := b2_some hF
    refine g_callS X (w_J12_copyOf_3 l hl D dA h0 v5 (v7 <<< (v8 &&& 31)) v10 h9 eh9) q939 q940 q109 q941 okn_J12_copyOf_3 ⟨by rw [hRf]; exact Nat.le_of_ble_eq_true rfl, by rw [hRl]; exact Nat.le_of_ble_eq_true rfl⟩ (As := [va_rf v5, .int (v7 <<< (v8 &&& 31))]) (rest := [va_rf (some this)]) rfl (by first | exact Nat.le_of_ble_eq_true rfl | simp [cat_rf, cat_i, cat_j, cat_f, cat_d]) dJ4_ensureCapacityInternal_32 (ac_v ?_)
    obtain ⟨h11, eh11, hF⟩ := bnd hF
    refine g_put (k := 0) X in_J5 tyJ5 tyJ5_ok nmJ5 rfl (by decide) q239 (Or.inl rfl) rfl (tyJ5_ok 0 (by decide)) (narrow_rfA _ _) (fits_rfA _ _) eh11 dJ4_ensureCapacityInternal_35 ?_
    cases hF
    exact g_vret X hr dJ4_ensureCapacityInternal_38
def F_J4_setLength (this : Nat) (a1 : Int32) (h0 : HH) : Option HH :=
  if 0 ≤ a1 then (
    Option.bind (isO h0 10 (some this)) fun ob2 =>
    Option.bind (F_J4_ensureCapacityInternal ob2 a1 h0) fun h3 =>
    Option.bind (getI h3 10 3 (some this)) fun v4 =>
    if a1 ≤ v4 then (
      Option.bind (getI h3 10 3 (some this)) fun v6 =>
      if v6 ≤ a1 then (
        Option.bind (putV h3 10 3 (some this) (.int a1)) fun h8 =>
        some h8
      ) else (
        Option.bind (putV h3 10 2 (some this) (.int (1 : Int32))) fun h9 =>
        Option.bind (putV h9 10 3 (some this) (.int a1)) fun h10 =>
        some h10
      )
    ) else (
      none
    )
  ) else (
    none
  )
set_option maxHeartbeats 4000000 in
theorem w_J4_setLength (l : Launch) (hl : l.stackTraces = false) (D : va_G) (dA : Nat → ClassId) (h0 : HH) (this : Nat) (a1 : Int32) (hE : HH) (hF : F_J4_setLength this a1 h0 = some hE) : MC D dA l yJ4_setLength cJ4_setLength 2 (Option.none : Option Jvm.ClassFile.FieldType) [] 4 91 [va_rf (some this), .int a1] h0 (.inr none, hE) := by
  refine mc_of hl (plainFor_of_name pn_J4) (by simp [lg_sl, cat_rf, cat_i, cat_j, cat_f, cat_d]) ?_
  intro p e s m args below meth c R hRf hRl X hr hnm
  unfold F_J4_setLength at hF
  rw [show argL [va_rf (some this), .int a1] = [some (va_rf (some this)), some (.int a1)] from by simp [argL, cat_rf, cat_i, cat_j, cat_f, cat_d]]
  refine g_iload_n X dJ4_setLength_0 rfl rfl ?_
  refine g_if_ge X 13 dJ4_setLength_1 (by decide) (fun c1 => ?_) (fun c1 => ?_)
  · have hF := (if_pos c1).symm.trans hF
    refine g_aload_n X dJ4_setLength_13 rfl rfl ?_
    refine g_iload_n X dJ4_setLength_14 rfl rfl ?_
    obtain ⟨ob2, eob2, hF⟩ := bnd hF
    obtain ⟨h3, eh3, hF⟩ := bnd hF
    refine g_callP X eob2 rfl (w_J4_ensureCapacityInternal l hl D dA h0 ob2 a1 h3 eh3) q929 q931 q950 rfl okn_J4_isLatin1 (nw_in q930 rfl) q99 q932 okn_J4_ensureCapacityInternal ⟨by rw [hRf]; exact Nat.le_of_ble_eq_true rfl, by rw [hRl]; exact Nat.le_of_ble_eq_true rfl⟩ (As := [.int a1]) (rest := []) rfl (by first | exact Nat.le_of_ble_eq_true rfl | simp [cat_rf, cat_i, cat_j, cat_f, cat_d]) dJ4_setLength_15 (ac_0 ?_)
    refine g_aload_n X dJ4_setLength_18 rfl rfl ?_
    obtain ⟨v4, ev4, hF⟩ := bnd hF
    refine g_get (k := 3) X in_J5 rfl (by decide) q243 (Or.inl rfl) (getI_V ev4) dJ4_setLength_19 ?_
    refine g_iload_n X dJ4_setLength_22 rfl rfl ?_
    refine g_icmp_ge X 63 dJ4_setLength_23 (by decide) (fun c5 => ?_) (fun c5 => ?_)
    · have hF := (if_pos c5).symm.trans hF
      refine g_aload_n X dJ4_setLength_63 rfl rfl ?_
      obtain ⟨v6, ev6, hF⟩ := bnd hF
      refine g_get (k := 3) X in_J5 rfl (by decide) q243 (Or.inl rfl) (getI_V ev6) dJ4_setLength_64 ?_
      refine g_iload_n X dJ4_setLength_67 rfl rfl ?_
      refine g_icmp_le X 76 dJ4_setLength_68 (by decide) (fun c7 => ?_) (fun c7 => ?_)
      · have hF := (if_pos c7).symm.trans hF
        refine g_aload_n X dJ4_setLength_76 rfl rfl ?_
        refine g_iload_n X dJ4_setLength_77 rfl rfl ?_
        obtain ⟨h8, eh8, hF⟩ := bnd hF
        refine g_put (k := 3) X in_J5 tyJ5 tyJ5_ok nmJ5 rfl (by decide) q243 (Or.inl rfl) rfl (tyJ5_ok 3 (by decide)) rfl rfl eh8 dJ4_setLength_78 ?_
        cases hF
        exact g_vret X hr dJ4_setLength_81
      · have hF := (if_neg c7).symm.trans hF
        refine g_aload_n X dJ4_setLength_71 rfl rfl ?_
        refine g_iconst (v := (1 : Int32)) X dJ4_setLength_72 (by decide) ?_
        obtain ⟨h9, eh9, hF⟩ := bnd hF
        refine g_put (k := 2) X in_J5 tyJ5 tyJ5_ok nmJ5 rfl (by decide) q241 (Or.inl rfl) rfl (tyJ5_ok 2 (by decide)) rfl rfl eh9 dJ4_setLength_73 ?_
        refine g_aload_n X dJ4_setLength_76 rfl rfl ?_
        refine g_iload_n X dJ4_setLength_77 rfl rfl ?_
        obtain ⟨h10, eh10, hF⟩ := bnd hF
        refine g_put (k := 3) X in_J5 tyJ5 tyJ5_ok nmJ5 rfl (by decide) q243 (Or.inl rfl) rfl (tyJ5_ok 3 (by decide)) rfl rfl eh10 dJ4_setLength_78 ?_
        cases hF
        exact g_vret X hr dJ4_setLength_81
    · have hF := (if_neg c5).symm.trans hF
      cases hF
  · have hF := (if_neg c1).symm.trans hF
    cases hF
def F_J5_setLength (this : Nat) (a1 : Int32) (h0 : HH) : Option HH :=
  Option.bind (isO h0 10 (some this)) fun ob1 =>
  Option.bind (F_J4_setLength ob1 a1 h0) fun h2 =>
  some h2
set_option maxHeartbeats 4000000 in
theorem w_J5_setLength (l : Launch) (hl : l.stackTraces = false) (D : va_G) (dA : Nat → ClassId) (h0 : HH) (this : Nat) (a1 : Int32) (hE : HH) (hF : F_J5_setLength this a1 h0 = some hE) : MC D dA l yJ5_setLength cJ5_setLength 2 (Option.none : Option Jvm.ClassFile.FieldType) [] 5 112 [va_rf (some this), .int a1] h0 (.inr none, hE) := by
  refine mc_of hl (plainFor_of_name pn_J5) (by simp [lg_sl, cat_rf, cat_i, cat_j, cat_f, cat_d]) ?_
  intro p e s m args below meth c R hRf hRl X hr hnm
  unfold F_J5_setLength at hF
  rw [show argL [va_rf (some this), .int a1] = [some (va_rf (some this)), some (.int a1)] from by simp [argL, cat_rf, cat_i, cat_j, cat_f, cat_d]]
  refine g_aload_n X dJ5_setLength_0 rfl rfl ?_
  refine g_iload_n X dJ5_setLength_1 rfl rfl ?_
  obtain ⟨ob1, eob1, hF⟩ := bnd hF
  obtain ⟨h2, eh2, hF⟩ := bnd hF
  refine g_callSU X eob1 rfl (w_J4_setLength l hl D dA h0 ob1 a1 h2 eh2) q926 q927 q2390 q252 (by decide) q99 q928 okn_J4_setLength ⟨by rw [hRf]; exact Nat.le_of_ble_eq_true rfl, by rw [hRl]; exact Nat.le_of_ble_eq_true rfl⟩ (As := [.int a1]) (rest := []) rfl (by first | exact Nat.le_of_ble_eq_true rfl | simp [cat_rf, cat_i, cat_j, cat_f, cat_d]) dJ5_setLength_2 (ac_0 ?_)
  cases hF
  exact g_vret X hr dJ5_setLength_5
def F_X1_clearText (this : Nat) (h0 : HH) : Option (Int32 × HH) :=
  Option.bind (getR h0 0 3 (some this)) fun v1 =>
  Option.bind (isO h0 10 v1) fun ob2 =>
  Option.bind (F_J5_length ob2 h0) fun v3 =>
  Option.bind (getR h0 0 3 (some this)) fun v4 =>
  Option.bind (isO h0 10 v4) fun ob5 =>
  Option.bind (F_J5_setLength ob5 (0 : Int32) h0) fun h6 =>
  some (v3, h6)
set_option maxHeartbeats 4000000 in
theorem w_X1_clearText (l : Launch) (hl : l.stackTraces = false) (D : va_G) (dA : Nat → ClassId) (h0 : HH) (this : Nat) (rE : Int32) (hE : HH) (hF : F_X1_clearText this h0 = some (rE, hE)) : MC D dA l yX1_clearText cX1_clearText 2 (Option.some Jvm.ClassFile.FieldType.int) [] 6 133 [va_rf (some this)] h0 (.inr (some (.int rE)), hE) := by
  refine mc_of hl (plainFor_of_name pn_X1) (by simp [lg_sl, cat_rf, cat_i, cat_j, cat_f, cat_d]) ?_
  intro p e s m args below meth c R hRf hRl X hr hnm
  unfold F_X1_clearText at hF
  rw [show argL [va_rf (some this)] = [some (va_rf (some this))] from by simp [argL, cat_rf, cat_i, cat_j, cat_f, cat_d]]
  refine G.pad 1 (L' := [some (va_rf (some this)), none]) rfl ?_
  refine g_aload_n X dX1_clearText_0 rfl rfl ?_
  obtain ⟨v1, ev1, hF⟩ := bnd hF
  refine g_get (k := 3) X in_X1 rfl (by decide) q259 (Or.inl rfl) (getR_V ev1) dX1_clearText_1 ?_
  obtain ⟨ob2, eob2, hF⟩ := bnd hF
  obtain ⟨v3, ev3, hF⟩ := bnd hF
  refine g_callV X eob2 rfl rfl (w_J5_length l hl D dA h0 ob2  v3 ev3) q915 q916 q917 q100 q918 okn_J5_length ⟨by rw [hRf]; exact Nat.le_of_ble_eq_true rfl, by rw [hRl]; exact Nat.le_of_ble_eq_true rfl⟩ (As := []) (rest := []) rfl (by first | exact Nat.le_of_ble_eq_true rfl | simp [cat_rf, cat_i, cat_j, cat_f, cat_d]) dX1_clearText_4 (ac_v ?_)
  refine g_istore_n (L' := [some (va_rf (some this)), some (.int v3)]) X dX1_clearText_7 rfl (Nat.le_of_ble_eq_true rfl) (by first | rfl | simp [stL, rm1, clr2, cat_rf, cat_i, cat_j, cat_f, cat_d]) ?_
  refine g_aload_n X dX1_clearText_8 rfl rfl ?_
  obtain ⟨v4, ev4, hF⟩ := bnd hF
  refine g_get (k := 3) X in_X1 rfl (by decide) q259 (Or.inl rfl) (getR_V ev4) dX1_clearText_9 ?_
  refine g_iconst (v := (0 : Int32)) X dX1_clearText_12 (by decide) ?_
  obtain ⟨ob5, eob5, hF⟩ := bnd hF
  obtain ⟨h6, eh6, hF⟩ := bnd hF
  refine g_callV X eob5 rfl rfl (w_J5_setLength l hl D dA h0 ob5 (0 : Int32) h6 eh6) q922 q923 q924 q100 q925 okn_J5_setLength ⟨by rw [hRf]; exact Nat.le_of_ble_eq_true rfl, by rw [hRl]; exact Nat.le_of_ble_eq_true rfl⟩ (As := [.int (0 : Int32)]) (rest := []) rfl (by first | exact Nat.le_of_ble_eq_true rfl | simp [cat_rf, cat_i, cat_j, cat_f, cat_d]) dX1_clearText_13 (ac_0 ?_)
  refine g_iload_n X dX1_clearText_16 rfl rfl ?_
  cases hF
  exact g_iret X hr dX1_clearText_17
def F_X1_tell (this : Nat) (a1 : Int32) (a2 : Int32) (a3 : Int32) (h0 : HH) : Option (((Nat × String) ⊕ Int32) × HH) :=
  Option.bind (newA h0 0 (3 : Int32)) fun h1 =>
  Option.bind (astI h1 (some (hSz h0)) (0 : Int32) a1) fun h2 =>
  Option.bind (astI h2 (some (hSz h0)) (1 : Int32) a2) fun h3 =>
  Option.bind (astI h3 (some (hSz h0)) (2 : Int32) a3) fun h4 =>
  Option.bind (isO h4 0 (some this)) fun ob5 =>
  thr (F_X1_act ob5 (100 : Int32) (some (hSz h0)) h4) (fun q8 h6 =>
    some (.inl q8, h6)
  ) (fun v7 h6 =>
    some (.inr (if v7 ≤ 0 then (0 : Int32) else (1 : Int32)), h6)
  )
set_option maxHeartbeats 4000000 in
theorem w_X1_tell (l : Launch) (hl : l.stackTraces = false) (D : va_G) (dA : Nat → ClassId) (h0 : HH) (this : Nat) (a1 : Int32) (a2 : Int32) (a3 : Int32) (oE : (Nat × String) ⊕ Int32) (hE : HH) (hF : F_X1_tell this a1 a2 a3 h0 = some (oE, hE)) : MC D dA l yX1_tell cX1_tell 4 (Option.some Jvm.ClassFile.FieldType.boolean) [] 16 436 [va_rf (some this), .int a1, .int a2, .int a3] h0 (rsI oE, hE) := by
  refine mc_of hl (plainFor_of_name pn_X1) (by simp [lg_sl, cat_rf, cat_i, cat_j, cat_f, cat_d]) ?_
  intro p e s m args below meth c R hRf hRl X hr hnm
  unfold F_X1_tell at hF
  rw [show argL [va_rf (some this), .int a1, .int a2, .int a3] = [some (va_rf (some this)), some (.int a1), some (.int a2), some (.int a3)] from by simp [argL, cat_rf, cat_i, cat_j, cat_f, cat_d]]
  refine g_aload_n X dX1_tell_0 rfl rfl ?_
  refine g_bipush (v := (100 : Int32)) X dX1_tell_1 (by decide) ?_
  refine g_iconst (v := (3 : Int32)) X dX1_tell_3 (by decide) ?_
  obtain ⟨h1, eh1, hF⟩ := bnd hF
  refine g_newa (atype := .int) (t := 0) X q182 rfl (funext fun _ => rfl) (by decide) eh1 dX1_tell_4 ?_
  refine g_dup X dX1_tell_6 (cat_rf _) ?_
  refine g_iconst (v := (0 : Int32)) X dX1_tell_7 (by decide) ?_
  refine g_iload_n X dX1_tell_8 rfl rfl ?_
  obtain ⟨h2, eh2, hF⟩ := bnd hF
  refine g_iast X eh2 dX1_tell_9 ?_
  refine g_dup X dX1_tell_10 (cat_rf _) ?_
  refine g_iconst (v := (1 : Int32)) X dX1_tell_11 (by decide) ?_
  refine g_iload_n X dX1_tell_12 rfl rfl ?_
  obtain ⟨h3, eh3, hF⟩ := bnd hF
  refine g_iast X eh3 dX1_tell_13 ?_
  refine g_dup X dX1_tell_14 (cat_rf _) ?_
  refine g_iconst (v := (2 : Int32)) X dX1_tell_15 (by decide) ?_
  refine g_iload_n X dX1_tell_16 rfl rfl ?_
  obtain ⟨h4, eh4, hF⟩ := bnd hF
  refine g_iast X eh4 dX1_tell_17 ?_
  obtain ⟨ob5, eob5, hF⟩ := bnd hF
  rcases thr_some hF with ⟨q8, h6, e9, hF⟩ | ⟨v7, h6, e9, hF⟩
  · refine g_callV X eob5 rfl rfl (w_X1_act l hl D dA h4 ob5 (100 : Int32) (some (hSz h0)) (.inl q8) h6 e9) q273 q275 qs0 q92 q276 okn_X1_act ⟨by rw [hRf]; exact Nat.le_of_ble_eq_true rfl, by rw [hRl]; exact Nat.le_of_ble_eq_true rfl⟩ (As := [.int (100 : Int32), va_rf (some (hSz h0))]) (rest := []) rfl (by first | exact Nat.le_of_ble_eq_true rfl | simp [cat_rf, cat_i, cat_j, cat_f, cat_d]) dX1_tell_18 (ac_x ?_)
    cases hF
    exact gx_out X (fun x hx => nomatch hx)
  · refine g_callV X eob5 rfl rfl (w_X1_act l hl D dA h4 ob5 (100 : Int32) (some (hSz h0)) (.inr v7) h6 e9) q273 q275 qs0 q92 q276 okn_X1_act ⟨by rw [hRf]; exact Nat.le_of_ble_eq_true rfl, by rw [hRl]; exact Nat.le_of_ble_eq_true rfl⟩ (As := [.int (100 : Int32), va_rf (some (hSz h0))]) (rest := []) rfl (by first | exact Nat.le_of_ble_eq_true rfl | simp [cat_rf, cat_i, cat_j, cat_f, cat_d]) dX1_tell_18 (ac_v ?_)
    suffices K : G p l e R s m args below meth c (RQ D dA h0 (rsI oE, hE) below s) D dA h0 4 h6 29 [none, none, none, none] [.int (if v7 ≤ 0 then (0 : Int32) else (1 : Int32))] by
      refine g_if_le X 28 dX1_tell_21 (by decide) (fun c10 => ?_) (fun c10 => ?_)
      · (try simp only [if_pos c10] at K)
        refine g_iconst (v := (0 : Int32)) X dX1_tell_28 (by decide) ?_
        refine G.drop [false, false, false, false] rfl ?_
        first | exact K | (simp only [if_pos c10]; exact K)
      · (try simp only [if_neg c10] at K)
        refine g_iconst (v := (1 : Int32)) X dX1_tell_24 (by decide) ?_
        refine g_goto X 29 dX1_tell_25 (by decide) ?_
        refine G.drop [false, false, false, false] rfl ?_
        first | exact K | (simp only [if_neg c10]; exact K)
    cases hF
    exact g_zret X hr (by (repeat' split) <;> rfl) dX1_tell_29
def F_X1_forget (this : Nat) (a1 : Int32) (a2 : Int32) (h0 : HH) : Option (((Nat × String) ⊕ Int32) × HH) :=
  Option.bind (newA h0 0 (2 : Int32)) fun h1 =>
  Option.bind (astI h1 (some (hSz h0)) (0 : Int32) a1) fun h2 =>
  Option.bind (astI h2 (some (hSz h0)) (1 : Int32) a2) fun h3 =>
  Option.bind (isO h3 0 (some this)) fun ob4 =>
  thr (F_X1_act ob4 (120 : Int32) (some (hSz h0)) h3) (fun q7 h5 =>
    some (.inl q7, h5)
  ) (fun v6 h5 =>
    some (.inr (if v6 ≤ 0 then (0 : Int32) else (1 : Int32)), h5)
  )
set_option maxHeartbeats 4000000 in
theorem w_X1_forget (l : Launch) (hl : l.stackTraces = false) (D : va_G) (dA : Nat → ClassId) (h0 : HH) (this : Nat) (a1 : Int32) (a2 : Int32) (oE : (Nat × String) ⊕ Int32) (hE : HH) (hF : F_X1_forget this a1 a2 h0 = some (oE, hE)) : MC D dA l yX1_forget cX1_forget 3 (Option.some Jvm.ClassFile.FieldType.boolean) [] 16 436 [va_rf (some this), .int a1, .int a2] h0 (rsI oE, hE) := by
  refine mc_of hl (plainFor_of_name pn_X1) (by simp [lg_sl, cat_rf, cat_i, cat_j, cat_f, cat_d]) ?_
  intro p e s m args below meth c R hRf hRl X hr hnm
  unfold F_X1_forget at hF
  rw [show argL [va_rf (some this), .int a1, .int a2] = [some (va_rf (some this)), some (.int a1), some (.int a2)] from by simp [argL, cat_rf, cat_i, cat_j, cat_f, cat_d]]
  refine g_aload_n X dX1_forget_0 rfl rfl ?_
  refine g_bipush (v := (120 : Int32)) X dX1_forget_1 (by decide) ?_
  refine g_iconst (v := (2 : Int32)) X dX1_forget_3 (by decide) ?_
  obtain ⟨h1, eh1, hF⟩ := bnd hF
  refine g_newa (atype := .int) (t := 0) X q182 rfl (funext fun _ => rfl) (by decide) eh1 dX1_forget_4 ?_
  refine g_dup X dX1_forget_6 (cat_rf _) ?_
  refine g_iconst (v := (0 : Int32)) X dX1_forget_7 (by decide) ?_
  refine g_iload_n X dX1_forget_8 rfl rfl ?_
  obtain ⟨h2, eh2, hF⟩ := bnd hF
  refine g_iast X eh2 dX1_forget_9 ?_
  refine g_dup X dX1_forget_10 (cat_rf _) ?_
  refine g_iconst (v := (1 : Int32)) X dX1_forget_11 (by decide) ?_
  refine g_iload_n X dX1_forget_12 rfl rfl ?_
  obtain ⟨h3, eh3, hF⟩ := bnd hF
  refine g_iast X eh3 dX1_forget_13 ?_
  obtain ⟨ob4, eob4, hF⟩ := bnd hF
  rcases thr_some hF with ⟨q7, h5, e8, hF⟩ | ⟨v6, h5, e8, hF⟩
  · refine g_callV X eob4 rfl rfl (w_X1_act l hl D dA h3 ob4 (120 : Int32) (some (hSz h0)) (.inl q7) h5 e8) q273 q275 qs0 q92 q276 okn_X1_act ⟨by rw [hRf]; exact Nat.le_of_ble_eq_true rfl, by rw [hRl]; exact Nat.le_of_ble_eq_true rfl⟩ (As := [.int (120 : Int32), va_rf (some (hSz h0))]) (rest := []) rfl (by first | exact Nat.le_of_ble_eq_true rfl | simp [cat_rf, cat_i, cat_j, cat_f, cat_d]) dX1_forget_14 (ac_x ?_)
    cases hF
    exact gx_out X (fun x hx => nomatch hx)
  · refine g_callV X eob4 rfl rfl (w_X1_act l hl D dA h3 ob4 (120 : Int32) (some (hSz h0)) (.inr v6) h5 e8) q273 q275 qs0 q92 q276 okn_X1_act ⟨by rw [hRf]; exact Nat.le_of_ble_eq_true rfl, by rw [hRl]; exact Nat.le_of_ble_eq_true rfl⟩ (As := [.int (120 : Int32), va_rf (some (hSz h0))]) (rest := []) rfl (by first | exact Nat.le_of_ble_eq_true rfl | simp [cat_rf, cat_i, cat_j, cat_f, cat_d]) dX1_forget_14 (ac_v ?_)
    suffices K : G p l e R s m args below meth c (RQ D dA h0 (rsI oE, hE) below s) D dA h0 3 h5 25 [none, none, none] [.int (if v6 ≤ 0 then (0 : Int32) else (1 : Int32))] by
      refine g_if_le X 24 dX1_forget_17 (by decide) (fun c9 => ?_) (fun c9 => ?_)
      · (try simp only [if_pos c9] at K)
        refine g_iconst (v := (0 : Int32)) X dX1_forget_24 (by decide) ?_
        refine G.drop [false, false, false] rfl ?_
        first | exact K | (simp only [if_pos c9]; exact K)
      · (try simp only [if_neg c9] at K)
        refine g_iconst (v := (1 : Int32)) X dX1_forget_20 (by decide) ?_
        refine g_goto X 25 dX1_forget_21 (by decide) ?_
        refine G.drop [false, false, false] rfl ?_
        first | exact K | (simp only [if_neg c9]; exact K)
    cases hF
    exact g_zret X hr (by (repeat' split) <;> rfl) dX1_forget_25
def F_X1_tighten (this : Nat) (h0 : HH) : Option (((Nat × String) ⊕ Int32) × HH) :=
  Option.bind (newA h0 0 (0 : Int32)) fun h1 =>
  Option.bind (isO h1 0 (some this)) fun ob2 =>
  thr (F_X1_act ob2 (116 : Int32) (some (hSz h0)) h1) (fun q5 h3 =>
    some (.inl q5, h3)
  ) (fun v4 h3 =>
    some (.inr v4, h3)
  )
set_option maxHeartbeats 4000000 in
theorem w_X1_tighten (l : Launch) (hl : l.stackTraces = false) (D : va_G) (dA : Nat → ClassId) (h0 : HH) (this : Nat) (oE : (Nat × String) ⊕ Int32) (hE : HH) (hF : F_X1_tighten this h0 = some (oE, hE)) : MC D dA l yX1_tighten cX1_tighten 1 (Option.some Jvm.ClassFile.FieldType.int) [] 16 436 [va_rf (some this)] h0 (rsI oE, hE) := by
  refine mc_of hl (plainFor_of_name pn_X1) (by simp [lg_sl, cat_rf, cat_i, cat_j, cat_f, cat_d]) ?_
  intro p e s m args below meth c R hRf hRl X hr hnm
  unfold F_X1_tighten at hF
  rw [show argL [va_rf (some this)] = [some (va_rf (some this))] from by simp [argL, cat_rf, cat_i, cat_j, cat_f, cat_d]]
  refine g_aload_n X dX1_tighten_0 rfl rfl ?_
  refine g_bipush (v := (116 : Int32)) X dX1_tighten_1 (by decide) ?_
  refine g_iconst (v := (0 : Int32)) X dX1_tighten_3 (by decide) ?_
  obtain ⟨h1, eh1, hF⟩ := bnd hF
  refine g_newa (atype := .int) (t := 0) X q182 rfl (funext fun _ => rfl) (by decide) eh1 dX1_tighten_4 ?_
  obtain ⟨ob2, eob2, hF⟩ := bnd hF
  rcases thr_some hF with ⟨q5, h3, e6, hF⟩ | ⟨v4, h3, e6, hF⟩
  · refine g_callV X eob2 rfl rfl (w_X1_act l hl D dA h1 ob2 (116 : Int32) (some (hSz h0)) (.inl q5) h3 e6) q273 q275 qs0 q92 q276 okn_X1_act ⟨by rw [hRf]; exact Nat.le_of_ble_eq_true rfl, by rw [hRl]; exact Nat.le_of_ble_eq_true rfl⟩ (As := [.int (116 : Int32), va_rf (some (hSz h0))]) (rest := []) rfl (by first | exact Nat.le_of_ble_eq_true rfl | simp [cat_rf, cat_i, cat_j, cat_f, cat_d]) dX1_tighten_6 (ac_x ?_)
    cases hF
    exact gx_out X (fun x hx => nomatch hx)
  · refine g_callV X eob2 rfl rfl (w_X1_act l hl D dA h1 ob2 (116 : Int32) (some (hSz h0)) (.inr v4) h3 e6) q273 q275 qs0 q92 q276 okn_X1_act ⟨by rw [hRf]; exact Nat.le_of_ble_eq_true rfl, by rw [hRl]; exact Nat.le_of_ble_eq_true rfl⟩ (As := [.int (116 : Int32), va_rf (some (hSz h0))]) (rest := []) rfl (by first | exact Nat.le_of_ble_eq_true rfl | simp [cat_rf, cat_i, cat_j, cat_f, cat_d]) dX1_tighten_6 (ac_v ?_)
    cases hF
    exact g_iret X hr dX1_tighten_9
def F_X1_reset (this : Nat) (a1 : Int32) (a2 : Int32) (h0 : HH) : Option (((Nat × String) ⊕ Int32) × HH) :=
  Option.bind (newA h0 0 (2 : Int32)) fun h1 =>
  Option.bind (astI h1 (some (hSz h0)) (0 : Int32) a1) fun h2 =>
  Option.bind (astI h2 (some (hSz h0)) (1 : Int32) a2) fun h3 =>
  Option.bind (isO h3 0 (some this)) fun ob4 =>
  thr (F_X1_act ob4 (114 : Int32) (some (hSz h0)) h3) (fun q7 h5 =>
    some (.inl q7, h5)
  ) (fun v6 h5 =>
    some (.inr v6, h5)
  )
set_option maxHeartbeats 4000000 in
theorem w_X1_reset (l : Launch) (hl : l.stackTraces = false) (D : va_G) (dA : Nat → ClassId) (h0 : HH) (this : Nat) (a1 : Int32) (a2 : Int32) (oE : (Nat × String) ⊕ Int32) (hE : HH) (hF : F_X1_reset this a1 a2 h0 = some (oE, hE)) : MC D dA l yX1_reset cX1_reset 3 (Option.some Jvm.ClassFile.FieldType.int) [] 16 436 [va_rf (some this), .int a1, .int a2] h0 (rsI oE, hE) := by
  refine mc_of hl (plainFor_of_name pn_X1) (by simp [lg_sl, cat_rf, cat_i, cat_j, cat_f, cat_d]) ?_
  intro p e s m args below meth c R hRf hRl X hr hnm
  unfold F_X1_reset at hF
  rw [show argL [va_rf (some this), .int a1, .int a2] = [some (va_rf (some this)), some (.int a1), some (.int a2)] from by simp [argL, cat_rf, cat_i, cat_j, cat_f, cat_d]]
  refine g_aload_n X dX1_reset_0 rfl rfl ?_
  refine g_bipush (v := (114 : Int32)) X dX1_reset_1 (by decide) ?_
  refine g_iconst (v := (2 : Int32)) X dX1_reset_3 (by decide) ?_
  obtain ⟨h1, eh1, hF⟩ := bnd hF
  refine g_newa (atype := .int) (t := 0) X q182 rfl (funext fun _ => rfl) (by decide) eh1 dX1_reset_4 ?_
  refine g_dup X dX1_reset_6 (cat_rf _) ?_
  refine g_iconst (v := (0 : Int32)) X dX1_reset_7 (by decide) ?_
  refine g_iload_n X dX1_reset_8 rfl rfl ?_
  obtain ⟨h2, eh2, hF⟩ := bnd hF
  refine g_iast X eh2 dX1_reset_9 ?_
  refine g_dup X dX1_reset_10 (cat_rf _) ?_
  refine g_iconst (v := (1 : Int32)) X dX1_reset_11 (by decide) ?_
  refine g_iload_n X dX1_reset_12 rfl rfl ?_
  obtain ⟨h3, eh3, hF⟩ := bnd hF
  refine g_iast X eh3 dX1_reset_13 ?_
  obtain ⟨ob4, eob4, hF⟩ := bnd hF
  rcases thr_some hF with ⟨q7, h5, e8, hF⟩ | ⟨v6, h5, e8, hF⟩
  · refine g_callV X eob4 rfl rfl (w_X1_act l hl D dA h3 ob4 (114 : Int32) (some (hSz h0)) (.inl q7) h5 e8) q273 q275 qs0 q92 q276 okn_X1_act ⟨by rw [hRf]; exact Nat.le_of_ble_eq_true rfl, by rw [hRl]; exact Nat.le_of_ble_eq_true rfl⟩ (As := [.int (114 : Int32), va_rf (some (hSz h0))]) (rest := []) rfl (by first | exact Nat.le_of_ble_eq_true rfl | simp [cat_rf, cat_i, cat_j, cat_f, cat_d]) dX1_reset_14 (ac_x ?_)
    cases hF
    exact gx_out X (fun x hx => nomatch hx)
  · refine g_callV X eob4 rfl rfl (w_X1_act l hl D dA h3 ob4 (114 : Int32) (some (hSz h0)) (.inr v6) h5 e8) q273 q275 qs0 q92 q276 okn_X1_act ⟨by rw [hRf]; exact Nat.le_of_ble_eq_true rfl, by rw [hRl]; exact Nat.le_of_ble_eq_true rfl⟩ (As := [.int (114 : Int32), va_rf (some (hSz h0))]) (rest := []) rfl (by first | exact Nat.le_of_ble_eq_true rfl | simp [cat_rf, cat_i, cat_j, cat_f, cat_d]) dX1_reset_14 (ac_v ?_)
    cases hF
    exact g_iret X hr dX1_reset_17
def F_X1_delay (this : Nat) (h0 : HH) : Option (((Nat × String) ⊕ Int32) × HH) :=
  Option.bind (newA h0 0 (0 : Int32)) fun h1 =>
  Option.bind (isO h1 0 (some this)) fun ob2 =>
  thr (F_X1_act ob2 (119 : Int32) (some (hSz h0)) h1) (fun q5 h3 =>
    some (.inl q5, h3)
  ) (fun v4 h3 =>
    some (.inr v4, h3)
  )
set_option maxHeartbeats 4000000 in
theorem w_X1_delay (l : Launch) (hl : l.stackTraces = false) (D : va_G) (dA : Nat → ClassId) (h0 : HH) (this : Nat) (oE : (Nat × String) ⊕ Int32) (hE : HH) (hF : F_X1_delay this h0 = some (oE, hE)) : MC D dA l yX1_delay cX1_delay 1 (Option.some Jvm.ClassFile.FieldType.int) [] 16 436 [va_rf (some this)] h0 (rsI oE, hE) := by
  refine mc_of hl (plainFor_of_name pn_X1) (by simp [lg_sl, cat_rf, cat_i, cat_j, cat_f, cat_d]) ?_
  intro p e s m args below meth c R hRf hRl X hr hnm
  unfold F_X1_delay at hF
  rw [show argL [va_rf (some this)] = [some (va_rf (some this))] from by simp [argL, cat_rf, cat_i, cat_j, cat_f, cat_d]]
  refine g_aload_n X dX1_delay_0 rfl rfl ?_
  refine g_bipush (v := (119 : Int32)) X dX1_delay_1 (by decide) ?_
  refine g_iconst (v := (0 : Int32)) X dX1_delay_3 (by decide) ?_
  obtain ⟨h1, eh1, hF⟩ := bnd hF
  refine g_newa (atype := .int) (t := 0) X q182 rfl (funext fun _ => rfl) (by decide) eh1 dX1_delay_4 ?_
  obtain ⟨ob2, eob2, hF⟩ := bnd hF
  rcases thr_some hF with ⟨q5, h3, e6, hF⟩ | ⟨v4, h3, e6, hF⟩
  · refine g_callV X eob2 rfl rfl (w_X1_act l hl D dA h1 ob2 (119 : Int32) (some (hSz h0)) (.inl q5) h3 e6) q273 q275 qs0 q92 q276 okn_X1_act ⟨by rw [hRf]; exact Nat.le_of_ble_eq_true rfl, by rw [hRl]; exact Nat.le_of_ble_eq_true rfl⟩ (As := [.int (119 : Int32), va_rf (some (hSz h0))]) (rest := []) rfl (by first | exact Nat.le_of_ble_eq_true rfl | simp [cat_rf, cat_i, cat_j, cat_f, cat_d]) dX1_delay_6 (ac_x ?_)
    cases hF
    exact gx_out X (fun x hx => nomatch hx)
  · refine g_callV X eob2 rfl rfl (w_X1_act l hl D dA h1 ob2 (119 : Int32) (some (hSz h0)) (.inr v4) h3 e6) q273 q275 qs0 q92 q276 okn_X1_act ⟨by rw [hRf]; exact Nat.le_of_ble_eq_true rfl, by rw [hRl]; exact Nat.le_of_ble_eq_true rfl⟩ (As := [.int (119 : Int32), va_rf (some (hSz h0))]) (rest := []) rfl (by first | exact Nat.le_of_ble_eq_true rfl | simp [cat_rf, cat_i, cat_j, cat_f, cat_d]) dX1_delay_6 (ac_v ?_)
    cases hF
    exact g_iret X hr dX1_delay_9
def F_X1_goBackInTime (this : Nat) (h0 : HH) : Option (((Nat × String) ⊕ Int32) × HH) :=
  Option.bind (newA h0 0 (0 : Int32)) fun h1 =>
  Option.bind (isO h1 0 (some this)) fun ob2 =>
  thr (F_X1_act ob2 (98 : Int32) (some (hSz h0)) h1) (fun q5 h3 =>
    some (.inl q5, h3)
  ) (fun v4 h3 =>
    some (.inr v4, h3)
  )
set_option maxHeartbeats 4000000 in
theorem w_X1_goBackInTime (l : Launch) (hl : l.stackTraces = false) (D : va_G) (dA : Nat → ClassId) (h0 : HH) (this : Nat) (oE : (Nat × String) ⊕ Int32) (hE : HH) (hF : F_X1_goBackInTime this h0 = some (oE, hE)) : MC D dA l yX1_goBackInTime cX1_goBackInTime 1 (Option.some Jvm.ClassFile.FieldType.int) [] 16 436 [va_rf (some this)] h0 (rsI oE, hE) := by
  refine mc_of hl (plainFor_of_name pn_X1) (by simp [lg_sl, cat_rf, cat_i, cat_j, cat_f, cat_d]) ?_
  intro p e s m args below meth c R hRf hRl X hr hnm
  unfold F_X1_goBackInTime at hF
  rw [show argL [va_rf (some this)] = [some (va_rf (some this))] from by simp [argL, cat_rf, cat_i, cat_j, cat_f, cat_d]]
  refine g_aload_n X dX1_goBackInTime_0 rfl rfl ?_
  refine g_bipush (v := (98 : Int32)) X dX1_goBackInTime_1 (by decide) ?_
  refine g_iconst (v := (0 : Int32)) X dX1_goBackInTime_3 (by decide) ?_
  obtain ⟨h1, eh1, hF⟩ := bnd hF
  refine g_newa (atype := .int) (t := 0) X q182 rfl (funext fun _ => rfl) (by decide) eh1 dX1_goBackInTime_4 ?_
  obtain ⟨ob2, eob2, hF⟩ := bnd hF
  rcases thr_some hF with ⟨q5, h3, e6, hF⟩ | ⟨v4, h3, e6, hF⟩
  · refine g_callV X eob2 rfl rfl (w_X1_act l hl D dA h1 ob2 (98 : Int32) (some (hSz h0)) (.inl q5) h3 e6) q273 q275 qs0 q92 q276 okn_X1_act ⟨by rw [hRf]; exact Nat.le_of_ble_eq_true rfl, by rw [hRl]; exact Nat.le_of_ble_eq_true rfl⟩ (As := [.int (98 : Int32), va_rf (some (hSz h0))]) (rest := []) rfl (by first | exact Nat.le_of_ble_eq_true rfl | simp [cat_rf, cat_i, cat_j, cat_f, cat_d]) dX1_goBackInTime_6 (ac_x ?_)
    cases hF
    exact gx_out X (fun x hx => nomatch hx)
  · refine g_callV X eob2 rfl rfl (w_X1_act l hl D dA h1 ob2 (98 : Int32) (some (hSz h0)) (.inr v4) h3 e6) q273 q275 qs0 q92 q276 okn_X1_act ⟨by rw [hRf]; exact Nat.le_of_ble_eq_true rfl, by rw [hRl]; exact Nat.le_of_ble_eq_true rfl⟩ (As := [.int (98 : Int32), va_rf (some (hSz h0))]) (rest := []) rfl (by first | exact Nat.le_of_ble_eq_true rfl | simp [cat_rf, cat_i, cat_j, cat_f, cat_d]) dX1_goBackInTime_6 (ac_v ?_)
    cases hF
    exact g_iret X hr dX1_goBackInTime_9
def F_X1_setFree (this : Nat) (a1 : Int32) (h0 : HH) : Option (((Nat × String) ⊕ Int32) × HH) :=
  Option.bind (newA h0 0 (1 : Int32)) fun h1 =>
  Option.bind (astI h1 (some (hSz h0)) (0 : Int32) a1) fun h2 =>
  Option.bind (isO h2 0 (some this)) fun ob3 =>
  thr (F_X1_act ob3 (102 : Int32) (some (hSz h0)) h2) (fun q6 h4 =>
    some (.inl q6, h4)
  ) (fun v5 h4 =>
    some (.inr v5, h4)
  )
set_option maxHeartbeats 4000000 in
theorem w_X1_setFree (l : Launch) (hl : l.stackTraces = false) (D : va_G) (dA : Nat → ClassId) (h0 : HH) (this : Nat) (a1 : Int32) (oE : (Nat × String) ⊕ Int32) (hE : HH) (hF : F_X1_setFree this a1 h0 = some (oE, hE)) : MC D dA l yX1_setFree cX1_setFree 2 (Option.some Jvm.ClassFile.FieldType.int) [] 16 436 [va_rf (some this), .int a1] h0 (rsI oE, hE) := by
  refine mc_of hl (plainFor_of_name pn_X1) (by simp [lg_sl, cat_rf, cat_i, cat_j, cat_f, cat_d]) ?_
  intro p e s m args below meth c R hRf hRl X hr hnm
  unfold F_X1_setFree at hF
  rw [show argL [va_rf (some this), .int a1] = [some (va_rf (some this)), some (.int a1)] from by simp [argL, cat_rf, cat_i, cat_j, cat_f, cat_d]]
  refine g_aload_n X dX1_setFree_0 rfl rfl ?_
  refine g_bipush (v := (102 : Int32)) X dX1_setFree_1 (by decide) ?_
  refine g_iconst (v := (1 : Int32)) X dX1_setFree_3 (by decide) ?_
  obtain ⟨h1, eh1, hF⟩ := bnd hF
  refine g_newa (atype := .int) (t := 0) X q182 rfl (funext fun _ => rfl) (by decide) eh1 dX1_setFree_4 ?_
  refine g_dup X dX1_setFree_6 (cat_rf _) ?_
  refine g_iconst (v := (0 : Int32)) X dX1_setFree_7 (by decide) ?_
  refine g_iload_n X dX1_setFree_8 rfl rfl ?_
  obtain ⟨h2, eh2, hF⟩ := bnd hF
  refine g_iast X eh2 dX1_setFree_9 ?_
  obtain ⟨ob3, eob3, hF⟩ := bnd hF
  rcases thr_some hF with ⟨q6, h4, e7, hF⟩ | ⟨v5, h4, e7, hF⟩
  · refine g_callV X eob3 rfl rfl (w_X1_act l hl D dA h2 ob3 (102 : Int32) (some (hSz h0)) (.inl q6) h4 e7) q273 q275 qs0 q92 q276 okn_X1_act ⟨by rw [hRf]; exact Nat.le_of_ble_eq_true rfl, by rw [hRl]; exact Nat.le_of_ble_eq_true rfl⟩ (As := [.int (102 : Int32), va_rf (some (hSz h0))]) (rest := []) rfl (by first | exact Nat.le_of_ble_eq_true rfl | simp [cat_rf, cat_i, cat_j, cat_f, cat_d]) dX1_setFree_10 (ac_x ?_)
    cases hF
    exact gx_out X (fun x hx => nomatch hx)
  · refine g_callV X eob3 rfl rfl (w_X1_act l hl D dA h2 ob3 (102 : Int32) (some (hSz h0)) (.inr v5) h4 e7) q273 q275 qs0 q92 q276 okn_X1_act ⟨by rw [hRf]; exact Nat.le_of_ble_eq_true rfl, by rw [hRl]; exact Nat.le_of_ble_eq_true rfl⟩ (As := [.int (102 : Int32), va_rf (some (hSz h0))]) (rest := []) rfl (by first | exact Nat.le_of_ble_eq_true rfl | simp [cat_rf, cat_i, cat_j, cat_f, cat_d]) dX1_setFree_10 (ac_v ?_)
    cases hF
    exact g_iret X hr dX1_setFree_13
def F_X1_copyClock (this : Nat) (a1 : Int32) (a2 : Int32) (h0 : HH) : Option (((Nat × String) ⊕ Int32) × HH) :=
  Option.bind (newA h0 0 (2 : Int32)) fun h1 =>
  Option.bind (astI h1 (some (hSz h0)) (0 : Int32) a1) fun h2 =>
  Option.bind (astI h2 (some (hSz h0)) (1 : Int32) a2) fun h3 =>
  Option.bind (isO h3 0 (some this)) fun ob4 =>
  thr (F_X1_act ob4 (99 : Int32) (some (hSz h0)) h3) (fun q7 h5 =>
    some (.inl q7, h5)
  ) (fun v6 h5 =>
    some (.inr v6, h5)
  )
set_option maxHeartbeats 4000000 in
theorem w_X1_copyClock (l : Launch) (hl : l.stackTraces = false) (D : va_G) (dA : Nat → ClassId) (h0 : HH) (this : Nat) (a1 : Int32) (a2 : Int32) (oE : (Nat × String) ⊕ Int32) (hE : HH) (hF : F_X1_copyClock this a1 a2 h0 = some (oE, hE)) : MC D dA l yX1_copyClock cX1_copyClock 3 (Option.some Jvm.ClassFile.FieldType.int) [] 16 436 [va_rf (some this), .int a1, .int a2] h0 (rsI oE, hE) := by
  refine mc_of hl (plainFor_of_name pn_X1) (by simp [lg_sl, cat_rf, cat_i, cat_j, cat_f, cat_d]) ?_
  intro p e s m args below meth c R hRf hRl X hr hnm
  unfold F_X1_copyClock at hF
  rw [show argL [va_rf (some this), .int a1, .int a2] = [some (va_rf (some this)), some (.int a1), some (.int a2)] from by simp [argL, cat_rf, cat_i, cat_j, cat_f, cat_d]]
  refine g_aload_n X dX1_copyClock_0 rfl rfl ?_
  refine g_bipush (v := (99 : Int32)) X dX1_copyClock_1 (by decide) ?_
  refine g_iconst (v := (2 : Int32)) X dX1_copyClock_3 (by decide) ?_
  obtain ⟨h1, eh1, hF⟩ := bnd hF
  refine g_newa (atype := .int) (t := 0) X q182 rfl (funext fun _ => rfl) (by decide) eh1 dX1_copyClock_4 ?_
  refine g_dup X dX1_copyClock_6 (cat_rf _) ?_
  refine g_iconst (v := (0 : Int32)) X dX1_copyClock_7 (by decide) ?_
  refine g_iload_n X dX1_copyClock_8 rfl rfl ?_
  obtain ⟨h2, eh2, hF⟩ := bnd hF
  refine g_iast X eh2 dX1_copyClock_9 ?_
  refine g_dup X dX1_copyClock_10 (cat_rf _) ?_
  refine g_iconst (v := (1 : Int32)) X dX1_copyClock_11 (by decide) ?_
  refine g_iload_n X dX1_copyClock_12 rfl rfl ?_
  obtain ⟨h3, eh3, hF⟩ := bnd hF
  refine g_iast X eh3 dX1_copyClock_13 ?_
  obtain ⟨ob4, eob4, hF⟩ := bnd hF
  rcases thr_some hF with ⟨q7, h5, e8, hF⟩ | ⟨v6, h5, e8, hF⟩
  · refine g_callV X eob4 rfl rfl (w_X1_act l hl D dA h3 ob4 (99 : Int32) (some (hSz h0)) (.inl q7) h5 e8) q273 q275 qs0 q92 q276 okn_X1_act ⟨by rw [hRf]; exact Nat.le_of_ble_eq_true rfl, by rw [hRl]; exact Nat.le_of_ble_eq_true rfl⟩ (As := [.int (99 : Int32), va_rf (some (hSz h0))]) (rest := []) rfl (by first | exact Nat.le_of_ble_eq_true rfl | simp [cat_rf, cat_i, cat_j, cat_f, cat_d]) dX1_copyClock_14 (ac_x ?_)
    cases hF
    exact gx_out X (fun x hx => nomatch hx)
  · refine g_callV X eob4 rfl rfl (w_X1_act l hl D dA h3 ob4 (99 : Int32) (some (hSz h0)) (.inr v6) h5 e8) q273 q275 qs0 q92 q276 okn_X1_act ⟨by rw [hRf]; exact Nat.le_of_ble_eq_true rfl, by rw [hRl]; exact Nat.le_of_ble_eq_true rfl⟩ (As := [.int (99 : Int32), va_rf (some (hSz h0))]) (rest := []) rfl (by first | exact Nat.le_of_ble_eq_true rfl | simp [cat_rf, cat_i, cat_j, cat_f, cat_d]) dX1_copyClock_14 (ac_v ?_)
    cases hF
    exact g_iret X hr dX1_copyClock_17
def F_X1_shift (this : Nat) (a1 : Int32) (a2 : Int32) (h0 : HH) : Option (((Nat × String) ⊕ Int32) × HH) :=
  Option.bind (newA h0 0 (2 : Int32)) fun h1 =>
  Option.bind (astI h1 (some (hSz h0)) (0 : Int32) a1) fun h2 =>
  Option.bind (astI h2 (some (hSz h0)) (1 : Int32) a2) fun h3 =>
  Option.bind (isO h3 0 (some this)) fun ob4 =>
  thr (F_X1_act ob4 (115 : Int32) (some (hSz h0)) h3) (fun q7 h5 =>
    some (.inl q7, h5)
  ) (fun v6 h5 =>
    some (.inr v6, h5)
  )
set_option maxHeartbeats 4000000 in
theorem w_X1_shift (l : Launch) (hl : l.stackTraces = false) (D : va_G) (dA : Nat → ClassId) (h0 : HH) (this : Nat) (a1 : Int32) (a2 : Int32) (oE : (Nat × String) ⊕ Int32) (hE : HH) (hF : F_X1_shift this a1 a2 h0 = some (oE, hE)) : MC D dA l yX1_shift cX1_shift 3 (Option.some Jvm.ClassFile.FieldType.int) [] 16 436 [va_rf (some this), .int a1, .int a2] h0 (rsI oE, hE) := by
  refine mc_of hl (plainFor_of_name pn_X1) (by simp [lg_sl, cat_rf, cat_i, cat_j, cat_f, cat_d]) ?_
  intro p e s m args below meth c R hRf hRl X hr hnm
  unfold F_X1_shift at hF
  rw [show argL [va_rf (some this), .int a1, .int a2] = [some (va_rf (some this)), some (.int a1), some (.int a2)] from by simp [argL, cat_rf, cat_i, cat_j, cat_f, cat_d]]
  refine g_aload_n X dX1_shift_0 rfl rfl ?_
  refine g_bipush (v := (115 : Int32)) X dX1_shift_1 (by decide) ?_
  refine g_iconst (v := (2 : Int32)) X dX1_shift_3 (by decide) ?_
  obtain ⟨h1, eh1, hF⟩ := bnd hF
  refine g_newa (atype := .int) (t := 0) X q182 rfl (funext fun _ => rfl) (by decide) eh1 dX1_shift_4 ?_
  refine g_dup X dX1_shift_6 (cat_rf _) ?_
  refine g_iconst (v := (0 : Int32)) X dX1_shift_7 (by decide) ?_
  refine g_iload_n X dX1_shift_8 rfl rfl ?_
  obtain ⟨h2, eh2, hF⟩ := bnd hF
  refine g_iast X eh2 dX1_shift_9 ?_
  refine g_dup X dX1_shift_10 (cat_rf _) ?_
  refine g_iconst (v := (1 : Int32)) X dX1_shift_11 (by decide) ?_
  refine g_iload_n X dX1_shift_12 rfl rfl ?_
  obtain ⟨h3, eh3, hF⟩ := bnd hF
  refine g_iast X eh3 dX1_shift_13 ?_
  obtain ⟨ob4, eob4, hF⟩ := bnd hF
  rcases thr_some hF with ⟨q7, h5, e8, hF⟩ | ⟨v6, h5, e8, hF⟩
  · refine g_callV X eob4 rfl rfl (w_X1_act l hl D dA h3 ob4 (115 : Int32) (some (hSz h0)) (.inl q7) h5 e8) q273 q275 qs0 q92 q276 okn_X1_act ⟨by rw [hRf]; exact Nat.le_of_ble_eq_true rfl, by rw [hRl]; exact Nat.le_of_ble_eq_true rfl⟩ (As := [.int (115 : Int32), va_rf (some (hSz h0))]) (rest := []) rfl (by first | exact Nat.le_of_ble_eq_true rfl | simp [cat_rf, cat_i, cat_j, cat_f, cat_d]) dX1_shift_14 (ac_x ?_)
    cases hF
    exact gx_out X (fun x hx => nomatch hx)
  · refine g_callV X eob4 rfl rfl (w_X1_act l hl D dA h3 ob4 (115 : Int32) (some (hSz h0)) (.inr v6) h5 e8) q273 q275 qs0 q92 q276 okn_X1_act ⟨by rw [hRf]; exact Nat.le_of_ble_eq_true rfl, by rw [hRl]; exact Nat.le_of_ble_eq_true rfl⟩ (As := [.int (115 : Int32), va_rf (some (hSz h0))]) (rest := []) rfl (by first | exact Nat.le_of_ble_eq_true rfl | simp [cat_rf, cat_i, cat_j, cat_f, cat_d]) dX1_shift_14 (ac_v ?_)
    cases hF
    exact g_iret X hr dX1_shift_17
def F_X1_store (this : Nat) (a1 : Int32) (h0 : HH) : Option (((Nat × String) ⊕ Int32) × HH) :=
  Option.bind (newA h0 0 (1 : Int32)) fun h1 =>
  Option.bind (astI h1 (some (hSz h0)) (0 : Int32) a1) fun h2 =>
  Option.bind (isO h2 0 (some this)) fun ob3 =>
  thr (F_X1_act ob3 (80 : Int32) (some (hSz h0)) h2) (fun q6 h4 =>
    some (.inl q6, h4)
  ) (fun v5 h4 =>
    some (.inr (if v5 = (1 : Int32) then (1 : Int32) else (0 : Int32)), h4)
  )
set_option maxHeartbeats 4000000 in
theorem w_X1_store (l : Launch) (hl : l.stackTraces = false) (D : va_G) (dA : Nat → ClassId) (h0 : HH) (this : Nat) (a1 : Int32) (oE : (Nat × String) ⊕ Int32) (hE : HH) (hF : F_X1_store this a1 h0 = some (oE, hE)) : MC D dA l yX1_store cX1_store 2 (Option.some Jvm.ClassFile.FieldType.boolean) [] 16 436 [va_rf (some this), .int a1] h0 (rsI oE, hE) := by
  refine mc_of hl (plainFor_of_name pn_X1) (by simp [lg_sl, cat_rf, cat_i, cat_j, cat_f, cat_d]) ?_
  intro p e s m args below meth c R hRf hRl X hr hnm
  unfold F_X1_store at hF
  rw [show argL [va_rf (some this), .int a1] = [some (va_rf (some this)), some (.int a1)] from by simp [argL, cat_rf, cat_i, cat_j, cat_f, cat_d]]
  refine g_aload_n X dX1_store_0 rfl rfl ?_
  refine g_bipush (v := (80 : Int32)) X dX1_store_1 (by decide) ?_
  refine g_iconst (v := (1 : Int32)) X dX1_store_3 (by decide) ?_
  obtain ⟨h1, eh1, hF⟩ := bnd hF
  refine g_newa (atype := .int) (t := 0) X q182 rfl (funext fun _ => rfl) (by decide) eh1 dX1_store_4 ?_
  refine g_dup X dX1_store_6 (cat_rf _) ?_
  refine g_iconst (v := (0 : Int32)) X dX1_store_7 (by decide) ?_
  refine g_iload_n X dX1_store_8 rfl rfl ?_
  obtain ⟨h2, eh2, hF⟩ := bnd hF
  refine g_iast X eh2 dX1_store_9 ?_
  obtain ⟨ob3, eob3, hF⟩ := bnd hF
  rcases thr_some hF with ⟨q6, h4, e7, hF⟩ | ⟨v5, h4, e7, hF⟩
  · refine g_callV X eob3 rfl rfl (w_X1_act l hl D dA h2 ob3 (80 : Int32) (some (hSz h0)) (.inl q6) h4 e7) q273 q275 qs0 q92 q276 okn_X1_act ⟨by rw [hRf]; exact Nat.le_of_ble_eq_true rfl, by rw [hRl]; exact Nat.le_of_ble_eq_true rfl⟩ (As := [.int (80 : Int32), va_rf (some (hSz h0))]) (rest := []) rfl (by first | exact Nat.le_of_ble_eq_true rfl | simp [cat_rf, cat_i, cat_j, cat_f, cat_d]) dX1_store_10 (ac_x ?_)
    cases hF
    exact gx_out X (fun x hx => nomatch hx)
  · refine g_callV X eob3 rfl rfl (w_X1_act l hl D dA h2 ob3 (80 : Int32) (some (hSz h0)) (.inr v5) h4 e7) q273 q275 qs0 q92 q276 okn_X1_act ⟨by rw [hRf]; exact Nat.le_of_ble_eq_true rfl, by rw [hRl]; exact Nat.le_of_ble_eq_true rfl⟩ (As := [.int (80 : Int32), va_rf (some (hSz h0))]) (rest := []) rfl (by first | exact Nat.le_of_ble_eq_true rfl | simp [cat_rf, cat_i, cat_j, cat_f, cat_d]) dX1_store_10 (ac_v ?_)
    refine g_iconst (v := (1 : Int32)) X dX1_store_13 (by decide) ?_
    suffices K : G p l e R s m args below meth c (RQ D dA h0 (rsI oE, hE) below s) D dA h0 2 h4 22 [none, none] [.int (if v5 = (1 : Int32) then (1 : Int32) else (0 : Int32))] by
      refine g_icmp_ne X 21 dX1_store_14 (by decide) (fun c8 => ?_) (fun c8 => ?_)
      · (try simp only [if_neg c8] at K)
        refine g_iconst (v := (0 : Int32)) X dX1_store_21 (by decide) ?_
        refine G.drop [false, false] rfl ?_
        first | exact K | (simp only [if_neg c8]; exact K)
      · (try simp only [if_pos c8] at K)
        refine g_iconst (v := (1 : Int32)) X dX1_store_17 (by decide) ?_
        refine g_goto X 22 dX1_store_18 (by decide) ?_
        refine G.drop [false, false] rfl ?_
        first | exact K | (simp only [if_pos c8]; exact K)
    cases hF
    exact g_zret X hr (by (repeat' split) <;> rfl) dX1_store_22
def F_X1_meet (this : Nat) (a1 : Int32) (h0 : HH) : Option (((Nat × String) ⊕ Int32) × HH) :=
  Option.bind (newA h0 0 (1 : Int32)) fun h1 =>
  Option.bind (astI h1 (some (hSz h0)) (0 : Int32) a1) fun h2 =>
  Option.bind (isO h2 0 (some this)) fun ob3 =>
  thr (F_X1_act ob3 (77 : Int32) (some (hSz h0)) h2) (fun q6 h4 =>
    some (.inl q6, h4)
  ) (fun v5 h4 =>
    some (.inr v5, h4)
  )
set_option maxHeartbeats 4000000 in
theorem w_X1_meet (l : Launch) (hl : l.stackTraces = false) (D : va_G) (dA : Nat → ClassId) (h0 : HH) (this : Nat) (a1 : Int32) (oE : (Nat × String) ⊕ Int32) (hE : HH) (hF : F_X1_meet this a1 h0 = some (oE, hE)) : MC D dA l yX1_meet cX1_meet 2 (Option.some Jvm.ClassFile.FieldType.int) [] 16 436 [va_rf (some this), .int a1] h0 (rsI oE, hE) := by
  refine mc_of hl (plainFor_of_name pn_X1) (by simp [lg_sl, cat_rf, cat_i, cat_j, cat_f, cat_d]) ?_
  intro p e s m args below meth c R hRf hRl X hr hnm
  unfold F_X1_meet at hF
  rw [show argL [va_rf (some this), .int a1] = [some (va_rf (some this)), some (.int a1)] from by simp [argL, cat_rf, cat_i, cat_j, cat_f, cat_d]]
  refine g_aload_n X dX1_meet_0 rfl rfl ?_
  refine g_bipush (v := (77 : Int32)) X dX1_meet_1 (by decide) ?_
  refine g_iconst (v := (1 : Int32)) X dX1_meet_3 (by decide) ?_
  obtain ⟨h1, eh1, hF⟩ := bnd hF
  refine g_newa (atype := .int) (t := 0) X q182 rfl (funext fun _ => rfl) (by decide) eh1 dX1_meet_4 ?_
  refine g_dup X dX1_meet_6 (cat_rf _) ?_
  refine g_iconst (v := (0 : Int32)) X dX1_meet_7 (by decide) ?_
  refine g_iload_n X dX1_meet_8 rfl rfl ?_
  obtain ⟨h2, eh2, hF⟩ := bnd hF
  refine g_iast X eh2 dX1_meet_9 ?_
  obtain ⟨ob3, eob3, hF⟩ := bnd hF
  rcases thr_some hF with ⟨q6, h4, e7, hF⟩ | ⟨v5, h4, e7, hF⟩
  · refine g_callV X eob3 rfl rfl (w_X1_act l hl D dA h2 ob3 (77 : Int32) (some (hSz h0)) (.inl q6) h4 e7) q273 q275 qs0 q92 q276 okn_X1_act ⟨by rw [hRf]; exact Nat.le_of_ble_eq_true rfl, by rw [hRl]; exact Nat.le_of_ble_eq_true rfl⟩ (As := [.int (77 : Int32), va_rf (some (hSz h0))]) (rest := []) rfl (by first | exact Nat.le_of_ble_eq_true rfl | simp [cat_rf, cat_i, cat_j, cat_f, cat_d]) dX1_meet_10 (ac_x ?_)
    cases hF
    exact gx_out X (fun x hx => nomatch hx)
  · refine g_callV X eob3 rfl rfl (w_X1_act l hl D dA h2 ob3 (77 : Int32) (some (hSz h0)) (.inr v5) h4 e7) q273 q275 qs0 q92 q276 okn_X1_act ⟨by rw [hRf]; exact Nat.le_of_ble_eq_true rfl, by rw [hRl]; exact Nat.le_of_ble_eq_true rfl⟩ (As := [.int (77 : Int32), va_rf (some (hSz h0))]) (rest := []) rfl (by first | exact Nat.le_of_ble_eq_true rfl | simp [cat_rf, cat_i, cat_j, cat_f, cat_d]) dX1_meet_10 (ac_v ?_)
    cases hF
    exact g_iret X hr dX1_meet_13
def F_X1_wrap (this : Nat) (a1 : Int32) (h0 : HH) : Option (((Nat × String) ⊕ Int32) × HH) :=
  Option.bind (newA h0 0 (1 : Int32)) fun h1 =>
  Option.bind (astI h1 (some (hSz h0)) (0 : Int32) a1) fun h2 =>
  Option.bind (isO h2 0 (some this)) fun ob3 =>
  thr (F_X1_act ob3 (87 : Int32) (some (hSz h0)) h2) (fun q6 h4 =>
    some (.inl q6, h4)
  ) (fun v5 h4 =>
    some (.inr v5, h4)
  )
set_option maxHeartbeats 4000000 in
theorem w_X1_wrap (l : Launch) (hl : l.stackTraces = false) (D : va_G) (dA : Nat → ClassId) (h0 : HH) (this : Nat) (a1 : Int32) (oE : (Nat × String) ⊕ Int32) (hE : HH) (hF : F_X1_wrap this a1 h0 = some (oE, hE)) : MC D dA l yX1_wrap cX1_wrap 2 (Option.some Jvm.ClassFile.FieldType.int) [] 16 436 [va_rf (some this), .int a1] h0 (rsI oE, hE) := by
  refine mc_of hl (plainFor_of_name pn_X1) (by simp [lg_sl, cat_rf, cat_i, cat_j, cat_f, cat_d]) ?_
  intro p e s m args below meth c R hRf hRl X hr hnm
  unfold F_X1_wrap at hF
  rw [show argL [va_rf (some this), .int a1] = [some (va_rf (some this)), some (.int a1)] from by simp [argL, cat_rf, cat_i, cat_j, cat_f, cat_d]]
  refine g_aload_n X dX1_wrap_0 rfl rfl ?_
  refine g_bipush (v := (87 : Int32)) X dX1_wrap_1 (by decide) ?_
  refine g_iconst (v := (1 : Int32)) X dX1_wrap_3 (by decide) ?_
  obtain ⟨h1, eh1, hF⟩ := bnd hF
  refine g_newa (atype := .int) (t := 0) X q182 rfl (funext fun _ => rfl) (by decide) eh1 dX1_wrap_4 ?_
  refine g_dup X dX1_wrap_6 (cat_rf _) ?_
  refine g_iconst (v := (0 : Int32)) X dX1_wrap_7 (by decide) ?_
  refine g_iload_n X dX1_wrap_8 rfl rfl ?_
  obtain ⟨h2, eh2, hF⟩ := bnd hF
  refine g_iast X eh2 dX1_wrap_9 ?_
  obtain ⟨ob3, eob3, hF⟩ := bnd hF
  rcases thr_some hF with ⟨q6, h4, e7, hF⟩ | ⟨v5, h4, e7, hF⟩
  · refine g_callV X eob3 rfl rfl (w_X1_act l hl D dA h2 ob3 (87 : Int32) (some (hSz h0)) (.inl q6) h4 e7) q273 q275 qs0 q92 q276 okn_X1_act ⟨by rw [hRf]; exact Nat.le_of_ble_eq_true rfl, by rw [hRl]; exact Nat.le_of_ble_eq_true rfl⟩ (As := [.int (87 : Int32), va_rf (some (hSz h0))]) (rest := []) rfl (by first | exact Nat.le_of_ble_eq_true rfl | simp [cat_rf, cat_i, cat_j, cat_f, cat_d]) dX1_wrap_10 (ac_x ?_)
    cases hF
    exact gx_out X (fun x hx => nomatch hx)
  · refine g_callV X eob3 rfl rfl (w_X1_act l hl D dA h2 ob3 (87 : Int32) (some (hSz h0)) (.inr v5) h4 e7) q273 q275 qs0 q92 q276 okn_X1_act ⟨by rw [hRf]; exact Nat.le_of_ble_eq_true rfl, by rw [hRl]; exact Nat.le_of_ble_eq_true rfl⟩ (As := [.int (87 : Int32), va_rf (some (hSz h0))]) (rest := []) rfl (by first | exact Nat.le_of_ble_eq_true rfl | simp [cat_rf, cat_i, cat_j, cat_f, cat_d]) dX1_wrap_10 (ac_v ?_)
    cases hF
    exact g_iret X hr dX1_wrap_13
def F_X1_setStay (this : Nat) (a1 : Int32) (a2 : Int32) (a3 : Int32) (h0 : HH) : Option (((Nat × String) ⊕ Int32) × HH) :=
  Option.bind (newA h0 0 (3 : Int32)) fun h1 =>
  Option.bind (astI h1 (some (hSz h0)) (0 : Int32) a1) fun h2 =>
  Option.bind (astI h2 (some (hSz h0)) (1 : Int32) a2) fun h3 =>
  Option.bind (astI h3 (some (hSz h0)) (2 : Int32) a3) fun h4 =>
  Option.bind (isO h4 0 (some this)) fun ob5 =>
  thr (F_X1_act ob5 (72 : Int32) (some (hSz h0)) h4) (fun q8 h6 =>
    some (.inl q8, h6)
  ) (fun v7 h6 =>
    some (.inr v7, h6)
  )
set_option maxHeartbeats 4000000 in
theorem w_X1_setStay (l : Launch) (hl : l.stackTraces = false) (D : va_G) (dA : Nat → ClassId) (h0 : HH) (this : Nat) (a1 : Int32) (a2 : Int32) (a3 : Int32) (oE : (Nat × String) ⊕ Int32) (hE : HH) (hF : F_X1_setStay this a1 a2 a3 h0 = some (oE, hE)) : MC D dA l yX1_setStay cX1_setStay 4 (Option.some Jvm.ClassFile.FieldType.int) [] 16 436 [va_rf (some this), .int a1, .int a2, .int a3] h0 (rsI oE, hE) := by
  refine mc_of hl (plainFor_of_name pn_X1) (by simp [lg_sl, cat_rf, cat_i, cat_j, cat_f, cat_d]) ?_
  intro p e s m args below meth c R hRf hRl X hr hnm
  unfold F_X1_setStay at hF
  rw [show argL [va_rf (some this), .int a1, .int a2, .int a3] = [some (va_rf (some this)), some (.int a1), some (.int a2), some (.int a3)] from by simp [argL, cat_rf, cat_i, cat_j, cat_f, cat_d]]
  refine g_aload_n X dX1_setStay_0 rfl rfl ?_
  refine g_bipush (v := (72 : Int32)) X dX1_setStay_1 (by decide) ?_
  refine g_iconst (v := (3 : Int32)) X dX1_setStay_3 (by decide) ?_
  obtain ⟨h1, eh1, hF⟩ := bnd hF
  refine g_newa (atype := .int) (t := 0) X q182 rfl (funext fun _ => rfl) (by decide) eh1 dX1_setStay_4 ?_
  refine g_dup X dX1_setStay_6 (cat_rf _) ?_
  refine g_iconst (v := (0 : Int32)) X dX1_setStay_7 (by decide) ?_
  refine g_iload_n X dX1_setStay_8 rfl rfl ?_
  obtain ⟨h2, eh2, hF⟩ := bnd hF
  refine g_iast X eh2 dX1_setStay_9 ?_
  refine g_dup X dX1_setStay_10 (cat_rf _) ?_
  refine g_iconst (v := (1 : Int32)) X dX1_setStay_11 (by decide) ?_
  refine g_iload_n X dX1_setStay_12 rfl rfl ?_
  obtain ⟨h3, eh3, hF⟩ := bnd hF
  refine g_iast X eh3 dX1_setStay_13 ?_
  refine g_dup X dX1_setStay_14 (cat_rf _) ?_
  refine g_iconst (v := (2 : Int32)) X dX1_setStay_15 (by decide) ?_
  refine g_iload_n X dX1_setStay_16 rfl rfl ?_
  obtain ⟨h4, eh4, hF⟩ := bnd hF
  refine g_iast X eh4 dX1_setStay_17 ?_
  obtain ⟨ob5, eob5, hF⟩ := bnd hF
  rcases thr_some hF with ⟨q8, h6, e9, hF⟩ | ⟨v7, h6, e9, hF⟩
  · refine g_callV X eob5 rfl rfl (w_X1_act l hl D dA h4 ob5 (72 : Int32) (some (hSz h0)) (.inl q8) h6 e9) q273 q275 qs0 q92 q276 okn_X1_act ⟨by rw [hRf]; exact Nat.le_of_ble_eq_true rfl, by rw [hRl]; exact Nat.le_of_ble_eq_true rfl⟩ (As := [.int (72 : Int32), va_rf (some (hSz h0))]) (rest := []) rfl (by first | exact Nat.le_of_ble_eq_true rfl | simp [cat_rf, cat_i, cat_j, cat_f, cat_d]) dX1_setStay_18 (ac_x ?_)
    cases hF
    exact gx_out X (fun x hx => nomatch hx)
  · refine g_callV X eob5 rfl rfl (w_X1_act l hl D dA h4 ob5 (72 : Int32) (some (hSz h0)) (.inr v7) h6 e9) q273 q275 qs0 q92 q276 okn_X1_act ⟨by rw [hRf]; exact Nat.le_of_ble_eq_true rfl, by rw [hRl]; exact Nat.le_of_ble_eq_true rfl⟩ (As := [.int (72 : Int32), va_rf (some (hSz h0))]) (rest := []) rfl (by first | exact Nat.le_of_ble_eq_true rfl | simp [cat_rf, cat_i, cat_j, cat_f, cat_d]) dX1_setStay_18 (ac_v ?_)
    cases hF
    exact g_iret X hr dX1_setStay_21
def F_X1_addLine (this : Nat) (a1 : Int32) (a2 : Int32) (h0 : HH) : Option (((Nat × String) ⊕ Int32) × HH) :=
  Option.bind (newA h0 0 (2 : Int32)) fun h1 =>
  Option.bind (astI h1 (some (hSz h0)) (0 : Int32) a1) fun h2 =>
  Option.bind (astI h2 (some (hSz h0)) (1 : Int32) a2) fun h3 =>
  Option.bind (isO h3 0 (some this)) fun ob4 =>
  thr (F_X1_act ob4 (76 : Int32) (some (hSz h0)) h3) (fun q7 h5 =>
    some (.inl q7, h5)
  ) (fun v6 h5 =>
    some (.inr v6, h5)
  )
set_option maxHeartbeats 4000000 in
theorem w_X1_addLine (l : Launch) (hl : l.stackTraces = false) (D : va_G) (dA : Nat → ClassId) (h0 : HH) (this : Nat) (a1 : Int32) (a2 : Int32) (oE : (Nat × String) ⊕ Int32) (hE : HH) (hF : F_X1_addLine this a1 a2 h0 = some (oE, hE)) : MC D dA l yX1_addLine cX1_addLine 3 (Option.some Jvm.ClassFile.FieldType.int) [] 16 436 [va_rf (some this), .int a1, .int a2] h0 (rsI oE, hE) := by
  refine mc_of hl (plainFor_of_name pn_X1) (by simp [lg_sl, cat_rf, cat_i, cat_j, cat_f, cat_d]) ?_
  intro p e s m args below meth c R hRf hRl X hr hnm
  unfold F_X1_addLine at hF
  rw [show argL [va_rf (some this), .int a1, .int a2] = [some (va_rf (some this)), some (.int a1), some (.int a2)] from by simp [argL, cat_rf, cat_i, cat_j, cat_f, cat_d]]
  refine g_aload_n X dX1_addLine_0 rfl rfl ?_
  refine g_bipush (v := (76 : Int32)) X dX1_addLine_1 (by decide) ?_
  refine g_iconst (v := (2 : Int32)) X dX1_addLine_3 (by decide) ?_
  obtain ⟨h1, eh1, hF⟩ := bnd hF
  refine g_newa (atype := .int) (t := 0) X q182 rfl (funext fun _ => rfl) (by decide) eh1 dX1_addLine_4 ?_
  refine g_dup X dX1_addLine_6 (cat_rf _) ?_
  refine g_iconst (v := (0 : Int32)) X dX1_addLine_7 (by decide) ?_
  refine g_iload_n X dX1_addLine_8 rfl rfl ?_
  obtain ⟨h2, eh2, hF⟩ := bnd hF
  refine g_iast X eh2 dX1_addLine_9 ?_
  refine g_dup X dX1_addLine_10 (cat_rf _) ?_
  refine g_iconst (v := (1 : Int32)) X dX1_addLine_11 (by decide) ?_
  refine g_iload_n X dX1_addLine_12 rfl rfl ?_
  obtain ⟨h3, eh3, hF⟩ := bnd hF
  refine g_iast X eh3 dX1_addLine_13 ?_
  obtain ⟨ob4, eob4, hF⟩ := bnd hF
  rcases thr_some hF with ⟨q7, h5, e8, hF⟩ | ⟨v6, h5, e8, hF⟩
  · refine g_callV X eob4 rfl rfl (w_X1_act l hl D dA h3 ob4 (76 : Int32) (some (hSz h0)) (.inl q7) h5 e8) q273 q275 qs0 q92 q276 okn_X1_act ⟨by rw [hRf]; exact Nat.le_of_ble_eq_true rfl, by rw [hRl]; exact Nat.le_of_ble_eq_true rfl⟩ (As := [.int (76 : Int32), va_rf (some (hSz h0))]) (rest := []) rfl (by first | exact Nat.le_of_ble_eq_true rfl | simp [cat_rf, cat_i, cat_j, cat_f, cat_d]) dX1_addLine_14 (ac_x ?_)
    cases hF
    exact gx_out X (fun x hx => nomatch hx)
  · refine g_callV X eob4 rfl rfl (w_X1_act l hl D dA h3 ob4 (76 : Int32) (some (hSz h0)) (.inr v6) h5 e8) q273 q275 qs0 q92 q276 okn_X1_act ⟨by rw [hRf]; exact Nat.le_of_ble_eq_true rfl, by rw [hRl]; exact Nat.le_of_ble_eq_true rfl⟩ (As := [.int (76 : Int32), va_rf (some (hSz h0))]) (rest := []) rfl (by first | exact Nat.le_of_ble_eq_true rfl | simp [cat_rf, cat_i, cat_j, cat_f, cat_d]) dX1_addLine_14 (ac_v ?_)
    cases hF
    exact g_iret X hr dX1_addLine_17
def F_X1_setNeed (this : Nat) (a1 : Int32) (a2 : Int32) (a3 : Int32) (a4 : Int32) (h0 : HH) : Option (((Nat × String) ⊕ Int32) × HH) :=
  Option.bind (newA h0 0 (4 : Int32)) fun h1 =>
  Option.bind (astI h1 (some (hSz h0)) (0 : Int32) a1) fun h2 =>
  Option.bind (astI h2 (some (hSz h0)) (1 : Int32) a2) fun h3 =>
  Option.bind (astI h3 (some (hSz h0)) (2 : Int32) a3) fun h4 =>
  Option.bind (astI h4 (some (hSz h0)) (3 : Int32) a4) fun h5 =>
  Option.bind (isO h5 0 (some this)) fun ob6 =>
  thr (F_X1_act ob6 (78 : Int32) (some (hSz h0)) h5) (fun q9 h7 =>
    some (.inl q9, h7)
  ) (fun v8 h7 =>
    some (.inr v8, h7)
  )
set_option maxHeartbeats 4000000 in
theorem w_X1_setNeed (l : Launch) (hl : l.stackTraces = false) (D : va_G) (dA : Nat → ClassId) (h0 : HH) (this : Nat) (a1 : Int32) (a2 : Int32) (a3 : Int32) (a4 : Int32) (oE : (Nat × String) ⊕ Int32) (hE : HH) (hF : F_X1_setNeed this a1 a2 a3 a4 h0 = some (oE, hE)) : MC D dA l yX1_setNeed cX1_setNeed 5 (Option.some Jvm.ClassFile.FieldType.int) [] 16 436 [va_rf (some this), .int a1, .int a2, .int a3, .int a4] h0 (rsI oE, hE) := by
  refine mc_of hl (plainFor_of_name pn_X1) (by simp [lg_sl, cat_rf, cat_i, cat_j, cat_f, cat_d]) ?_
  intro p e s m args below meth c R hRf hRl X hr hnm
  unfold F_X1_setNeed at hF
  rw [show argL [va_rf (some this), .int a1, .int a2, .int a3, .int a4] = [some (va_rf (some this)), some (.int a1), some (.int a2), some (.int a3), some (.int a4)] from by simp [argL, cat_rf, cat_i, cat_j, cat_f, cat_d]]
  refine g_aload_n X dX1_setNeed_0 rfl rfl ?_
  refine g_bipush (v := (78 : Int32)) X dX1_setNeed_1 (by decide) ?_
  refine g_iconst (v := (4 : Int32)) X dX1_setNeed_3 (by decide) ?_
  obtain ⟨h1, eh1, hF⟩ := bnd hF
  refine g_newa (atype := .int) (t := 0) X q182 rfl (funext fun _ => rfl) (by decide) eh1 dX1_setNeed_4 ?_
  refine g_dup X dX1_setNeed_6 (cat_rf _) ?_
  refine g_iconst (v := (0 : Int32)) X dX1_setNeed_7 (by decide) ?_
  refine g_iload_n X dX1_setNeed_8 rfl rfl ?_
  obtain ⟨h2, eh2, hF⟩ := bnd hF
  refine g_iast X eh2 dX1_setNeed_9 ?_
  refine g_dup X dX1_setNeed_10 (cat_rf _) ?_
  refine g_iconst (v := (1 : Int32)) X dX1_setNeed_11 (by decide) ?_
  refine g_iload_n X dX1_setNeed_12 rfl rfl ?_
  obtain ⟨h3, eh3, hF⟩ := bnd hF
  refine g_iast X eh3 dX1_setNeed_13 ?_
  refine g_dup X dX1_setNeed_14 (cat_rf _) ?_
  refine g_iconst (v := (2 : Int32)) X dX1_setNeed_15 (by decide) ?_
  refine g_iload_n X dX1_setNeed_16 rfl rfl ?_
  obtain ⟨h4, eh4, hF⟩ := bnd hF
  refine g_iast X eh4 dX1_setNeed_17 ?_
  refine g_dup X dX1_setNeed_18 (cat_rf _) ?_
  refine g_iconst (v := (3 : Int32)) X dX1_setNeed_19 (by decide) ?_
  refine g_iload X dX1_setNeed_20 rfl ?_
  obtain ⟨h5, eh5, hF⟩ := bnd hF
  refine g_iast X eh5 dX1_setNeed_22 ?_
  obtain ⟨ob6, eob6, hF⟩ := bnd hF
  rcases thr_some hF with ⟨q9, h7, e10, hF⟩ | ⟨v8, h7, e10, hF⟩
  · refine g_callV X eob6 rfl rfl (w_X1_act l hl D dA h5 ob6 (78 : Int32) (some (hSz h0)) (.inl q9) h7 e10) q273 q275 qs0 q92 q276 okn_X1_act ⟨by rw [hRf]; exact Nat.le_of_ble_eq_true rfl, by rw [hRl]; exact Nat.le_of_ble_eq_true rfl⟩ (As := [.int (78 : Int32), va_rf (some (hSz h0))]) (rest := []) rfl (by first | exact Nat.le_of_ble_eq_true rfl | simp [cat_rf, cat_i, cat_j, cat_f, cat_d]) dX1_setNeed_23 (ac_x ?_)
    cases hF
    exact gx_out X (fun x hx => nomatch hx)
  · refine g_callV X eob6 rfl rfl (w_X1_act l hl D dA h5 ob6 (78 : Int32) (some (hSz h0)) (.inr v8) h7 e10) q273 q275 qs0 q92 q276 okn_X1_act ⟨by rw [hRf]; exact Nat.le_of_ble_eq_true rfl, by rw [hRl]; exact Nat.le_of_ble_eq_true rfl⟩ (As := [.int (78 : Int32), va_rf (some (hSz h0))]) (rest := []) rfl (by first | exact Nat.le_of_ble_eq_true rfl | simp [cat_rf, cat_i, cat_j, cat_f, cat_d]) dX1_setNeed_23 (ac_v ?_)
    cases hF
    exact g_iret X hr dX1_setNeed_26
def F_X1_turnReset (this : Nat) (a1 : Int32) (a2 : Int32) (h0 : HH) : Option (((Nat × String) ⊕ Int32) × HH) :=
  Option.bind (newA h0 0 (2 : Int32)) fun h1 =>
  Option.bind (astI h1 (some (hSz h0)) (0 : Int32) a1) fun h2 =>
  Option.bind (astI h2 (some (hSz h0)) (1 : Int32) a2) fun h3 =>
  Option.bind (isO h3 0 (some this)) fun ob4 =>
  thr (F_X1_act ob4 (82 : Int32) (some (hSz h0)) h3) (fun q7 h5 =>
    some (.inl q7, h5)
  ) (fun v6 h5 =>
    some (.inr (if v6 = (1 : Int32) then (1 : Int32) else (0 : Int32)), h5)
  )
set_option maxHeartbeats 4000000 in
theorem w_X1_turnReset (l : Launch) (hl : l.stackTraces = false) (D : va_G) (dA : Nat → ClassId) (h0 : HH) (this : Nat) (a1 : Int32) (a2 : Int32) (oE : (Nat × String) ⊕ Int32) (hE : HH) (hF : F_X1_turnReset this a1 a2 h0 = some (oE, hE)) : MC D dA l yX1_turnReset cX1_turnReset 3 (Option.some Jvm.ClassFile.FieldType.boolean) [] 16 436 [va_rf (some this), .int a1, .int a2] h0 (rsI oE, hE) := by
  refine mc_of hl (plainFor_of_name pn_X1) (by simp [lg_sl, cat_rf, cat_i, cat_j, cat_f, cat_d]) ?_
  intro p e s m args below meth c R hRf hRl X hr hnm
  unfold F_X1_turnReset at hF
  rw [show argL [va_rf (some this), .int a1, .int a2] = [some (va_rf (some this)), some (.int a1), some (.int a2)] from by simp [argL, cat_rf, cat_i, cat_j, cat_f, cat_d]]
  refine g_aload_n X dX1_turnReset_0 rfl rfl ?_
  refine g_bipush (v := (82 : Int32)) X dX1_turnReset_1 (by decide) ?_
  refine g_iconst (v := (2 : Int32)) X dX1_turnReset_3 (by decide) ?_
  obtain ⟨h1, eh1, hF⟩ := bnd hF
  refine g_newa (atype := .int) (t := 0) X q182 rfl (funext fun _ => rfl) (by decide) eh1 dX1_turnReset_4 ?_
  refine g_dup X dX1_turnReset_6 (cat_rf _) ?_
  refine g_iconst (v := (0 : Int32)) X dX1_turnReset_7 (by decide) ?_
  refine g_iload_n X dX1_turnReset_8 rfl rfl ?_
  obtain ⟨h2, eh2, hF⟩ := bnd hF
  refine g_iast X eh2 dX1_turnReset_9 ?_
  refine g_dup X dX1_turnReset_10 (cat_rf _) ?_
  refine g_iconst (v := (1 : Int32)) X dX1_turnReset_11 (by decide) ?_
  refine g_iload_n X dX1_turnReset_12 rfl rfl ?_
  obtain ⟨h3, eh3, hF⟩ := bnd hF
  refine g_iast X eh3 dX1_turnReset_13 ?_
  obtain ⟨ob4, eob4, hF⟩ := bnd hF
  rcases thr_some hF with ⟨q7, h5, e8, hF⟩ | ⟨v6, h5, e8, hF⟩
  · refine g_callV X eob4 rfl rfl (w_X1_act l hl D dA h3 ob4 (82 : Int32) (some (hSz h0)) (.inl q7) h5 e8) q273 q275 qs0 q92 q276 okn_X1_act ⟨by rw [hRf]; exact Nat.le_of_ble_eq_true rfl, by rw [hRl]; exact Nat.le_of_ble_eq_true rfl⟩ (As := [.int (82 : Int32), va_rf (some (hSz h0))]) (rest := []) rfl (by first | exact Nat.le_of_ble_eq_true rfl | simp [cat_rf, cat_i, cat_j, cat_f, cat_d]) dX1_turnReset_14 (ac_x ?_)
    cases hF
    exact gx_out X (fun x hx => nomatch hx)
  · refine g_callV X eob4 rfl rfl (w_X1_act l hl D dA h3 ob4 (82 : Int32) (some (hSz h0)) (.inr v6) h5 e8) q273 q275 qs0 q92 q276 okn_X1_act ⟨by rw [hRf]; exact Nat.le_of_ble_eq_true rfl, by rw [hRl]; exact Nat.le_of_ble_eq_true rfl⟩ (As := [.int (82 : Int32), va_rf (some (hSz h0))]) (rest := []) rfl (by first | exact Nat.le_of_ble_eq_true rfl | simp [cat_rf, cat_i, cat_j, cat_f, cat_d]) dX1_turnReset_14 (ac_v ?_)
    refine g_iconst (v := (1 : Int32)) X dX1_turnReset_17 (by decide) ?_
    suffices K : G p l e R s m args below meth c (RQ D dA h0 (rsI oE, hE) below s) D dA h0 3 h5 26 [none, none, none] [.int (if v6 = (1 : Int32) then (1 : Int32) else (0 : Int32))] by
      refine g_icmp_ne X 25 dX1_turnReset_18 (by decide) (fun c9 => ?_) (fun c9 => ?_)
      · (try simp only [if_neg c9] at K)
        refine g_iconst (v := (0 : Int32)) X dX1_turnReset_25 (by decide) ?_
        refine G.drop [false, false, false] rfl ?_
        first | exact K | (simp only [if_neg c9]; exact K)
      · (try simp only [if_pos c9] at K)
        refine g_iconst (v := (1 : Int32)) X dX1_turnReset_21 (by decide) ?_
        refine g_goto X 26 dX1_turnReset_22 (by decide) ?_
        refine G.drop [false, false, false] rfl ?_
        first | exact K | (simp only [if_pos c9]; exact K)
    cases hF
    exact g_zret X hr (by (repeat' split) <;> rfl) dX1_turnReset_26
def F_X1_needArgument (a1 : Int32) (h0 : HH) : Option (((Nat × String) ⊕ Unit) × HH) :=
  if a1 = 0 then (
    Option.bind (newE h0) fun h2 =>
    some (.inl (hSz h0, "java/lang/IllegalArgumentException"), h2)
  ) else (
    some (.inr (), h0)
  )
set_option maxHeartbeats 4000000 in
theorem w_X1_needArgument (l : Launch) (hl : l.stackTraces = false) (D : va_G) (dA : Nat → ClassId) (h0 : HH) (a1 : Int32) (oE : (Nat × String) ⊕ Unit) (hE : HH) (hF : F_X1_needArgument a1 h0 = some (oE, hE)) : MC D dA l yX1_needArgument cX1_needArgument 1 (Option.none : Option Jvm.ClassFile.FieldType) [] 8 200 [.int a1] h0 (rsV oE, hE) := by
  refine mc_of hl (plainFor_of_name pn_X1) (by simp [lg_sl, cat_rf, cat_i, cat_j, cat_f, cat_d]) ?_
  intro p e s m args below meth c R hRf hRl X hr hnm
  unfold F_X1_needArgument at hF
  rw [show argL [.int a1] = [some (.int a1)] from by simp [argL, cat_rf, cat_i, cat_j, cat_f, cat_d]]
  refine g_iload_n X dX1_needArgument_0 rfl rfl ?_
  refine g_if_ne X 14 dX1_needArgument_1 (by decide) (fun c1 => ?_) (fun c1 => ?_)
  · have hF := (if_neg c1).symm.trans hF
    cases hF
    exact g_vret X hr dX1_needArgument_14
  · have hF := (if_pos c1).symm.trans hF
    obtain ⟨h2, eh2, hF⟩ := bnd hF
    refine g_throwS X eh2 0 rfl ex_X1_IllegalArgumentException dX1_needArgument_4 dX1_needArgument_7 dX1_needArgument_8 dX1_needArgument_10 dX1_needArgument_13 ⟨by rw [hRf]; exact Nat.le_of_ble_eq_true rfl, by rw [hRl]; exact Nat.le_of_ble_eq_true rfl⟩ (by first | exact Nat.le_of_ble_eq_true rfl | simp [cat_rf, cat_i, cat_j, cat_f, cat_d]) ?_
    cases hF
    exact gx_out X (fun x hx => nomatch hx)
def F_X1_needSuch (a1 : Int32) (h0 : HH) : Option (((Nat × String) ⊕ Unit) × HH) :=
  if a1 = 0 then (
    Option.bind (newE h0) fun h2 =>
    some (.inl (hSz h0, "java/util/NoSuchElementException"), h2)
  ) else (
    some (.inr (), h0)
  )
set_option maxHeartbeats 4000000 in
theorem w_X1_needSuch (l : Launch) (hl : l.stackTraces = false) (D : va_G) (dA : Nat → ClassId) (h0 : HH) (a1 : Int32) (oE : (Nat × String) ⊕ Unit) (hE : HH) (hF : F_X1_needSuch a1 h0 = some (oE, hE)) : MC D dA l yX1_needSuch cX1_needSuch 1 (Option.none : Option Jvm.ClassFile.FieldType) [] 8 200 [.int a1] h0 (rsV oE, hE) := by
  refine mc_of hl (plainFor_of_name pn_X1) (by simp [lg_sl, cat_rf, cat_i, cat_j, cat_f, cat_d]) ?_
  intro p e s m args below meth c R hRf hRl X hr hnm
  unfold F_X1_needSuch at hF
  rw [show argL [.int a1] = [some (.int a1)] from by simp [argL, cat_rf, cat_i, cat_j, cat_f, cat_d]]
  refine g_iload_n X dX1_needSuch_0 rfl rfl ?_
  refine g_if_ne X 14 dX1_needSuch_1 (by decide) (fun c1 => ?_) (fun c1 => ?_)
  · have hF := (if_neg c1).symm.trans hF
    cases hF
    exact g_vret X hr dX1_needSuch_14
  · have hF := (if_pos c1).symm.trans hF
    obtain ⟨h2, eh2, hF⟩ := bnd hF
    refine g_throwS X eh2 2 rfl ex_X1_NoSuchElementException dX1_needSuch_4 dX1_needSuch_7 dX1_needSuch_8 dX1_needSuch_10 dX1_needSuch_13 ⟨by rw [hRf]; exact Nat.le_of_ble_eq_true rfl, by rw [hRl]; exact Nat.le_of_ble_eq_true rfl⟩ (by first | exact Nat.le_of_ble_eq_true rfl | simp [cat_rf, cat_i, cat_j, cat_f, cat_d]) ?_
    cases hF
    exact gx_out X (fun x hx => nomatch hx)
def F_X1_there (a1 : Int32) (h0 : HH) : Option (((Nat × String) ⊕ Int32) × HH) :=
  thr (F_X1_needSuch (if a1 = (9999 : Int32) then (0 : Int32) else (1 : Int32)) h0) (fun q4 h2 =>
    some (.inl q4, h2)
  ) (fun u3 h2 =>
    some (.inr a1, h2)
  )
set_option maxHeartbeats 4000000 in
theorem w_X1_there (l : Launch) (hl : l.stackTraces = false) (D : va_G) (dA : Nat → ClassId) (h0 : HH) (a1 : Int32) (oE : (Nat × String) ⊕ Int32) (hE : HH) (hF : F_X1_there a1 h0 = some (oE, hE)) : MC D dA l yX1_there cX1_there 1 (Option.some Jvm.ClassFile.FieldType.int) [] 9 220 [.int a1] h0 (rsI oE, hE) := by
  refine mc_of hl (plainFor_of_name pn_X1) (by simp [lg_sl, cat_rf, cat_i, cat_j, cat_f, cat_d]) ?_
  intro p e s m args below meth c R hRf hRl X hr hnm
  unfold F_X1_there at hF
  rw [show argL [.int a1] = [some (.int a1)] from by simp [argL, cat_rf, cat_i, cat_j, cat_f, cat_d]]
  refine g_iload_n X dX1_there_0 rfl rfl ?_
  refine g_sipush (v := (9999 : Int32)) X dX1_there_1 (by decide) ?_
  suffices K : G p l e R s m args below meth c (RQ D dA h0 (rsI oE, hE) below s) D dA h0 1 h0 12 [some (.int a1)] [.int (if a1 = (9999 : Int32) then (0 : Int32) else (1 : Int32))] by
    refine g_icmp_eq X 11 dX1_there_4 (by decide) (fun c1 => ?_) (fun c1 => ?_)
    · (try simp only [if_pos c1] at K)
      refine g_iconst (v := (0 : Int32)) X dX1_there_11 (by decide) ?_
      first | exact K | (simp only [if_pos c1]; exact K)
    · (try simp only [if_neg c1] at K)
      refine g_iconst (v := (1 : Int32)) X dX1_there_7 (by decide) ?_
      refine g_goto X 12 dX1_there_8 (by decide) ?_
      first | exact K | (simp only [if_neg c1]; exact K)
  rcases thr_some hF with ⟨q4, h2, e5, hF⟩ | ⟨u3, h2, e5, hF⟩
  · refine g_callS X (w_X1_needSuch l hl D dA h0 (if a1 = (9999 : Int32) then (0 : Int32) else (1 : Int32)) (.inl q4) h2 e5) q1261 q1262 q92 q1263 okn_X1_needSuch ⟨by rw [hRf]; exact Nat.le_of_ble_eq_true rfl, by rw [hRl]; exact Nat.le_of_ble_eq_true rfl⟩ (As := [.int (if a1 = (9999 : Int32) then (0 : Int32) else (1 : Int32))]) (rest := []) rfl (by first | exact Nat.le_of_ble_eq_true rfl | simp [cat_rf, cat_i, cat_j, cat_f, cat_d]) dX1_there_12 (ac_x ?_)
    cases hF
    exact gx_out X (fun x hx => nomatch hx)
  · refine g_callS X (w_X1_needSuch l hl D dA h0 (if a1 = (9999 : Int32) then (0 : Int32) else (1 : Int32)) (.inr u3) h2 e5) q1261 q1262 q92 q1263 okn_X1_needSuch ⟨by rw [hRf]; exact Nat.le_of_ble_eq_true rfl, by rw [hRl]; exact Nat.le_of_ble_eq_true rfl⟩ (As := [.int (if a1 = (9999 : Int32) then (0 : Int32) else (1 : Int32))]) (rest := []) rfl (by first | exact Nat.le_of_ble_eq_true rfl | simp [cat_rf, cat_i, cat_j, cat_f, cat_d]) dX1_there_12 (ac_0 ?_)
    refine g_iload_n X dX1_there_15 rfl rfl ?_
    cases hF
    exact g_iret X hr dX1_there_16
def F_X1_told (this : Nat) (a1 : Int32) (a2 : Int32) (h0 : HH) : Option (((Nat × String) ⊕ Int32) × HH) :=
  thr (F_X1_needArgument (F_X1_arePair a1 a2) h0) (fun q3 h1 =>
    some (.inl q3, h1)
  ) (fun u2 h1 =>
    Option.bind (getR h1 0 0 (some this)) fun v5 =>
    Option.bind (getR h1 2 3 v5) fun v6 =>
    Option.bind (isO h1 3 v6) fun ob7 =>
    Option.bind (F_X3_at ob7 a1 a2 h1) fun v8 =>
    thr (F_X1_there v8 h1) (fun q11 h9 =>
      some (.inl q11, h9)
    ) (fun v10 h9 =>
      some (.inr v10, h9)
    )
  )
set_option maxHeartbeats 4000000 in
theorem w_X1_told (l : Launch) (hl : l.stackTraces = false) (D : va_G) (dA : Nat → ClassId) (h0 : HH) (this : Nat) (a1 : Int32) (a2 : Int32) (oE : (Nat × String) ⊕ Int32) (hE : HH) (hF : F_X1_told this a1 a2 h0 = some (oE, hE)) : MC D dA l yX1_told cX1_told 3 (Option.some Jvm.ClassFile.FieldType.int) [] 10 240 [va_rf (some this), .int a1, .int a2] h0 (rsI oE, hE) := by
  refine mc_of hl (plainFor_of_name pn_X1) (by simp [lg_sl, cat_rf, cat_i, cat_j, cat_f, cat_d]) ?_
  intro p e s m args below meth c R hRf hRl X hr hnm
  unfold F_X1_told at hF
  rw [show argL [va_rf (some this), .int a1, .int a2] = [some (va_rf (some this)), some (.int a1), some (.int a2)] from by simp [argL, cat_rf, cat_i, cat_j, cat_f, cat_d]]
  refine g_iload_n X dX1_told_0 rfl rfl ?_
  refine g_iload_n X dX1_told_1 rfl rfl ?_
  refine g_callS X (w_X1_arePair l hl D dA h0 a1 a2) q1253 q411 q92 q412 okn_X1_arePair ⟨by rw [hRf]; exact Nat.le_of_ble_eq_true rfl, by rw [hRl]; exact Nat.le_of_ble_eq_true rfl⟩ (As := [.int a1, .int a2]) (rest := []) rfl (by first | exact Nat.le_of_ble_eq_true rfl | simp [cat_rf, cat_i, cat_j, cat_f, cat_d]) dX1_told_2 (ac_v ?_)
  rcases thr_some hF with ⟨q3, h1, e4, hF⟩ | ⟨u2, h1, e4, hF⟩
  · refine g_callS X (w_X1_needArgument l hl D dA h0 (F_X1_arePair a1 a2) (.inl q3) h1 e4) q1254 q1255 q92 q1256 okn_X1_needArgument ⟨by rw [hRf]; exact Nat.le_of_ble_eq_true rfl, by rw [hRl]; exact Nat.le_of_ble_eq_true rfl⟩ (As := [.int (F_X1_arePair a1 a2)]) (rest := []) rfl (by first | exact Nat.le_of_ble_eq_true rfl | simp [cat_rf, cat_i, cat_j, cat_f, cat_d]) dX1_told_5 (ac_x ?_)
    cases hF
    exact gx_out X (fun x hx => nomatch hx)
  · refine g_callS X (w_X1_needArgument l hl D dA h0 (F_X1_arePair a1 a2) (.inr u2) h1 e4) q1254 q1255 q92 q1256 okn_X1_needArgument ⟨by rw [hRf]; exact Nat.le_of_ble_eq_true rfl, by rw [hRl]; exact Nat.le_of_ble_eq_true rfl⟩ (As := [.int (F_X1_arePair a1 a2)]) (rest := []) rfl (by first | exact Nat.le_of_ble_eq_true rfl | simp [cat_rf, cat_i, cat_j, cat_f, cat_d]) dX1_told_5 (ac_0 ?_)
    refine g_aload_n X dX1_told_8 rfl rfl ?_
    obtain ⟨v5, ev5, hF⟩ := bnd hF
    refine g_get (k := 0) X in_X1 rfl (by decide) q255 (Or.inl rfl) (getR_V ev5) dX1_told_9 ?_
    obtain ⟨v6, ev6, hF⟩ := bnd hF
    refine g_getN (k := 3) X in_X2 rfl (by decide) (nw_in q189 rfl) rfl (getR_V ev6) dX1_told_12 ?_
    refine g_iload_n X dX1_told_15 rfl rfl ?_
    refine g_iload_n X dX1_told_16 rfl rfl ?_
    obtain ⟨ob7, eob7, hF⟩ := bnd hF
    obtain ⟨v8, ev8, hF⟩ := bnd hF
    refine g_callV X eob7 rfl rfl (w_X3_at l hl D dA h1 ob7 a1 a2 v8 ev8) q1257 q495 q496 q97 q497 okn_X3_at ⟨by rw [hRf]; exact Nat.le_of_ble_eq_true rfl, by rw [hRl]; exact Nat.le_of_ble_eq_true rfl⟩ (As := [.int a1, .int a2]) (rest := []) rfl (by first | exact Nat.le_of_ble_eq_true rfl | simp [cat_rf, cat_i, cat_j, cat_f, cat_d]) dX1_told_17 (ac_v ?_)
    rcases thr_some hF with ⟨q11, h9, e12, hF⟩ | ⟨v10, h9, e12, hF⟩
    · refine g_callS X (w_X1_there l hl D dA h1 v8 (.inl q11) h9 e12) q1258 q1259 q92 q1260 okn_X1_there ⟨by rw [hRf]; exact Nat.le_of_ble_eq_true rfl, by rw [hRl]; exact Nat.le_of_ble_eq_true rfl⟩ (As := [.int v8]) (rest := []) rfl (by first | exact Nat.le_of_ble_eq_true rfl | simp [cat_rf, cat_i, cat_j, cat_f, cat_d]) dX1_told_20 (ac_x ?_)
      cases hF
      exact gx_out X (fun x hx => nomatch hx)
    · refine g_callS X (w_X1_there l hl D dA h1 v8 (.inr v10) h9 e12) q1258 q1259 q92 q1260 okn_X1_there ⟨by rw [hRf]; exact Nat.le_of_ble_eq_true rfl, by rw [hRl]; exact Nat.le_of_ble_eq_true rfl⟩ (As := [.int v8]) (rest := []) rfl (by first | exact Nat.le_of_ble_eq_true rfl | simp [cat_rf, cat_i, cat_j, cat_f, cat_d]) dX1_told_20 (ac_v ?_)
      cases hF
      exact g_iret X hr dX1_told_23
def F_X1_tightOne (this : Nat) (h0 : HH) : Option (((Nat × String) ⊕ Option Nat) × HH) :=
  Option.bind (getR h0 0 0 (some this)) fun v1 =>
  Option.bind (getR h0 2 3 v1) fun v2 =>
  Option.bind (isO h0 3 v2) fun ob3 =>
  b2 (F_X3_tight ob3 h0) fun v5 h4 =>
  Option.bind (isO h4 3 v5) fun ob6 =>
  Option.bind (F_X3_hasNone ob6 h4) fun v7 =>
  thr (F_X1_needSuch (if v7 = 0 then (1 : Int32) else (0 : Int32)) h4) (fun q11 h9 =>
    some (.inl q11, h9)
  ) (fun u10 h9 =>
    some (.inr v5, h9)
  )
set_option maxHeartbeats 4000000 in
theorem w_X1_tightOne (l : Launch) (hl : l.stackTraces = false) (D : va_G) (dA : Nat → ClassId) (h0 : HH) (this : Nat) (oE : (Nat × String) ⊕ Option Nat) (hE : HH) (hF : F_X1_tightOne this h0 = some (oE, hE)) : MC D dA l yX1_tightOne cX1_tightOne 2 (Option.some (Jvm.ClassFile.FieldType.object "FerryClocks$Zone")) [] 9 220 [va_rf (some this)] h0 (rsR oE, hE) := by
  refine mc_of hl (plainFor_of_name pn_X1) (by simp [lg_sl, cat_rf, cat_i, cat_j, cat_f, cat_d]) ?_
  intro p e s m args below meth c R hRf hRl X hr hnm
  unfold F_X1_tightOne at hF
  rw [show argL [va_rf (some this)] = [some (va_rf (some this))] from by simp [argL, cat_rf, cat_i, cat_j, cat_f, cat_d]]
  refine G.pad 1 (L' := [some (va_rf (some this)), none]) rfl ?_
  refine g_aload_n X dX1_tightOne_0 rfl rfl ?_
  obtain ⟨v1, ev1, hF⟩ := bnd hF
  refine g_get (k := 0) X in_X1 rfl (by decide) q255 (Or.inl rfl) (getR_V ev1) dX1_tightOne_1 ?_
  obtain ⟨v2, ev2, hF⟩ := bnd hF
  refine g_getN (k := 3) X in_X2 rfl (by decide) (nw_in q189 rfl) rfl (getR_V ev2) dX1_tightOne_4 ?_
  obtain ⟨ob3, eob3, hF⟩ := bnd hF
  obtain ⟨v5, h4, eh4, hF⟩ := b2_some hF
  refine g_callV X eob3 rfl rfl (w_X3_tight l hl D dA h0 ob3  v5 h4 eh4) q778 q508 q509 q97 q510 okn_X3_tight ⟨by rw [hRf]; exact Nat.le_of_ble_eq_true rfl, by rw [hRl]; exact Nat.le_of_ble_eq_true rfl⟩ (As := []) (rest := []) rfl (by first | exact Nat.le_of_ble_eq_true rfl | simp [cat_rf, cat_i, cat_j, cat_f, cat_d]) dX1_tightOne_7 (ac_v ?_)
  refine g_astore_n (L' := [some (va_rf (some this)), some (va_rf v5)]) X dX1_tightOne_10 rfl (Nat.le_of_ble_eq_true rfl) (by first | rfl | simp [stL, rm1, clr2, cat_rf, cat_i, cat_j, cat_f, cat_d]) ?_
  refine g_aload_n X dX1_tightOne_11 rfl rfl ?_
  obtain ⟨ob6, eob6, hF⟩ := bnd hF
  obtain ⟨v7, ev7, hF⟩ := bnd hF
  refine g_callV X eob6 rfl rfl (w_X3_hasNone l hl D dA h4 ob6  v7 ev7) q779 q522 q523 q97 q524 okn_X3_hasNone ⟨by rw [hRf]; exact Nat.le_of_ble_eq_true rfl, by rw [hRl]; exact Nat.le_of_ble_eq_true rfl⟩ (As := []) (rest := []) rfl (by first | exact Nat.le_of_ble_eq_true rfl | simp [cat_rf, cat_i, cat_j, cat_f, cat_d]) dX1_tightOne_12 (ac_v ?_)
  suffices K : G p l e R s m args below meth c (RQ D dA h0 (rsR oE, hE) below s) D dA h0 2 h4 23 [none, some (va_rf v5)] [.int (if v7 = 0 then (1 : Int32) else (0 : Int32))] by
    refine g_if_ne X 22 dX1_tightOne_15 (by decide) (fun c8 => ?_) (fun c8 => ?_)
    · (try simp only [if_neg c8] at K)
      refine g_iconst (v := (0 : Int32)) X dX1_tightOne_22 (by decide) ?_
      refine G.drop [false, true] rfl ?_
      first | exact K | (simp only [if_neg c8]; exact K)
    · (try simp only [if_pos c8] at K)
      refine g_iconst (v := (1 : Int32)) X dX1_tightOne_18 (by decide) ?_
      refine g_goto X 23 dX1_tightOne_19 (by decide) ?_
      refine G.drop [false, true] rfl ?_
      first | exact K | (simp only [if_pos c8]; exact K)
  rcases thr_some hF with ⟨q11, h9, e12, hF⟩ | ⟨u10, h9, e12, hF⟩
  · refine g_callS X (w_X1_needSuch l hl D dA h4 (if v7 = 0 then (1 : Int32) else (0 : Int32)) (.inl q11) h9 e12) q1261 q1262 q92 q1263 okn_X1_needSuch ⟨by rw [hRf]; exact Nat.le_of_ble_eq_true rfl, by rw [hRl]; exact Nat.le_of_ble_eq_true rfl⟩ (As := [.int (if v7 = 0 then (1 : Int32) else (0 : Int32))]) (rest := []) rfl (by first | exact Nat.le_of_ble_eq_true rfl | simp [cat_rf, cat_i, cat_j, cat_f, cat_d]) dX1_tightOne_23 (ac_x ?_)
    cases hF
    exact gx_out X (fun x hx => nomatch hx)
  · refine g_callS X (w_X1_needSuch l hl D dA h4 (if v7 = 0 then (1 : Int32) else (0 : Int32)) (.inr u10) h9 e12) q1261 q1262 q92 q1263 okn_X1_needSuch ⟨by rw [hRf]; exact Nat.le_of_ble_eq_true rfl, by rw [hRl]; exact Nat.le_of_ble_eq_true rfl⟩ (As := [.int (if v7 = 0 then (1 : Int32) else (0 : Int32))]) (rest := []) rfl (by first | exact Nat.le_of_ble_eq_true rfl | simp [cat_rf, cat_i, cat_j, cat_f, cat_d]) dX1_tightOne_23 (ac_0 ?_)
    refine g_aload_n X dX1_tightOne_26 rfl rfl ?_
    cases hF
    exact g_aret X hr (Or.inl ⟨_, rfl⟩) dX1_tightOne_27
def F_X1_tightened (this : Nat) (a1 : Int32) (a2 : Int32) (h0 : HH) : Option (((Nat × String) ⊕ Int32) × HH) :=
  thr (F_X1_needArgument (F_X1_arePair a1 a2) h0) (fun q3 h1 =>
    some (.inl q3, h1)
  ) (fun u2 h1 =>
    Option.bind (isO h1 0 (some this)) fun ob5 =>
    thr (F_X1_tightOne ob5 h1) (fun q8 h6 =>
      some (.inl q8, h6)
    ) (fun v7 h6 =>
      Option.bind (isO h6 3 v7) fun ob10 =>
      Option.bind (F_X3_at ob10 a1 a2 h6) fun v11 =>
      thr (F_X1_there v11 h6) (fun q14 h12 =>
        some (.inl q14, h12)
      ) (fun v13 h12 =>
        some (.inr v13, h12)
      )
    )
  )
set_option maxHeartbeats 4000000 in
theorem w_X1_tightened (l : Launch) (hl : l.stackTraces = false) (D : va_G) (dA : Nat → ClassId) (h0 : HH) (this : Nat) (a1 : Int32) (a2 : Int32) (oE : (Nat × String) ⊕ Int32) (hE : HH) (hF : F_X1_tightened this a1 a2 h0 = some (oE, hE)) : MC D dA l yX1_tightened cX1_tightened 3 (Option.some Jvm.ClassFile.FieldType.int) [] 10 241 [va_rf (some this), .int a1, .int a2] h0 (rsI oE, hE) := by
  refine mc_of hl (plainFor_of_name pn_X1) (by simp [lg_sl, cat_rf, cat_i, cat_j, cat_f, cat_d]) ?_
  intro p e s m args below meth c R hRf hRl X hr hnm
  unfold F_X1_tightened at hF
  rw [show argL [va_rf (some this), .int a1, .int a2] = [some (va_rf (some this)), some (.int a1), some (.int a2)] from by simp [argL, cat_rf, cat_i, cat_j, cat_f, cat_d]]
  refine g_iload_n X dX1_tightened_0 rfl rfl ?_
  refine g_iload_n X dX1_tightened_1 rfl rfl ?_
  refine g_callS X (w_X1_arePair l hl D dA h0 a1 a2) q1253 q411 q92 q412 okn_X1_arePair ⟨by rw [hRf]; exact Nat.le_of_ble_eq_true rfl, by rw [hRl]; exact Nat.le_of_ble_eq_true rfl⟩ (As := [.int a1, .int a2]) (rest := []) rfl (by first | exact Nat.le_of_ble_eq_true rfl | simp [cat_rf, cat_i, cat_j, cat_f, cat_d]) dX1_tightened_2 (ac_v ?_)
  rcases thr_some hF with ⟨q3, h1, e4, hF⟩ | ⟨u2, h1, e4, hF⟩
  · refine g_callS X (w_X1_needArgument l hl D dA h0 (F_X1_arePair a1 a2) (.inl q3) h1 e4) q1254 q1255 q92 q1256 okn_X1_needArgument ⟨by rw [hRf]; exact Nat.le_of_ble_eq_true rfl, by rw [hRl]; exact Nat.le_of_ble_eq_true rfl⟩ (As := [.int (F_X1_arePair a1 a2)]) (rest := []) rfl (by first | exact Nat.le_of_ble_eq_true rfl | simp [cat_rf, cat_i, cat_j, cat_f, cat_d]) dX1_tightened_5 (ac_x ?_)
    cases hF
    exact gx_out X (fun x hx => nomatch hx)
  · refine g_callS X (w_X1_needArgument l hl D dA h0 (F_X1_arePair a1 a2) (.inr u2) h1 e4) q1254 q1255 q92 q1256 okn_X1_needArgument ⟨by rw [hRf]; exact Nat.le_of_ble_eq_true rfl, by rw [hRl]; exact Nat.le_of_ble_eq_true rfl⟩ (As := [.int (F_X1_arePair a1 a2)]) (rest := []) rfl (by first | exact Nat.le_of_ble_eq_true rfl | simp [cat_rf, cat_i, cat_j, cat_f, cat_d]) dX1_tightened_5 (ac_0 ?_)
    refine g_aload_n X dX1_tightened_8 rfl rfl ?_
    obtain ⟨ob5, eob5, hF⟩ := bnd hF
    rcases thr_some hF with ⟨q8, h6, e9, hF⟩ | ⟨v7, h6, e9, hF⟩
    · refine g_callV X eob5 rfl rfl (w_X1_tightOne l hl D dA h1 ob5  (.inl q8) h6 e9) q1277 q1279 qs17 q92 q1280 okn_X1_tightOne ⟨by rw [hRf]; exact Nat.le_of_ble_eq_true rfl, by rw [hRl]; exact Nat.le_of_ble_eq_true rfl⟩ (As := []) (rest := []) rfl (by first | exact Nat.le_of_ble_eq_true rfl | simp [cat_rf, cat_i, cat_j, cat_f, cat_d]) dX1_tightened_9 (ac_x ?_)
      cases hF
      exact gx_out X (fun x hx => nomatch hx)
    · refine g_callV X eob5 rfl rfl (w_X1_tightOne l hl D dA h1 ob5  (.inr v7) h6 e9) q1277 q1279 qs17 q92 q1280 okn_X1_tightOne ⟨by rw [hRf]; exact Nat.le_of_ble_eq_true rfl, by rw [hRl]; exact Nat.le_of_ble_eq_true rfl⟩ (As := []) (rest := []) rfl (by first | exact Nat.le_of_ble_eq_true rfl | simp [cat_rf, cat_i, cat_j, cat_f, cat_d]) dX1_tightened_9 (ac_v ?_)
      refine g_iload_n X dX1_tightened_12 rfl rfl ?_
      refine g_iload_n X dX1_tightened_13 rfl rfl ?_
      obtain ⟨ob10, eob10, hF⟩ := bnd hF
      obtain ⟨v11, ev11, hF⟩ := bnd hF
      refine g_callV X eob10 rfl rfl (w_X3_at l hl D dA h6 ob10 a1 a2 v11 ev11) q1257 q495 q496 q97 q497 okn_X3_at ⟨by rw [hRf]; exact Nat.le_of_ble_eq_true rfl, by rw [hRl]; exact Nat.le_of_ble_eq_true rfl⟩ (As := [.int a1, .int a2]) (rest := []) rfl (by first | exact Nat.le_of_ble_eq_true rfl | simp [cat_rf, cat_i, cat_j, cat_f, cat_d]) dX1_tightened_14 (ac_v ?_)
      rcases thr_some hF with ⟨q14, h12, e15, hF⟩ | ⟨v13, h12, e15, hF⟩
      · refine g_callS X (w_X1_there l hl D dA h6 v11 (.inl q14) h12 e15) q1258 q1259 q92 q1260 okn_X1_there ⟨by rw [hRf]; exact Nat.le_of_ble_eq_true rfl, by rw [hRl]; exact Nat.le_of_ble_eq_true rfl⟩ (As := [.int v11]) (rest := []) rfl (by first | exact Nat.le_of_ble_eq_true rfl | simp [cat_rf, cat_i, cat_j, cat_f, cat_d]) dX1_tightened_17 (ac_x ?_)
        cases hF
        exact gx_out X (fun x hx => nomatch hx)
      · refine g_callS X (w_X1_there l hl D dA h6 v11 (.inr v13) h12 e15) q1258 q1259 q92 q1260 okn_X1_there ⟨by rw [hRf]; exact Nat.le_of_ble_eq_true rfl, by rw [hRl]; exact Nat.le_of_ble_eq_true rfl⟩ (As := [.int v11]) (rest := []) rfl (by first | exact Nat.le_of_ble_eq_true rfl | simp [cat_rf, cat_i, cat_j, cat_f, cat_d]) dX1_tightened_17 (ac_v ?_)
        cases hF
        exact g_iret X hr dX1_tightened_20
def F_X1_isMoment_B10 (a1 : Option Nat) (k3_2 : Int32) (x1_2 : Int32) (x4_2 : Int32) (h0 : HH) : Option ((Int32 × Int32) ⊕ Int32) :=
  if k3_2 ≤ x4_2 then (
    some (.inr x1_2)
  ) else (
    Option.bind (aldI h0 0 a1 x4_2) fun v4 =>
    some (.inl ((x1_2 &&& (F_X1_isBetween (v4.toInt64) (0 : Int64) (999 : Int64))), (x4_2 + (1 : Int32))))
  )
def F_X1_isMoment (a1 : Option Nat) (h0 : HH) : Option Int32 :=
  Option.bind (alen h0 a1) fun v1 =>
  Option.bind (lp (fun z => F_X1_isMoment_B10 a1 v1 z.1 z.2 h0) 100000 ((1 : Int32), (0 : Int32))) fun v5 =>
  Option.bind (okZ v5) fun _ =>
  some v5
set_option maxHeartbeats 4000000 in
theorem w_X1_isMoment (l : Launch) (hl : l.stackTraces = false) (D : va_G) (dA : Nat → ClassId) (h0 : HH) (a1 : Option Nat) (rE : Int32) (hF : F_X1_isMoment a1 h0 = some rE) : MC D dA l yX1_isMoment cX1_isMoment 6 (Option.some Jvm.ClassFile.FieldType.boolean) [] 1 25 [va_rf a1] h0 (.inr (some (.int rE)), h0) := by
  refine mc_of hl (plainFor_of_name pn_X1) (by simp [lg_sl, cat_rf, cat_i, cat_j, cat_f, cat_d]) ?_
  intro p e s m args below meth c R hRf hRl X hr hnm
  unfold F_X1_isMoment at hF
  rw [show argL [va_rf a1] = [some (va_rf a1)] from by simp [argL, cat_rf, cat_i, cat_j, cat_f, cat_d]]
  refine G.pad 5 (L' := [some (va_rf a1), none, none, none, none, none]) rfl ?_
  refine g_iconst (v := (1 : Int32)) X dX1_isMoment_0 (by decide) ?_
  refine g_istore_n (L' := [some (va_rf a1), some (.int (1 : Int32)), none, none, none, none]) X dX1_isMoment_1 rfl (Nat.le_of_ble_eq_true rfl) (by first | rfl | simp [stL, rm1, clr2, cat_rf, cat_i, cat_j, cat_f, cat_d]) ?_
  refine g_aload_n X dX1_isMoment_2 rfl rfl ?_
  refine g_astore_n (L' := [some (va_rf a1), some (.int (1 : Int32)), some (va_rf a1), none, none, none]) X dX1_isMoment_3 rfl (Nat.le_of_ble_eq_true rfl) (by first | rfl | simp [stL, rm1, clr2, cat_rf, cat_i, cat_j, cat_f, cat_d]) ?_
  refine g_aload_n X dX1_isMoment_4 rfl rfl ?_
  obtain ⟨v1, ev1, hF⟩ := bnd hF
  refine g_alen X ev1 dX1_isMoment_5 ?_
  refine g_istore_n (L' := [some (va_rf a1), some (.int (1 : Int32)), some (va_rf a1), some (.int v1), none, none]) X dX1_isMoment_6 rfl (Nat.le_of_ble_eq_true rfl) (by first | rfl | simp [stL, rm1, clr2, cat_rf, cat_i, cat_j, cat_f, cat_d]) ?_
  refine g_iconst (v := (0 : Int32)) X dX1_isMoment_7 (by decide) ?_
  refine g_istore (L' := [some (va_rf a1), some (.int (1 : Int32)), some (va_rf a1), some (.int v1), some (.int (0 : Int32)), none]) X dX1_isMoment_8 (Nat.le_of_ble_eq_true rfl) (by first | rfl | simp [stL, rm1, clr2, cat_rf, cat_i, cat_j, cat_f, cat_d]) ?_
  refine G.drop [false, true, true, true, true, false] rfl ?_
  obtain ⟨v5, e7, hF⟩ := bnd hF
  refine lp_ind (Gs := (fun z => G p l e R s m args below meth c (RQ D dA h0 (.inr (some (.int rE)), h0) below s) D dA h0 6 h0 10 [none, some (.int z.1), some (va_rf a1), some (.int v1), some (.int z.2), none] [])) (Ge := (fun z => G p l e R s m args below meth c (RQ D dA h0 (.inr (some (.int rE)), h0) below s) D dA h0 6 h0 41 [none, some (.int z), none, none, none, none] [])) ?_ _ _ _ e7 ?_
  · rintro ⟨x1_2, x4_2⟩ o hF hgo hr
    change F_X1_isMoment_B10 a1 v1 x1_2 x4_2 h0 = some o at hF
    generalize v1 = k3_2 at hF hgo hr ⊢
    unfold F_X1_isMoment_B10 at hF
    show G p l e R s m args below meth c (RQ D dA h0 (.inr (some (.int rE)), h0) below s) D dA h0 6 h0 10 [none, some (.int x1_2), some (va_rf a1), some (.int k3_2), some (.int x4_2), none] []
    refine g_iload X dX1_isMoment_10 rfl ?_
    refine g_iload_n X dX1_isMoment_12 rfl rfl ?_
    refine g_icmp_ge X 41 dX1_isMoment_13 (by decide) (fun c3 => ?_) (fun c3 => ?_)
    · have hF := (if_pos c3).symm.trans hF
      refine G.drop [false, true, false, false, false, false] rfl ?_
      cases hF
      exact hr _ rfl
    · have hF := (if_neg c3).symm.trans hF
      refine g_aload_n X dX1_isMoment_16 rfl rfl ?_
      refine g_iload X dX1_isMoment_17 rfl ?_
      obtain ⟨v4, ev4, hF⟩ := bnd hF
      refine g_iald X ev4 dX1_isMoment_19 ?_
      refine g_istore (L' := [none, some (.int x1_2), some (va_rf a1), some (.int k3_2), some (.int x4_2), some (.int v4)]) X dX1_isMoment_20 (Nat.le_of_ble_eq_true rfl) (by first | rfl | simp [stL, rm1, clr2, cat_rf, cat_i, cat_j, cat_f, cat_d]) ?_
      refine g_iload_n X dX1_isMoment_22 rfl rfl ?_
      refine g_iload X dX1_isMoment_23 rfl ?_
      refine g_i2l X dX1_isMoment_25 ?_
      refine g_lconst (v := (0 : Int64)) X dX1_isMoment_26 (by decide) ?_
      refine g_ldc2 (v := (999 : Int64)) X q1291 dX1_isMoment_27 ?_
      refine g_callS X (w_X1_isBetween l hl D dA h0 (v4.toInt64) (0 : Int64) (999 : Int64)) q414 q415 q92 q416 okn_X1_isBetween ⟨by rw [hRf]; exact Nat.le_of_ble_eq_true rfl, by rw [hRl]; exact Nat.le_of_ble_eq_true rfl⟩ (As := [.long (v4.toInt64), .long (0 : Int64), .long (999 : Int64)]) (rest := [.int x1_2]) rfl (by first | exact Nat.le_of_ble_eq_true rfl | simp [cat_rf, cat_i, cat_j, cat_f, cat_d]) dX1_isMoment_30 (ac_v ?_)
      refine g_iand X dX1_isMoment_33 ?_
      refine g_istore_n (L' := [none, some (.int (x1_2 &&& (F_X1_isBetween (v4.toInt64) (0 : Int64) (999 : Int64)))), some (va_rf a1), some (.int k3_2), some (.int x4_2), some (.int v4)]) X dX1_isMoment_34 rfl (Nat.le_of_ble_eq_true rfl) (by first | rfl | simp [stL, rm1, clr2, cat_rf, cat_i, cat_j, cat_f, cat_d]) ?_
      refine g_iinc (v := (x4_2 + (1 : Int32))) (L' := [none, some (.int (x1_2 &&& (F_X1_isBetween (v4.toInt64) (0 : Int64) (999 : Int64)))), some (va_rf a1), some (.int k3_2), some (.int (x4_2 + (1 : Int32))), some (.int v4)]) X dX1_isMoment_35 (Nat.le_of_ble_eq_true rfl) rfl rfl (by first | rfl | simp [stL, rm1, clr2, cat_rf, cat_i, cat_j, cat_f, cat_d]) ?_
      refine g_goto X 10 dX1_isMoment_38 (by decide) ?_
      refine G.drop [false, true, true, true, true, false] rfl ?_
      cases hF
      exact hgo _ rfl
  show G p l e R s m args below meth c (RQ D dA h0 (.inr (some (.int rE)), h0) below s) D dA h0 6 h0 41 [none, some (.int v5), none, none, none, none] []
  refine g_iload_n X dX1_isMoment_41 rfl rfl ?_
  obtain ⟨_, z6, hF⟩ := bnd hF
  cases hF
  exact g_zret X hr (narZ z6) dX1_isMoment_42
def F_X1_hasMoment (this : Nat) (a1 : Int32) (a2 : Int32) (a3 : Int32) (h0 : HH) : Option (((Nat × String) ⊕ Int32) × HH) :=
  Option.bind (newA h0 0 (3 : Int32)) fun h1 =>
  Option.bind (astI h1 (some (hSz h0)) (0 : Int32) a1) fun h2 =>
  Option.bind (astI h2 (some (hSz h0)) (1 : Int32) a2) fun h3 =>
  Option.bind (astI h3 (some (hSz h0)) (2 : Int32) a3) fun h4 =>
  Option.bind (F_X1_isMoment (some (hSz h0)) h4) fun v5 =>
  thr (F_X1_needArgument v5 h4) (fun q8 h6 =>
    some (.inl q8, h6)
  ) (fun u7 h6 =>
    Option.bind (getR h6 0 0 (some this)) fun v10 =>
    Option.bind (getR h6 2 3 v10) fun v11 =>
    Option.bind (newA h6 0 (3 : Int32)) fun h12 =>
    Option.bind (astI h12 (some (hSz h6)) (0 : Int32) a1) fun h13 =>
    Option.bind (astI h13 (some (hSz h6)) (1 : Int32) a2) fun h14 =>
    Option.bind (astI h14 (some (hSz h6)) (2 : Int32) a3) fun h15 =>
    Option.bind (isO h15 3 v11) fun ob16 =>
    Option.bind (F_X3_has ob16 (some (hSz h6)) h15) fun v17 =>
    Option.bind (okZ v17) fun _ =>
    some (.inr v17, h15)
  )
set_option maxHeartbeats 4000000 in
theorem w_X1_hasMoment (l : Launch) (hl : l.stackTraces = false) (D : va_G) (dA : Nat → ClassId) (h0 : HH) (this : Nat) (a1 : Int32) (a2 : Int32) (a3 : Int32) (oE : (Nat × String) ⊕ Int32) (hE : HH) (hF : F_X1_hasMoment this a1 a2 a3 h0 = some (oE, hE)) : MC D dA l yX1_hasMoment cX1_hasMoment 4 (Option.some Jvm.ClassFile.FieldType.boolean) [] 9 220 [va_rf (some this), .int a1, .int a2, .int a3] h0 (rsI oE, hE) := by
  refine mc_of hl (plainFor_of_name pn_X1) (by simp [lg_sl, cat_rf, cat_i, cat_j, cat_f, cat_d]) ?_
  intro p e s m args below meth c R hRf hRl X hr hnm
  unfold F_X1_hasMoment at hF
  rw [show argL [va_rf (some this), .int a1, .int a2, .int a3] = [some (va_rf (some this)), some (.int a1), some (.int a2), some (.int a3)] from by simp [argL, cat_rf, cat_i, cat_j, cat_f, cat_d]]
  refine g_iconst (v := (3 : Int32)) X dX1_hasMoment_0 (by decide) ?_
  obtain ⟨h1, eh1, hF⟩ := bnd hF
  refine g_newa (atype := .int) (t := 0) X q182 rfl (funext fun _ => rfl) (by decide) eh1 dX1_hasMoment_1 ?_
  refine g_dup X dX1_hasMoment_3 (cat_rf _) ?_
  refine g_iconst (v := (0 : Int32)) X dX1_hasMoment_4 (by decide) ?_
  refine g_iload_n X dX1_hasMoment_5 rfl rfl ?_
  obtain ⟨h2, eh2, hF⟩ := bnd hF
  refine g_iast X eh2 dX1_hasMoment_6 ?_
  refine g_dup X dX1_hasMoment_7 (cat_rf _) ?_
  refine g_iconst (v := (1 : Int32)) X dX1_hasMoment_8 (by decide) ?_
  refine g_iload_n X dX1_hasMoment_9 rfl rfl ?_
  obtain ⟨h3, eh3, hF⟩ := bnd hF
  refine g_iast X eh3 dX1_hasMoment_10 ?_
  refine g_dup X dX1_hasMoment_11 (cat_rf _) ?_
  refine g_iconst (v := (2 : Int32)) X dX1_hasMoment_12 (by decide) ?_
  refine g_iload_n X dX1_hasMoment_13 rfl rfl ?_
  obtain ⟨h4, eh4, hF⟩ := bnd hF
  refine g_iast X eh4 dX1_hasMoment_14 ?_
  obtain ⟨v5, ev5, hF⟩ := bnd hF
  refine g_callS X (w_X1_isMoment l hl D dA h4 (some (hSz h0)) v5 ev5) q1288 q1289 q92 q1290 okn_X1_isMoment ⟨by rw [hRf]; exact Nat.le_of_ble_eq_true rfl, by rw [hRl]; exact Nat.le_of_ble_eq_true rfl⟩ (As := [va_rf (some (hSz h0))]) (rest := []) rfl (by first | exact Nat.le_of_ble_eq_true rfl | simp [cat_rf, cat_i, cat_j, cat_f, cat_d]) dX1_hasMoment_15 (ac_v ?_)
  rcases thr_some hF with ⟨q8, h6, e9, hF⟩ | ⟨u7, h6, e9, hF⟩
  · refine g_callS X (w_X1_needArgument l hl D dA h4 v5 (.inl q8) h6 e9) q1254 q1255 q92 q1256 okn_X1_needArgument ⟨by rw [hRf]; exact Nat.le_of_ble_eq_true rfl, by rw [hRl]; exact Nat.le_of_ble_eq_true rfl⟩ (As := [.int v5]) (rest := []) rfl (by first | exact Nat.le_of_ble_eq_true rfl | simp [cat_rf, cat_i, cat_j, cat_f, cat_d]) dX1_hasMoment_18 (ac_x ?_)
    cases hF
    exact gx_out X (fun x hx => nomatch hx)
  · refine g_callS X (w_X1_needArgument l hl D dA h4 v5 (.inr u7) h6 e9) q1254 q1255 q92 q1256 okn_X1_needArgument ⟨by rw [hRf]; exact Nat.le_of_ble_eq_true rfl, by rw [hRl]; exact Nat.le_of_ble_eq_true rfl⟩ (As := [.int v5]) (rest := []) rfl (by first | exact Nat.le_of_ble_eq_true rfl | simp [cat_rf, cat_i, cat_j, cat_f, cat_d]) dX1_hasMoment_18 (ac_0 ?_)
    refine g_aload_n X dX1_hasMoment_21 rfl rfl ?_
    obtain ⟨v10, ev10, hF⟩ := bnd hF
    refine g_get (k := 0) X in_X1 rfl (by decide) q255 (Or.inl rfl) (getR_V ev10) dX1_hasMoment_22 ?_
    obtain ⟨v11, ev11, hF⟩ := bnd hF
    refine g_getN (k := 3) X in_X2 rfl (by decide) (nw_in q189 rfl) rfl (getR_V ev11) dX1_hasMoment_25 ?_
    refine g_iconst (v := (3 : Int32)) X dX1_hasMoment_28 (by decide) ?_
    obtain ⟨h12, eh12, hF⟩ := bnd hF
    refine g_newa (atype := .int) (t := 0) X q182 rfl (funext fun _ => rfl) (by decide) eh12 dX1_hasMoment_29 ?_
    refine g_dup X dX1_hasMoment_31 (cat_rf _) ?_
    refine g_iconst (v := (0 : Int32)) X dX1_hasMoment_32 (by decide) ?_
    refine g_iload_n X dX1_hasMoment_33 rfl rfl ?_
    obtain ⟨h13, eh13, hF⟩ := bnd hF
    refine g_iast X eh13 dX1_hasMoment_34 ?_
    refine g_dup X dX1_hasMoment_35 (cat_rf _) ?_
    refine g_iconst (v := (1 : Int32)) X dX1_hasMoment_36 (by decide) ?_
    refine g_iload_n X dX1_hasMoment_37 rfl rfl ?_
    obtain ⟨h14, eh14, hF⟩ := bnd hF
    refine g_iast X eh14 dX1_hasMoment_38 ?_
    refine g_dup X dX1_hasMoment_39 (cat_rf _) ?_
    refine g_iconst (v := (2 : Int32)) X dX1_hasMoment_40 (by decide) ?_
    refine g_iload_n X dX1_hasMoment_41 rfl rfl ?_
    obtain ⟨h15, eh15, hF⟩ := bnd hF
    refine g_iast X eh15 dX1_hasMoment_42 ?_
    obtain ⟨ob16, eob16, hF⟩ := bnd hF
    obtain ⟨v17, ev17, hF⟩ := bnd hF
    refine g_callV X eob16 rfl rfl (w_X3_has l hl D dA h15 ob16 (some (hSz h6)) v17 ev17) q1292 q803 q804 q97 q805 okn_X3_has ⟨by rw [hRf]; exact Nat.le_of_ble_eq_true rfl, by rw [hRl]; exact Nat.le_of_ble_eq_true rfl⟩ (As := [va_rf (some (hSz h6))]) (rest := []) rfl (by first | exact Nat.le_of_ble_eq_true rfl | simp [cat_rf, cat_i, cat_j, cat_f, cat_d]) dX1_hasMoment_43 (ac_v ?_)
    obtain ⟨_, z18, hF⟩ := bnd hF
    cases hF
    exact g_zret X hr (narZ z18) dX1_hasMoment_46
def F_X1_leastOf (this : Nat) (a1 : Int32) (h0 : HH) : Option (((Nat × String) ⊕ Int32) × HH) :=
  thr (F_X1_needArgument (F_X1_isClock a1) h0) (fun q3 h1 =>
    some (.inl q3, h1)
  ) (fun u2 h1 =>
    Option.bind (isO h1 0 (some this)) fun ob5 =>
    thr (F_X1_tightOne ob5 h1) (fun q8 h6 =>
      some (.inl q8, h6)
    ) (fun v7 h6 =>
      Option.bind (isO h6 3 v7) fun ob10 =>
      Option.bind (F_X3_at ob10 (3 : Int32) a1 h6) fun v11 =>
      some (.inr (-v11), h6)
    )
  )
set_option maxHeartbeats 4000000 in
theorem w_X1_leastOf (l : Launch) (hl : l.stackTraces = false) (D : va_G) (dA : Nat → ClassId) (h0 : HH) (this : Nat) (a1 : Int32) (oE : (Nat × String) ⊕ Int32) (hE : HH) (hF : F_X1_leastOf this a1 h0 = some (oE, hE)) : MC D dA l yX1_leastOf cX1_leastOf 2 (Option.some Jvm.ClassFile.FieldType.int) [] 10 241 [va_rf (some this), .int a1] h0 (rsI oE, hE) := by
  refine mc_of hl (plainFor_of_name pn_X1) (by simp [lg_sl, cat_rf, cat_i, cat_j, cat_f, cat_d]) ?_
  intro p e s m args below meth c R hRf hRl X hr hnm
  unfold F_X1_leastOf at hF
  rw [show argL [va_rf (some this), .int a1] = [some (va_rf (some this)), some (.int a1)] from by simp [argL, cat_rf, cat_i, cat_j, cat_f, cat_d]]
  refine g_iload_n X dX1_leastOf_0 rfl rfl ?_
  refine g_callS X (w_X1_isClock l hl D dA h0 a1) q1300 q560 q92 q561 okn_X1_isClock ⟨by rw [hRf]; exact Nat.le_of_ble_eq_true rfl, by rw [hRl]; exact Nat.le_of_ble_eq_true rfl⟩ (As := [.int a1]) (rest := []) rfl (by first | exact Nat.le_of_ble_eq_true rfl | simp [cat_rf, cat_i, cat_j, cat_f, cat_d]) dX1_leastOf_1 (ac_v ?_)
  rcases thr_some hF with ⟨q3, h1, e4, hF⟩ | ⟨u2, h1, e4, hF⟩
  · refine g_callS X (w_X1_needArgument l hl D dA h0 (F_X1_isClock a1) (.inl q3) h1 e4) q1254 q1255 q92 q1256 okn_X1_needArgument ⟨by rw [hRf]; exact Nat.le_of_ble_eq_true rfl, by rw [hRl]; exact Nat.le_of_ble_eq_true rfl⟩ (As := [.int (F_X1_isClock a1)]) (rest := []) rfl (by first | exact Nat.le_of_ble_eq_true rfl | simp [cat_rf, cat_i, cat_j, cat_f, cat_d]) dX1_leastOf_4 (ac_x ?_)
    cases hF
    exact gx_out X (fun x hx => nomatch hx)
  · refine g_callS X (w_X1_needArgument l hl D dA h0 (F_X1_isClock a1) (.inr u2) h1 e4) q1254 q1255 q92 q1256 okn_X1_needArgument ⟨by rw [hRf]; exact Nat.le_of_ble_eq_true rfl, by rw [hRl]; exact Nat.le_of_ble_eq_true rfl⟩ (As := [.int (F_X1_isClock a1)]) (rest := []) rfl (by first | exact Nat.le_of_ble_eq_true rfl | simp [cat_rf, cat_i, cat_j, cat_f, cat_d]) dX1_leastOf_4 (ac_0 ?_)
    refine g_aload_n X dX1_leastOf_7 rfl rfl ?_
    obtain ⟨ob5, eob5, hF⟩ := bnd hF
    rcases thr_some hF with ⟨q8, h6, e9, hF⟩ | ⟨v7, h6, e9, hF⟩
    · refine g_callV X eob5 rfl rfl (w_X1_tightOne l hl D dA h1 ob5  (.inl q8) h6 e9) q1277 q1279 qs17 q92 q1280 okn_X1_tightOne ⟨by rw [hRf]; exact Nat.le_of_ble_eq_true rfl, by rw [hRl]; exact Nat.le_of_ble_eq_true rfl⟩ (As := []) (rest := []) rfl (by first | exact Nat.le_of_ble_eq_true rfl | simp [cat_rf, cat_i, cat_j, cat_f, cat_d]) dX1_leastOf_8 (ac_x ?_)
      cases hF
      exact gx_out X (fun x hx => nomatch hx)
    · refine g_callV X eob5 rfl rfl (w_X1_tightOne l hl D dA h1 ob5  (.inr v7) h6 e9) q1277 q1279 qs17 q92 q1280 okn_X1_tightOne ⟨by rw [hRf]; exact Nat.le_of_ble_eq_true rfl, by rw [hRl]; exact Nat.le_of_ble_eq_true rfl⟩ (As := []) (rest := []) rfl (by first | exact Nat.le_of_ble_eq_true rfl | simp [cat_rf, cat_i, cat_j, cat_f, cat_d]) dX1_leastOf_8 (ac_v ?_)
      refine g_iconst (v := (3 : Int32)) X dX1_leastOf_11 (by decide) ?_
      refine g_iload_n X dX1_leastOf_12 rfl rfl ?_
      obtain ⟨ob10, eob10, hF⟩ := bnd hF
      obtain ⟨v11, ev11, hF⟩ := bnd hF
      refine g_callV X eob10 rfl rfl (w_X3_at l hl D dA h6 ob10 (3 : Int32) a1 v11 ev11) q1257 q495 q496 q97 q497 okn_X3_at ⟨by rw [hRf]; exact Nat.le_of_ble_eq_true rfl, by rw [hRl]; exact Nat.le_of_ble_eq_true rfl⟩ (As := [.int (3 : Int32), .int a1]) (rest := []) rfl (by first | exact Nat.le_of_ble_eq_true rfl | simp [cat_rf, cat_i, cat_j, cat_f, cat_d]) dX1_leastOf_13 (ac_v ?_)
      refine g_ineg X dX1_leastOf_16 ?_
      cases hF
      exact g_iret X hr dX1_leastOf_17
def F_X1_mostOf (this : Nat) (a1 : Int32) (h0 : HH) : Option (((Nat × String) ⊕ Int32) × HH) :=
  thr (F_X1_needArgument (F_X1_isClock a1) h0) (fun q3 h1 =>
    some (.inl q3, h1)
  ) (fun u2 h1 =>
    Option.bind (isO h1 0 (some this)) fun ob5 =>
    thr (F_X1_tightOne ob5 h1) (fun q8 h6 =>
      some (.inl q8, h6)
    ) (fun v7 h6 =>
      Option.bind (isO h6 3 v7) fun ob10 =>
      Option.bind (F_X3_at ob10 a1 (3 : Int32) h6) fun v11 =>
      thr (F_X1_there v11 h6) (fun q14 h12 =>
        some (.inl q14, h12)
      ) (fun v13 h12 =>
        some (.inr v13, h12)
      )
    )
  )
set_option maxHeartbeats 4000000 in
theorem w_X1_mostOf (l : Launch) (hl : l.stackTraces = false) (D : va_G) (dA : Nat → ClassId) (h0 : HH) (this : Nat) (a1 : Int32) (oE : (Nat × String) ⊕ Int32) (hE : HH) (hF : F_X1_mostOf this a1 h0 = some (oE, hE)) : MC D dA l yX1_mostOf cX1_mostOf 2 (Option.some Jvm.ClassFile.FieldType.int) [] 10 241 [va_rf (some this), .int a1] h0 (rsI oE, hE) := by
  refine mc_of hl (plainFor_of_name pn_X1) (by simp [lg_sl, cat_rf, cat_i, cat_j, cat_f, cat_d]) ?_
  intro p e s m args below meth c R hRf hRl X hr hnm
  unfold F_X1_mostOf at hF
  rw [show argL [va_rf (some this), .int a1] = [some (va_rf (some this)), some (.int a1)] from by simp [argL, cat_rf, cat_i, cat_j, cat_f, cat_d]]
  refine g_iload_n X dX1_mostOf_0 rfl rfl ?_
  refine g_callS X (w_X1_isClock l hl D dA h0 a1) q1300 q560 q92 q561 okn_X1_isClock ⟨by rw [hRf]; exact Nat.le_of_ble_eq_true rfl, by rw [hRl]; exact Nat.le_of_ble_eq_true rfl⟩ (As := [.int a1]) (rest := []) rfl (by first | exact Nat.le_of_ble_eq_true rfl | simp [cat_rf, cat_i, cat_j, cat_f, cat_d]) dX1_mostOf_1 (ac_v ?_)
  rcases thr_some hF with ⟨q3, h1, e4, hF⟩ | ⟨u2, h1, e4, hF⟩
  · refine g_callS X (w_X1_needArgument l hl D dA h0 (F_X1_isClock a1) (.inl q3) h1 e4) q1254 q1255 q92 q1256 okn_X1_needArgument ⟨by rw [hRf]; exact Nat.le_of_ble_eq_true rfl, by rw [hRl]; exact Nat.le_of_ble_eq_true rfl⟩ (As := [.int (F_X1_isClock a1)]) (rest := []) rfl (by first | exact Nat.le_of_ble_eq_true rfl | simp [cat_rf, cat_i, cat_j, cat_f, cat_d]) dX1_mostOf_4 (ac_x ?_)
    cases hF
    exact gx_out X (fun x hx => nomatch hx)
  · refine g_callS X (w_X1_needArgument l hl D dA h0 (F_X1_isClock a1) (.inr u2) h1 e4) q1254 q1255 q92 q1256 okn_X1_needArgument ⟨by rw [hRf]; exact Nat.le_of_ble_eq_true rfl, by rw [hRl]; exact Nat.le_of_ble_eq_true rfl⟩ (As := [.int (F_X1_isClock a1)]) (rest := []) rfl (by first | exact Nat.le_of_ble_eq_true rfl | simp [cat_rf, cat_i, cat_j, cat_f, cat_d]) dX1_mostOf_4 (ac_0 ?_)
    refine g_aload_n X dX1_mostOf_7 rfl rfl ?_
    obtain ⟨ob5, eob5, hF⟩ := bnd hF
    rcases thr_some hF with ⟨q8, h6, e9, hF⟩ | ⟨v7, h6, e9, hF⟩
    · refine g_callV X eob5 rfl rfl (w_X1_tightOne l hl D dA h1 ob5  (.inl q8) h6 e9) q1277 q1279 qs17 q92 q1280 okn_X1_tightOne ⟨by rw [hRf]; exact Nat.le_of_ble_eq_true rfl, by rw [hRl]; exact Nat.le_of_ble_eq_true rfl⟩ (As := []) (rest := []) rfl (by first | exact Nat.le_of_ble_eq_true rfl | simp [cat_rf, cat_i, cat_j, cat_f, cat_d]) dX1_mostOf_8 (ac_x ?_)
      cases hF
      exact gx_out X (fun x hx => nomatch hx)
    · refine g_callV X eob5 rfl rfl (w_X1_tightOne l hl D dA h1 ob5  (.inr v7) h6 e9) q1277 q1279 qs17 q92 q1280 okn_X1_tightOne ⟨by rw [hRf]; exact Nat.le_of_ble_eq_true rfl, by rw [hRl]; exact Nat.le_of_ble_eq_true rfl⟩ (As := []) (rest := []) rfl (by first | exact Nat.le_of_ble_eq_true rfl | simp [cat_rf, cat_i, cat_j, cat_f, cat_d]) dX1_mostOf_8 (ac_v ?_)
      refine g_iload_n X dX1_mostOf_11 rfl rfl ?_
      refine g_iconst (v := (3 : Int32)) X dX1_mostOf_12 (by decide) ?_
      obtain ⟨ob10, eob10, hF⟩ := bnd hF
      obtain ⟨v11, ev11, hF⟩ := bnd hF
      refine g_callV X eob10 rfl rfl (w_X3_at l hl D dA h6 ob10 a1 (3 : Int32) v11 ev11) q1257 q495 q496 q97 q497 okn_X3_at ⟨by rw [hRf]; exact Nat.le_of_ble_eq_true rfl, by rw [hRl]; exact Nat.le_of_ble_eq_true rfl⟩ (As := [.int a1, .int (3 : Int32)]) (rest := []) rfl (by first | exact Nat.le_of_ble_eq_true rfl | simp [cat_rf, cat_i, cat_j, cat_f, cat_d]) dX1_mostOf_13 (ac_v ?_)
      rcases thr_some hF with ⟨q14, h12, e15, hF⟩ | ⟨v13, h12, e15, hF⟩
      · refine g_callS X (w_X1_there l hl D dA h6 v11 (.inl q14) h12 e15) q1258 q1259 q92 q1260 okn_X1_there ⟨by rw [hRf]; exact Nat.le_of_ble_eq_true rfl, by rw [hRl]; exact Nat.le_of_ble_eq_true rfl⟩ (As := [.int v11]) (rest := []) rfl (by first | exact Nat.le_of_ble_eq_true rfl | simp [cat_rf, cat_i, cat_j, cat_f, cat_d]) dX1_mostOf_16 (ac_x ?_)
        cases hF
        exact gx_out X (fun x hx => nomatch hx)
      · refine g_callS X (w_X1_there l hl D dA h6 v11 (.inr v13) h12 e15) q1258 q1259 q92 q1260 okn_X1_there ⟨by rw [hRf]; exact Nat.le_of_ble_eq_true rfl, by rw [hRl]; exact Nat.le_of_ble_eq_true rfl⟩ (As := [.int v11]) (rest := []) rfl (by first | exact Nat.le_of_ble_eq_true rfl | simp [cat_rf, cat_i, cat_j, cat_f, cat_d]) dX1_mostOf_16 (ac_v ?_)
        cases hF
        exact g_iret X hr dX1_mostOf_19
def F_X1_mostTold_B6 (this : Nat) (x1_1 : Int32) (x2_1 : Int32) (h0 : HH) : Option ((Int32 × Int32) ⊕ Int32) :=
  if (3 : Int32) ≤ x2_1 then (
    some (.inr x1_1)
  ) else (
    Option.bind (getR h0 0 0 (some this)) fun v3 =>
    Option.bind (getR h0 2 3 v3) fun v4 =>
    Option.bind (isO h0 3 v4) fun ob5 =>
    Option.bind (F_X3_at ob5 x2_1 (3 : Int32) h0) fun v6 =>
    some (.inl ((if v6 = (9999 : Int32) then x1_1 else (F_J11_max x1_1 (v6 + (1 : Int32)))), (x2_1 + (1 : Int32))))
  )
def F_X1_mostTold (this : Nat) (h0 : HH) : Option Int32 :=
  Option.bind (lp (fun z => F_X1_mostTold_B6 this z.1 z.2 h0) 100000 ((999 : Int32), (0 : Int32))) fun v8 =>
  some v8
set_option maxHeartbeats 4000000 in
theorem w_X1_mostTold (l : Launch) (hl : l.stackTraces = false) (D : va_G) (dA : Nat → ClassId) (h0 : HH) (this : Nat) (rE : Int32) (hF : F_X1_mostTold this h0 = some rE) : MC D dA l yX1_mostTold cX1_mostTold 4 (Option.some Jvm.ClassFile.FieldType.int) [] 1 22 [va_rf (some this)] h0 (.inr (some (.int rE)), h0) := by
  refine mc_of hl (plainFor_of_name pn_X1) (by simp [lg_sl, cat_rf, cat_i, cat_j, cat_f, cat_d]) ?_
  intro p e s m args below meth c R hRf hRl X hr hnm
  unfold F_X1_mostTold at hF
  rw [show argL [va_rf (some this)] = [some (va_rf (some this))] from by simp [argL, cat_rf, cat_i, cat_j, cat_f, cat_d]]
  refine G.pad 3 (L' := [some (va_rf (some this)), none, none, none]) rfl ?_
  refine g_sipush (v := (999 : Int32)) X dX1_mostTold_0 (by decide) ?_
  refine g_istore_n (L' := [some (va_rf (some this)), some (.int (999 : Int32)), none, none]) X dX1_mostTold_3 rfl (Nat.le_of_ble_eq_true rfl) (by first | rfl | simp [stL, rm1, clr2, cat_rf, cat_i, cat_j, cat_f, cat_d]) ?_
  refine g_iconst (v := (0 : Int32)) X dX1_mostTold_4 (by decide) ?_
  refine g_istore_n (L' := [some (va_rf (some this)), some (.int (999 : Int32)), some (.int (0 : Int32)), none]) X dX1_mostTold_5 rfl (Nat.le_of_ble_eq_true rfl) (by first | rfl | simp [stL, rm1, clr2, cat_rf, cat_i, cat_j, cat_f, cat_d]) ?_
  obtain ⟨v8, e9, hF⟩ := bnd hF
  refine lp_ind (Gs := (fun z => G p l e R s m args below meth c (RQ D dA h0 (.inr (some (.int rE)), h0) below s) D dA h0 4 h0 6 [some (va_rf (some this)), some (.int z.1), some (.int z.2), none] [])) (Ge := (fun z => G p l e R s m args below meth c (RQ D dA h0 (.inr (some (.int rE)), h0) below s) D dA h0 4 h0 49 [none, some (.int z), none, none] [])) ?_ _ _ _ e9 ?_
  · rintro ⟨x1_1, x2_1⟩ o hF hgo hr
    change F_X1_mostTold_B6 this x1_1 x2_1 h0 = some o at hF
    unfold F_X1_mostTold_B6 at hF
    show G p l e R s m args below meth c (RQ D dA h0 (.inr (some (.int rE)), h0) below s) D dA h0 4 h0 6 [some (va_rf (some this)), some (.int x1_1), some (.int x2_1), none] []
    refine g_iload_n X dX1_mostTold_6 rfl rfl ?_
    refine g_iconst (v := (3 : Int32)) X dX1_mostTold_7 (by decide) ?_
    refine g_icmp_ge X 49 dX1_mostTold_8 (by decide) (fun c2 => ?_) (fun c2 => ?_)
    · have hF := (if_pos c2).symm.trans hF
      refine G.drop [false, true, false, false] rfl ?_
      cases hF
      exact hr _ rfl
    · have hF := (if_neg c2).symm.trans hF
      refine g_aload_n X dX1_mostTold_11 rfl rfl ?_
      obtain ⟨v3, ev3, hF⟩ := bnd hF
      refine g_get (k := 0) X in_X1 rfl (by decide) q255 (Or.inl rfl) (getR_V ev3) dX1_mostTold_12 ?_
      obtain ⟨v4, ev4, hF⟩ := bnd hF
      refine g_getN (k := 3) X in_X2 rfl (by decide) (nw_in q189 rfl) rfl (getR_V ev4) dX1_mostTold_15 ?_
      refine g_iload_n X dX1_mostTold_18 rfl rfl ?_
      refine g_iconst (v := (3 : Int32)) X dX1_mostTold_19 (by decide) ?_
      obtain ⟨ob5, eob5, hF⟩ := bnd hF
      obtain ⟨v6, ev6, hF⟩ := bnd hF
      refine g_callV X eob5 rfl rfl (w_X3_at l hl D dA h0 ob5 x2_1 (3 : Int32) v6 ev6) q1257 q495 q496 q97 q497 okn_X3_at ⟨by rw [hRf]; exact Nat.le_of_ble_eq_true rfl, by rw [hRl]; exact Nat.le_of_ble_eq_true rfl⟩ (As := [.int x2_1, .int (3 : Int32)]) (rest := []) rfl (by first | exact Nat.le_of_ble_eq_true rfl | simp [cat_rf, cat_i, cat_j, cat_f, cat_d]) dX1_mostTold_20 (ac_v ?_)
      refine g_istore_n (L' := [some (va_rf (some this)), some (.int x1_1), some (.int x2_1), some (.int v6)]) X dX1_mostTold_23 rfl (Nat.le_of_ble_eq_true rfl) (by first | rfl | simp [stL, rm1, clr2, cat_rf, cat_i, cat_j, cat_f, cat_d]) ?_
      refine g_iload_n X dX1_mostTold_24 rfl rfl ?_
      refine g_sipush (v := (9999 : Int32)) X dX1_mostTold_25 (by decide) ?_
      suffices K : G p l e R s m args below meth c (RQ D dA h0 (.inr (some (.int rE)), h0) below s) D dA h0 4 h0 42 [some (va_rf (some this)), none, some (.int x2_1), none] [.int (if v6 = (9999 : Int32) then x1_1 else (F_J11_max x1_1 (v6 + (1 : Int32))))] by
        refine g_icmp_ne X 35 dX1_mostTold_28 (by decide) (fun c7 => ?_) (fun c7 => ?_)
        · (try simp only [if_neg c7] at K)
          refine g_iload_n X dX1_mostTold_35 rfl rfl ?_
          refine g_iload_n X dX1_mostTold_36 rfl rfl ?_
          refine g_iconst (v := (1 : Int32)) X dX1_mostTold_37 (by decide) ?_
          refine g_iadd X dX1_mostTold_38 ?_
          refine g_callS X (w_J11_max l hl D dA h0 x1_1 (v6 + (1 : Int32))) q1319 q357 q108 q358 okn_J11_max ⟨by rw [hRf]; exact Nat.le_of_ble_eq_true rfl, by rw [hRl]; exact Nat.le_of_ble_eq_true rfl⟩ (As := [.int x1_1, .int (v6 + (1 : Int32))]) (rest := []) rfl (by first | exact Nat.le_of_ble_eq_true rfl | simp [cat_rf, cat_i, cat_j, cat_f, cat_d]) dX1_mostTold_39 (ac_v ?_)
          refine G.drop [true, false, true, false] rfl ?_
          first | exact K | (simp only [if_neg c7]; exact K)
        · (try simp only [if_pos c7] at K)
          refine g_iload_n X dX1_mostTold_31 rfl rfl ?_
          refine g_goto X 42 dX1_mostTold_32 (by decide) ?_
          refine G.drop [true, false, true, false] rfl ?_
          first | exact K | (simp only [if_pos c7]; exact K)
      refine g_istore_n (L' := [some (va_rf (some this)), some (.int (if v6 = (9999 : Int32) then x1_1 else (F_J11_max x1_1 (v6 + (1 : Int32))))), some (.int x2_1), none]) X dX1_mostTold_42 rfl (Nat.le_of_ble_eq_true rfl) (by first | rfl | simp [stL, rm1, clr2, cat_rf, cat_i, cat_j, cat_f, cat_d]) ?_
      refine g_iinc (v := (x2_1 + (1 : Int32))) (L' := [some (va_rf (some this)), some (.int (if v6 = (9999 : Int32) then x1_1 else (F_J11_max x1_1 (v6 + (1 : Int32))))), some (.int (x2_1 + (1 : Int32))), none]) X dX1_mostTold_43 (Nat.le_of_ble_eq_true rfl) rfl rfl (by first | rfl | simp [stL, rm1, clr2, cat_rf, cat_i, cat_j, cat_f, cat_d]) ?_
      refine g_goto X 6 dX1_mostTold_46 (by decide) ?_
      cases hF
      exact hgo _ rfl
  show G p l e R s m args below meth c (RQ D dA h0 (.inr (some (.int rE)), h0) below s) D dA h0 4 h0 49 [none, some (.int v8), none, none] []
  refine g_iload_n X dX1_mostTold_49 rfl rfl ?_
  cases hF
  exact g_iret X hr dX1_mostTold_50
