def F_X5_init (this : Nat) (a1 : Option Nat) (h0 : HH) : Option HH :=
  Option.bind (nnl (some this)) fun ob1 =>
  Option.bind (getI h0 4 0 a1) fun v2 =>
  Option.bind (putV h0 4 0 (some this) (.int v2)) fun h3 =>
  Option.bind (getI h3 4 1 a1) fun v4 =>
  Option.bind (putV h3 4 1 (some this) (.int v4)) fun h5 =>
  Option.bind (getR h5 4 2 a1) fun v6 =>
  Option.bind (cloneA h5 0 v6) fun h7 =>
  Option.bind (castA h7 0 (some (hSz h5))) fun _ =>
  Option.bind (putV h7 4 2 (some this) (va_rf (some (hSz h5)))) fun h9 =>
  Option.bind (getR h9 4 3 a1) fun v10 =>
  Option.bind (cloneA h9 0 v10) fun h11 =>
  Option.bind (castA h11 0 (some (hSz h9))) fun _ =>
  Option.bind (putV h11 4 3 (some this) (va_rf (some (hSz h9)))) fun h13 =>
  Option.bind (getI h13 4 4 a1) fun v14 =>
  Option.bind (putV h13 4 4 (some this) (.int v14)) fun h15 =>
  some h15
set_option maxHeartbeats 4000000 in
theorem w_X5_init (l : Launch) (hl : l.stackTraces = false) (D : va_G) (dA : Nat → ClassId) (h0 : HH) (this : Nat) (a1 : Option Nat) (hE : HH) (hF : F_X5_init this a1 h0 = some hE) : MC D dA l yX5_init cX5_init 2 (Option.none : Option Jvm.ClassFile.FieldType) [] 1 24 [va_rf (some this), va_rf a1] h0 (.inr none, hE) := by
  refine mc_of hl (plainFor_of_name pn_X5) (by simp [lg_sl, cat_rf, cat_i, cat_j, cat_f, cat_d]) ?_
  intro p e s m args below meth c R hRf hRl X hr hnm
  unfold F_X5_init at hF
  rw [show argL [va_rf (some this), va_rf a1] = [some (va_rf (some this)), some (va_rf a1)] from by simp [argL, cat_rf, cat_i, cat_j, cat_f, cat_d]]
  refine g_aload_n X dX5_init_0 rfl rfl ?_
  obtain ⟨ob1, eob1, hF⟩ := bnd hF
  refine g_objInit X ob1 eob1 q311 q132 q133 ⟨by rw [hRf]; exact Nat.le_of_ble_eq_true rfl, by rw [hRl]; exact Nat.le_of_ble_eq_true rfl⟩ (by first | exact Nat.le_of_ble_eq_true rfl | simp [cat_rf, cat_i, cat_j, cat_f, cat_d]) dX5_init_1 ?_
  refine g_aload_n X dX5_init_4 rfl rfl ?_
  refine g_aload_n X dX5_init_5 rfl rfl ?_
  obtain ⟨v2, ev2, hF⟩ := bnd hF
  refine g_get (k := 0) X in_X5 rfl (by decide) q314 (Or.inl rfl) (getI_V ev2) dX5_init_6 ?_
  obtain ⟨h3, eh3, hF⟩ := bnd hF
  refine g_putF (k := 0) X in_X5 tyX5 tyX5_ok nmX5 rfl (by decide) q314 rfl rfl hnm rfl (tyX5_ok 0 (by decide)) rfl rfl eh3 dX5_init_9 ?_
  refine g_aload_n X dX5_init_12 rfl rfl ?_
  refine g_aload_n X dX5_init_13 rfl rfl ?_
  obtain ⟨v4, ev4, hF⟩ := bnd hF
  refine g_get (k := 1) X in_X5 rfl (by decide) q317 (Or.inl rfl) (getI_V ev4) dX5_init_14 ?_
  obtain ⟨h5, eh5, hF⟩ := bnd hF
  refine g_putF (k := 1) X in_X5 tyX5 tyX5_ok nmX5 rfl (by decide) q317 rfl rfl hnm rfl (tyX5_ok 1 (by decide)) rfl rfl eh5 dX5_init_17 ?_
  refine g_aload_n X dX5_init_20 rfl rfl ?_
  refine g_aload_n X dX5_init_21 rfl rfl ?_
  obtain ⟨v6, ev6, hF⟩ := bnd hF
  refine g_get (k := 2) X in_X5 rfl (by decide) q320 (Or.inl rfl) (getR_V ev6) dX5_init_22 ?_
  obtain ⟨h7, eh7, hF⟩ := bnd hF
  refine g_cloneI X q312 ⟨by rw [hRf]; exact Nat.le_of_ble_eq_true rfl, by rw [hRl]; exact Nat.le_of_ble_eq_true rfl⟩ (by first | exact Nat.le_of_ble_eq_true rfl | simp [cat_rf, cat_i, cat_j, cat_f, cat_d]) eh7 dX5_init_25 ?_
  obtain ⟨_, z8, hF⟩ := bnd hF
  refine g_castA X q313 rfl rfl z8 dX5_init_28 ?_
  obtain ⟨h9, eh9, hF⟩ := bnd hF
  refine g_putF (k := 2) X in_X5 tyX5 tyX5_ok nmX5 rfl (by decide) q320 rfl rfl hnm rfl (tyX5_ok 2 (by decide)) (narrow_rfA _ _) (fits_rfA _ _) eh9 dX5_init_31 ?_
  refine g_aload_n X dX5_init_34 rfl rfl ?_
  refine g_aload_n X dX5_init_35 rfl rfl ?_
  obtain ⟨v10, ev10, hF⟩ := bnd hF
  refine g_get (k := 3) X in_X5 rfl (by decide) q322 (Or.inl rfl) (getR_V ev10) dX5_init_36 ?_
  obtain ⟨h11, eh11, hF⟩ := bnd hF
  refine g_cloneI X q312 ⟨by rw [hRf]; exact Nat.le_of_ble_eq_true rfl, by rw [hRl]; exact Nat.le_of_ble_eq_true rfl⟩ (by first | exact Nat.le_of_ble_eq_true rfl | simp [cat_rf, cat_i, cat_j, cat_f, cat_d]) eh11 dX5_init_39 ?_
  obtain ⟨_, z12, hF⟩ := bnd hF
  refine g_castA X q313 rfl rfl z12 dX5_init_42 ?_
  obtain ⟨h13, eh13, hF⟩ := bnd hF
  refine g_putF (k := 3) X in_X5 tyX5 tyX5_ok nmX5 rfl (by decide) q322 rfl rfl hnm rfl (tyX5_ok 3 (by decide)) (narrow_rfA _ _) (fits_rfA _ _) eh13 dX5_init_45 ?_
  refine g_aload_n X dX5_init_48 rfl rfl ?_
  refine g_aload_n X dX5_init_49 rfl rfl ?_
  obtain ⟨v14, ev14, hF⟩ := bnd hF
  refine g_get (k := 4) X in_X5 rfl (by decide) q324 (Or.inl rfl) (getI_V ev14) dX5_init_50 ?_
  obtain ⟨h15, eh15, hF⟩ := bnd hF
  refine g_put (k := 4) X in_X5 tyX5 tyX5_ok nmX5 rfl (by decide) q324 (Or.inl rfl) rfl (tyX5_ok 4 (by decide)) rfl rfl eh15 dX5_init_53 ?_
  cases hF
  exact g_vret X hr dX5_init_56
def F_X5_init_2_B30 (this : Nat) (a1 : Int32) (a2 : Int32) (x3_8 : Int32) (h_8 : HH) : Option ((Int32 × HH) ⊕ HH) :=
  if (3 : Int32) ≤ x3_8 then (
    some (.inr h_8)
  ) else (
    Option.bind (getR h_8 4 3 (some this)) fun v10 =>
    Option.bind (astI h_8 v10 x3_8 (10 : Int32)) fun h11 =>
    some (.inl ((x3_8 + (1 : Int32)), h11))
  )
def F_X5_init_2 (this : Nat) (a1 : Int32) (a2 : Int32) (h0 : HH) : Option HH :=
  Option.bind (nnl (some this)) fun ob1 =>
  Option.bind (putV h0 4 0 (some this) (.int a1)) fun h2 =>
  Option.bind (putV h2 4 1 (some this) (.int a2)) fun h3 =>
  Option.bind (newA h3 0 (3 : Int32)) fun h4 =>
  Option.bind (putV h4 4 2 (some this) (va_rf (some (hSz h3)))) fun h5 =>
  Option.bind (newA h5 0 (3 : Int32)) fun h6 =>
  Option.bind (putV h6 4 3 (some this) (va_rf (some (hSz h5)))) fun h7 =>
  Option.bind (lp (fun z => F_X5_init_2_B30 this a1 a2 z.1 z.2) 100000 ((0 : Int32), h7)) fun h12 =>
  some h12
set_option maxHeartbeats 4000000 in
theorem w_X5_init_2 (l : Launch) (hl : l.stackTraces = false) (D : va_G) (dA : Nat → ClassId) (h0 : HH) (this : Nat) (a1 : Int32) (a2 : Int32) (hE : HH) (hF : F_X5_init_2 this a1 a2 h0 = some hE) : MC D dA l yX5_init_2 cX5_init_2 4 (Option.none : Option Jvm.ClassFile.FieldType) [] 1 20 [va_rf (some this), .int a1, .int a2] h0 (.inr none, hE) := by
  refine mc_of hl (plainFor_of_name pn_X5) (by simp [lg_sl, cat_rf, cat_i, cat_j, cat_f, cat_d]) ?_
  intro p e s m args below meth c R hRf hRl X hr hnm
  unfold F_X5_init_2 at hF
  rw [show argL [va_rf (some this), .int a1, .int a2] = [some (va_rf (some this)), some (.int a1), some (.int a2)] from by simp [argL, cat_rf, cat_i, cat_j, cat_f, cat_d]]
  refine G.pad 1 (L' := [some (va_rf (some this)), some (.int a1), some (.int a2), none]) rfl ?_
  refine g_aload_n X dX5_init_2_0 rfl rfl ?_
  obtain ⟨ob1, eob1, hF⟩ := bnd hF
  refine g_objInit X ob1 eob1 q311 q132 q133 ⟨by rw [hRf]; exact Nat.le_of_ble_eq_true rfl, by rw [hRl]; exact Nat.le_of_ble_eq_true rfl⟩ (by first | exact Nat.le_of_ble_eq_true rfl | simp [cat_rf, cat_i, cat_j, cat_f, cat_d]) dX5_init_2_1 ?_
  refine g_aload_n X dX5_init_2_4 rfl rfl ?_
  refine g_iload_n X dX5_init_2_5 rfl rfl ?_
  obtain ⟨h2, eh2, hF⟩ := bnd hF
  refine g_putF (k := 0) X in_X5 tyX5 tyX5_ok nmX5 rfl (by decide) q314 rfl rfl hnm rfl (tyX5_ok 0 (by decide)) rfl rfl eh2 dX5_init_2_6 ?_
  refine g_aload_n X dX5_init_2_9 rfl rfl ?_
  refine g_iload_n X dX5_init_2_10 rfl rfl ?_
  obtain ⟨h3, eh3, hF⟩ := bnd hF
  refine g_putF (k := 1) X in_X5 tyX5 tyX5_ok nmX5 rfl (by decide) q317 rfl rfl hnm rfl (tyX5_ok 1 (by decide)) rfl rfl eh3 dX5_init_2_11 ?_
  refine g_aload_n X dX5_init_2_14 rfl rfl ?_
  refine g_iconst (v := (3 : Int32)) X dX5_init_2_15 (by decide) ?_
  obtain ⟨h4, eh4, hF⟩ := bnd hF
  refine g_newa (atype := .int) (t := 0) X q182 rfl (funext fun _ => rfl) (by decide) eh4 dX5_init_2_16 ?_
  obtain ⟨h5, eh5, hF⟩ := bnd hF
  refine g_putF (k := 2) X in_X5 tyX5 tyX5_ok nmX5 rfl (by decide) q320 rfl rfl hnm rfl (tyX5_ok 2 (by decide)) (narrow_rfA _ _) (fits_rfA _ _) eh5 dX5_init_2_18 ?_
  refine g_aload_n X dX5_init_2_21 rfl rfl ?_
  refine g_iconst (v := (3 : Int32)) X dX5_init_2_22 (by decide) ?_
  obtain ⟨h6, eh6, hF⟩ := bnd hF
  refine g_newa (atype := .int) (t := 0) X q182 rfl (funext fun _ => rfl) (by decide) eh6 dX5_init_2_23 ?_
  obtain ⟨h7, eh7, hF⟩ := bnd hF
  refine g_putF (k := 3) X in_X5 tyX5 tyX5_ok nmX5 rfl (by decide) q322 rfl rfl hnm rfl (tyX5_ok 3 (by decide)) (narrow_rfA _ _) (fits_rfA _ _) eh7 dX5_init_2_25 ?_
  refine g_iconst (v := (0 : Int32)) X dX5_init_2_28 (by decide) ?_
  refine g_istore_n (L' := [some (va_rf (some this)), some (.int a1), some (.int a2), some (.int (0 : Int32))]) X dX5_init_2_29 rfl (Nat.le_of_ble_eq_true rfl) (by first | rfl | simp [stL, rm1, clr2, cat_rf, cat_i, cat_j, cat_f, cat_d]) ?_
  refine G.drop [true, false, false, true] rfl ?_
  obtain ⟨h12, e13, hF⟩ := bnd hF
  refine lp_ind (Gs := (fun z => G p l e R s m args below meth c (RQ D dA h0 (.inr none, hE) below s) D dA h0 4 z.2 30 [some (va_rf (some this)), none, none, some (.int z.1)] [])) (Ge := (fun z => G p l e R s m args below meth c (RQ D dA h0 (.inr none, hE) below s) D dA h0 4 z 49 [none, none, none, none] [])) ?_ _ _ _ e13 ?_
  · rintro ⟨x3_8, h_8⟩ o hF hgo hr
    change F_X5_init_2_B30 this a1 a2 x3_8 h_8 = some o at hF
    unfold F_X5_init_2_B30 at hF
    show G p l e R s m args below meth c (RQ D dA h0 (.inr none, hE) below s) D dA h0 4 h_8 30 [some (va_rf (some this)), none, none, some (.int x3_8)] []
    refine g_iload_n X dX5_init_2_30 rfl rfl ?_
    refine g_iconst (v := (3 : Int32)) X dX5_init_2_31 (by decide) ?_
    refine g_icmp_ge X 49 dX5_init_2_32 (by decide) (fun c9 => ?_) (fun c9 => ?_)
    · have hF := (if_pos c9).symm.trans hF
      refine G.drop [false, false, false, false] rfl ?_
      cases hF
      exact hr _ rfl
    · have hF := (if_neg c9).symm.trans hF
      refine g_aload_n X dX5_init_2_35 rfl rfl ?_
      obtain ⟨v10, ev10, hF⟩ := bnd hF
      refine g_get (k := 3) X in_X5 rfl (by decide) q322 (Or.inl rfl) (getR_V ev10) dX5_init_2_36 ?_
      refine g_iload_n X dX5_init_2_39 rfl rfl ?_
      refine g_bipush (v := (10 : Int32)) X dX5_init_2_40 (by decide) ?_
      obtain ⟨h11, eh11, hF⟩ := bnd hF
      refine g_iast X eh11 dX5_init_2_42 ?_
      refine g_iinc (v := (x3_8 + (1 : Int32))) (L' := [some (va_rf (some this)), none, none, some (.int (x3_8 + (1 : Int32)))]) X dX5_init_2_43 (Nat.le_of_ble_eq_true rfl) rfl rfl (by first | rfl | simp [stL, rm1, clr2, cat_rf, cat_i, cat_j, cat_f, cat_d]) ?_
      refine g_goto X 30 dX5_init_2_46 (by decide) ?_
      cases hF
      exact hgo _ rfl
  show G p l e R s m args below meth c (RQ D dA h0 (.inr none, hE) below s) D dA h0 4 h12 49 [none, none, none, none] []
  cases hF
  exact g_vret X hr dX5_init_2_49
def F_X5_isReset (this : Nat) (a1 : Int32) (h0 : HH) : Option Int32 :=
  Option.bind (getI h0 4 4 (some this)) fun v1 =>
  some (if ((v1 >>> (a1 &&& 31)) &&& (1 : Int32)) = (1 : Int32) then (1 : Int32) else (0 : Int32))
set_option maxHeartbeats 4000000 in
theorem w_X5_isReset (l : Launch) (hl : l.stackTraces = false) (D : va_G) (dA : Nat → ClassId) (h0 : HH) (this : Nat) (a1 : Int32) (rE : Int32) (hF : F_X5_isReset this a1 h0 = some rE) : MC D dA l yX5_isReset cX5_isReset 2 (Option.some Jvm.ClassFile.FieldType.boolean) [] 0 0 [va_rf (some this), .int a1] h0 (.inr (some (.int rE)), h0) := by
  refine mc_of hl (plainFor_of_name pn_X5) (by simp [lg_sl, cat_rf, cat_i, cat_j, cat_f, cat_d]) ?_
  intro p e s m args below meth c R hRf hRl X hr hnm
  unfold F_X5_isReset at hF
  rw [show argL [va_rf (some this), .int a1] = [some (va_rf (some this)), some (.int a1)] from by simp [argL, cat_rf, cat_i, cat_j, cat_f, cat_d]]
  refine g_aload_n X dX5_isReset_0 rfl rfl ?_
  obtain ⟨v1, ev1, hF⟩ := bnd hF
  refine g_get (k := 4) X in_X5 rfl (by decide) q324 (Or.inl rfl) (getI_V ev1) dX5_isReset_1 ?_
  refine g_iload_n X dX5_isReset_4 rfl rfl ?_
  refine g_ishr X dX5_isReset_5 ?_
  refine g_iconst (v := (1 : Int32)) X dX5_isReset_6 (by decide) ?_
  refine g_iand X dX5_isReset_7 ?_
  refine g_iconst (v := (1 : Int32)) X dX5_isReset_8 (by decide) ?_
  suffices K : G p l e R s m args below meth c (RQ D dA h0 (.inr (some (.int rE)), h0) below s) D dA h0 2 h0 17 [none, none] [.int (if ((v1 >>> (a1 &&& 31)) &&& (1 : Int32)) = (1 : Int32) then (1 : Int32) else (0 : Int32))] by
    refine g_icmp_ne X 16 dX5_isReset_9 (by decide) (fun c2 => ?_) (fun c2 => ?_)
    · (try simp only [if_neg c2] at K)
      refine g_iconst (v := (0 : Int32)) X dX5_isReset_16 (by decide) ?_
      refine G.drop [false, false] rfl ?_
      first | exact K | (simp only [if_neg c2]; exact K)
    · (try simp only [if_pos c2] at K)
      refine g_iconst (v := (1 : Int32)) X dX5_isReset_12 (by decide) ?_
      refine g_goto X 17 dX5_isReset_13 (by decide) ?_
      refine G.drop [false, false] rfl ?_
      first | exact K | (simp only [if_pos c2]; exact K)
  cases hF
  exact g_zret X hr (by (repeat' split) <;> rfl) dX5_isReset_17
def F_X1_clockOf (a1 : Int32) (a2 : Int32) : Int32 :=
  (if a2 = 0 then ((a1 / (121 : Int32)) - (a1 / (121 : Int32)) / (11 : Int32) * (11 : Int32)) else (if a2 = (1 : Int32) then ((a1 / (11 : Int32)) - (a1 / (11 : Int32)) / (11 : Int32) * (11 : Int32)) else (a1 - a1 / (11 : Int32) * (11 : Int32))))
set_option maxHeartbeats 4000000 in
theorem w_X1_clockOf (l : Launch) (hl : l.stackTraces = false) (D : va_G) (dA : Nat → ClassId) (h0 : HH) (a1 : Int32) (a2 : Int32) : MC D dA l yX1_clockOf cX1_clockOf 2 (Option.some Jvm.ClassFile.FieldType.int) [] 0 0 [.int a1, .int a2] h0 (.inr (some (.int (F_X1_clockOf a1 a2))), h0) := by
  refine mc_of hl (plainFor_of_name pn_X1) (by simp [lg_sl, cat_rf, cat_i, cat_j, cat_f, cat_d]) ?_
  intro p e s m args below meth c R hRf hRl X hr hnm
  generalize hF : F_X1_clockOf a1 a2 = rE
  unfold F_X1_clockOf at hF
  rw [show argL [.int a1, .int a2] = [some (.int a1), some (.int a2)] from by simp [argL, cat_rf, cat_i, cat_j, cat_f, cat_d]]
  refine g_iload_n X dX1_clockOf_0 rfl rfl ?_
  suffices K : G p l e R s m args below meth c (RQ D dA h0 (.inr (some (.int rE)), h0) below s) D dA h0 2 h0 33 [none, none] [.int (if a2 = 0 then ((a1 / (121 : Int32)) - (a1 / (121 : Int32)) / (11 : Int32) * (11 : Int32)) else (if a2 = (1 : Int32) then ((a1 / (11 : Int32)) - (a1 / (11 : Int32)) / (11 : Int32) * (11 : Int32)) else (a1 - a1 / (11 : Int32) * (11 : Int32))))] by
    refine g_if_ne X 14 dX1_clockOf_1 (by decide) (fun c1 => ?_) (fun c1 => ?_)
    · (try simp only [if_neg c1] at K)
      refine g_iload_n X dX1_clockOf_14 rfl rfl ?_
      refine g_iconst (v := (1 : Int32)) X dX1_clockOf_15 (by decide) ?_
      refine g_icmp_ne X 29 dX1_clockOf_16 (by decide) (fun c2 => ?_) (fun c2 => ?_)
      · (try simp only [if_neg c2] at K)
        refine g_iload_n X dX1_clockOf_29 rfl rfl ?_
        refine g_bipush (v := (11 : Int32)) X dX1_clockOf_30 (by decide) ?_
        refine g_irem X dX1_clockOf_32 (by decide) ?_
        refine G.drop [false, false] rfl ?_
        first | exact K | (simp only [if_neg c1, if_neg c2]; exact K)
      · (try simp only [if_pos c2] at K)
        refine g_iload_n X dX1_clockOf_19 rfl rfl ?_
        refine g_bipush (v := (11 : Int32)) X dX1_clockOf_20 (by decide) ?_
        refine g_idiv X dX1_clockOf_22 (by decide) ?_
        refine g_bipush (v := (11 : Int32)) X dX1_clockOf_23 (by decide) ?_
        refine g_irem X dX1_clockOf_25 (by decide) ?_
        refine g_goto X 33 dX1_clockOf_26 (by decide) ?_
        refine G.drop [false, false] rfl ?_
        first | exact K | (simp only [if_neg c1, if_pos c2]; exact K)
    · (try simp only [if_pos c1] at K)
      refine g_iload_n X dX1_clockOf_4 rfl rfl ?_
      refine g_bipush (v := (121 : Int32)) X dX1_clockOf_5 (by decide) ?_
      refine g_idiv X dX1_clockOf_7 (by decide) ?_
      refine g_bipush (v := (11 : Int32)) X dX1_clockOf_8 (by decide) ?_
      refine g_irem X dX1_clockOf_10 (by decide) ?_
      refine g_goto X 33 dX1_clockOf_11 (by decide) ?_
      refine G.drop [false, false] rfl ?_
      first | exact K | (simp only [if_pos c1]; exact K)
  cases hF
  exact g_iret X hr dX1_clockOf_33
def F_X5_canBeTaken_B4 (this : Nat) (a1 : Int32) (x2_1 : Int32) (x3_1 : Int32) (h0 : HH) : Option ((Int32 × Int32) ⊕ Int32) :=
  if (3 : Int32) ≤ x3_1 then (
    some (.inr x2_1)
  ) else (
    Option.bind (getR h0 4 2 (some this)) fun v3 =>
    Option.bind (aldI h0 0 v3 x3_1) fun v4 =>
    if (F_X1_clockOf a1 x3_1) < v4 then (
      some (.inl ((x2_1 &&& (0 : Int32)), (x3_1 + (1 : Int32))))
    ) else (
      Option.bind (getR h0 4 3 (some this)) fun v6 =>
      Option.bind (aldI h0 0 v6 x3_1) fun v7 =>
      if v7 = (10 : Int32) then (
        some (.inl ((x2_1 &&& (1 : Int32)), (x3_1 + (1 : Int32))))
      ) else (
        Option.bind (getR h0 4 3 (some this)) fun v9 =>
        Option.bind (aldI h0 0 v9 x3_1) fun v10 =>
        some (.inl ((x2_1 &&& (if v10 < (F_X1_clockOf a1 x3_1) then (0 : Int32) else (1 : Int32))), (x3_1 + (1 : Int32))))
      )
    )
  )
def F_X5_canBeTaken (this : Nat) (a1 : Int32) (h0 : HH) : Option Int32 :=
  Option.bind (lp (fun z => F_X5_canBeTaken_B4 this a1 z.1 z.2 h0) 100000 ((1 : Int32), (0 : Int32))) fun v12 =>
  Option.bind (okZ v12) fun _ =>
  some v12
set_option maxHeartbeats 4000000 in
theorem w_X5_canBeTaken (l : Launch) (hl : l.stackTraces = false) (D : va_G) (dA : Nat → ClassId) (h0 : HH) (this : Nat) (a1 : Int32) (rE : Int32) (hF : F_X5_canBeTaken this a1 h0 = some rE) : MC D dA l yX5_canBeTaken cX5_canBeTaken 5 (Option.some Jvm.ClassFile.FieldType.boolean) [] 1 21 [va_rf (some this), .int a1] h0 (.inr (some (.int rE)), h0) := by
  refine mc_of hl (plainFor_of_name pn_X5) (by simp [lg_sl, cat_rf, cat_i, cat_j, cat_f, cat_d]) ?_
  intro p e s m args below meth c R hRf hRl X hr hnm
  unfold F_X5_canBeTaken at hF
  rw [show argL [va_rf (some this), .int a1] = [some (va_rf (some this)), some (.int a1)] from by simp [argL, cat_rf, cat_i, cat_j, cat_f, cat_d]]
  refine G.pad 3 (L' := [some (va_rf (some this)), some (.int a1), none, none, none]) rfl ?_
  refine g_iconst (v := (1 : Int32)) X dX5_canBeTaken_0 (by decide) ?_
  refine g_istore_n (L' := [some (va_rf (some this)), some (.int a1), some (.int (1 : Int32)), none, none]) X dX5_canBeTaken_1 rfl (Nat.le_of_ble_eq_true rfl) (by first | rfl | simp [stL, rm1, clr2, cat_rf, cat_i, cat_j, cat_f, cat_d]) ?_
  refine g_iconst (v := (0 : Int32)) X dX5_canBeTaken_2 (by decide) ?_
  refine g_istore_n (L' := [some (va_rf (some this)), some (.int a1), some (.int (1 : Int32)), some (.int (0 : Int32)), none]) X dX5_canBeTaken_3 rfl (Nat.le_of_ble_eq_true rfl) (by first | rfl | simp [stL, rm1, clr2, cat_rf, cat_i, cat_j, cat_f, cat_d]) ?_
  obtain ⟨v12, e14, hF⟩ := bnd hF
  refine lp_ind (Gs := (fun z => G p l e R s m args below meth c (RQ D dA h0 (.inr (some (.int rE)), h0) below s) D dA h0 5 h0 4 [some (va_rf (some this)), some (.int a1), some (.int z.1), some (.int z.2), none] [])) (Ge := (fun z => G p l e R s m args below meth c (RQ D dA h0 (.inr (some (.int rE)), h0) below s) D dA h0 5 h0 63 [none, none, some (.int z), none, none] [])) ?_ _ _ _ e14 ?_
  · rintro ⟨x2_1, x3_1⟩ o hF hgo hr
    change F_X5_canBeTaken_B4 this a1 x2_1 x3_1 h0 = some o at hF
    unfold F_X5_canBeTaken_B4 at hF
    show G p l e R s m args below meth c (RQ D dA h0 (.inr (some (.int rE)), h0) below s) D dA h0 5 h0 4 [some (va_rf (some this)), some (.int a1), some (.int x2_1), some (.int x3_1), none] []
    refine g_iload_n X dX5_canBeTaken_4 rfl rfl ?_
    refine g_iconst (v := (3 : Int32)) X dX5_canBeTaken_5 (by decide) ?_
    refine g_icmp_ge X 63 dX5_canBeTaken_6 (by decide) (fun c2 => ?_) (fun c2 => ?_)
    · have hF := (if_pos c2).symm.trans hF
      refine G.drop [false, false, true, false, false] rfl ?_
      cases hF
      exact hr _ rfl
    · have hF := (if_neg c2).symm.trans hF
      refine g_iload_n X dX5_canBeTaken_9 rfl rfl ?_
      refine g_iload_n X dX5_canBeTaken_10 rfl rfl ?_
      refine g_callSN X (w_X1_clockOf l hl D dA h0 a1 x3_1) (nw_in q850 rfl) q836 q92 q837 okn_X1_clockOf ⟨by rw [hRf]; exact Nat.le_of_ble_eq_true rfl, by rw [hRl]; exact Nat.le_of_ble_eq_true rfl⟩ (As := [.int a1, .int x3_1]) (rest := []) rfl (by first | exact Nat.le_of_ble_eq_true rfl | simp [cat_rf, cat_i, cat_j, cat_f, cat_d]) dX5_canBeTaken_11 (ac_v ?_)
      refine g_istore (L' := [some (va_rf (some this)), some (.int a1), some (.int x2_1), some (.int x3_1), some (.int (F_X1_clockOf a1 x3_1))]) X dX5_canBeTaken_14 (Nat.le_of_ble_eq_true rfl) (by first | rfl | simp [stL, rm1, clr2, cat_rf, cat_i, cat_j, cat_f, cat_d]) ?_
      refine g_iload_n X dX5_canBeTaken_16 rfl rfl ?_
      refine g_iload X dX5_canBeTaken_17 rfl ?_
      refine g_aload_n X dX5_canBeTaken_19 rfl rfl ?_
      obtain ⟨v3, ev3, hF⟩ := bnd hF
      refine g_get (k := 2) X in_X5 rfl (by decide) q320 (Or.inl rfl) (getR_V ev3) dX5_canBeTaken_20 ?_
      refine g_iload_n X dX5_canBeTaken_23 rfl rfl ?_
      obtain ⟨v4, ev4, hF⟩ := bnd hF
      refine g_iald X ev4 dX5_canBeTaken_24 ?_
      refine g_icmp_lt X 54 dX5_canBeTaken_25 (by decide) (fun c5 => ?_) (fun c5 => ?_)
      · have hF := (if_pos c5).symm.trans hF
        refine g_iconst (v := (0 : Int32)) X dX5_canBeTaken_54 (by decide) ?_
        refine g_iand X dX5_canBeTaken_55 ?_
        refine g_istore_n (L' := [some (va_rf (some this)), some (.int a1), some (.int (x2_1 &&& (0 : Int32))), some (.int x3_1), some (.int (F_X1_clockOf a1 x3_1))]) X dX5_canBeTaken_56 rfl (Nat.le_of_ble_eq_true rfl) (by first | rfl | simp [stL, rm1, clr2, cat_rf, cat_i, cat_j, cat_f, cat_d]) ?_
        refine g_iinc (v := (x3_1 + (1 : Int32))) (L' := [some (va_rf (some this)), some (.int a1), some (.int (x2_1 &&& (0 : Int32))), some (.int (x3_1 + (1 : Int32))), some (.int (F_X1_clockOf a1 x3_1))]) X dX5_canBeTaken_57 (Nat.le_of_ble_eq_true rfl) rfl rfl (by first | rfl | simp [stL, rm1, clr2, cat_rf, cat_i, cat_j, cat_f, cat_d]) ?_
        refine g_goto X 4 dX5_canBeTaken_60 (by decide) ?_
        refine G.drop [true, true, true, true, false] rfl ?_
        cases hF
        exact hgo _ rfl
      · have hF := (if_neg c5).symm.trans hF
        refine g_aload_n X dX5_canBeTaken_28 rfl rfl ?_
        obtain ⟨v6, ev6, hF⟩ := bnd hF
        refine g_get (k := 3) X in_X5 rfl (by decide) q322 (Or.inl rfl) (getR_V ev6) dX5_canBeTaken_29 ?_
        refine g_iload_n X dX5_canBeTaken_32 rfl rfl ?_
        obtain ⟨v7, ev7, hF⟩ := bnd hF
        refine g_iald X ev7 dX5_canBeTaken_33 ?_
        refine g_bipush (v := (10 : Int32)) X dX5_canBeTaken_34 (by decide) ?_
        refine g_icmp_eq X 50 dX5_canBeTaken_36 (by decide) (fun c8 => ?_) (fun c8 => ?_)
        · have hF := (if_pos c8).symm.trans hF
          refine g_iconst (v := (1 : Int32)) X dX5_canBeTaken_50 (by decide) ?_
          refine g_goto X 55 dX5_canBeTaken_51 (by decide) ?_
          refine g_iand X dX5_canBeTaken_55 ?_
          refine g_istore_n (L' := [some (va_rf (some this)), some (.int a1), some (.int (x2_1 &&& (1 : Int32))), some (.int x3_1), some (.int (F_X1_clockOf a1 x3_1))]) X dX5_canBeTaken_56 rfl (Nat.le_of_ble_eq_true rfl) (by first | rfl | simp [stL, rm1, clr2, cat_rf, cat_i, cat_j, cat_f, cat_d]) ?_
          refine g_iinc (v := (x3_1 + (1 : Int32))) (L' := [some (va_rf (some this)), some (.int a1), some (.int (x2_1 &&& (1 : Int32))), some (.int (x3_1 + (1 : Int32))), some (.int (F_X1_clockOf a1 x3_1))]) X dX5_canBeTaken_57 (Nat.le_of_ble_eq_true rfl) rfl rfl (by first | rfl | simp [stL, rm1, clr2, cat_rf, cat_i, cat_j, cat_f, cat_d]) ?_
          refine g_goto X 4 dX5_canBeTaken_60 (by decide) ?_
          refine G.drop [true, true, true, true, false] rfl ?_
          cases hF
          exact hgo _ rfl
        · have hF := (if_neg c8).symm.trans hF
          refine g_iload X dX5_canBeTaken_39 rfl ?_
          refine g_aload_n X dX5_canBeTaken_41 rfl rfl ?_
          obtain ⟨v9, ev9, hF⟩ := bnd hF
          refine g_get (k := 3) X in_X5 rfl (by decide) q322 (Or.inl rfl) (getR_V ev9) dX5_canBeTaken_42 ?_
          refine g_iload_n X dX5_canBeTaken_45 rfl rfl ?_
          obtain ⟨v10, ev10, hF⟩ := bnd hF
          refine g_iald X ev10 dX5_canBeTaken_46 ?_
          suffices K : G p l e R s m args below meth c (RQ D dA h0 (.inr (some (.int rE)), h0) below s) D dA h0 5 h0 55 [some (va_rf (some this)), some (.int a1), none, some (.int x3_1), none] [.int (if v10 < (F_X1_clockOf a1 x3_1) then (0 : Int32) else (1 : Int32)), .int x2_1] by
            refine g_icmp_gt X 54 dX5_canBeTaken_47 (by decide) (fun c11 => ?_) (fun c11 => ?_)
            · (try simp only [if_pos c11] at K)
              refine g_iconst (v := (0 : Int32)) X dX5_canBeTaken_54 (by decide) ?_
              refine G.drop [true, true, false, true, false] rfl ?_
              first | exact K | (simp only [if_pos c11]; exact K)
            · (try simp only [if_neg c11] at K)
              refine g_iconst (v := (1 : Int32)) X dX5_canBeTaken_50 (by decide) ?_
              refine g_goto X 55 dX5_canBeTaken_51 (by decide) ?_
              refine G.drop [true, true, false, true, false] rfl ?_
              first | exact K | (simp only [if_neg c11]; exact K)
          refine g_iand X dX5_canBeTaken_55 ?_
          refine g_istore_n (L' := [some (va_rf (some this)), some (.int a1), some (.int (x2_1 &&& (if v10 < (F_X1_clockOf a1 x3_1) then (0 : Int32) else (1 : Int32)))), some (.int x3_1), none]) X dX5_canBeTaken_56 rfl (Nat.le_of_ble_eq_true rfl) (by first | rfl | simp [stL, rm1, clr2, cat_rf, cat_i, cat_j, cat_f, cat_d]) ?_
          refine g_iinc (v := (x3_1 + (1 : Int32))) (L' := [some (va_rf (some this)), some (.int a1), some (.int (x2_1 &&& (if v10 < (F_X1_clockOf a1 x3_1) then (0 : Int32) else (1 : Int32)))), some (.int (x3_1 + (1 : Int32))), none]) X dX5_canBeTaken_57 (Nat.le_of_ble_eq_true rfl) rfl rfl (by first | rfl | simp [stL, rm1, clr2, cat_rf, cat_i, cat_j, cat_f, cat_d]) ?_
          refine g_goto X 4 dX5_canBeTaken_60 (by decide) ?_
          cases hF
          exact hgo _ rfl
  show G p l e R s m args below meth c (RQ D dA h0 (.inr (some (.int rE)), h0) below s) D dA h0 5 h0 63 [none, none, some (.int v12), none, none] []
  refine g_iload_n X dX5_canBeTaken_63 rfl rfl ?_
  obtain ⟨_, z13, hF⟩ := bnd hF
  cases hF
  exact g_zret X hr (narZ z13) dX5_canBeTaken_64
def F_X5_taken_B11 (this : Nat) (a1 : Option Nat) (k2_4 : Option Nat) (x3_4 : Int32) (h_4 : HH) : Option ((Int32 × HH) ⊕ HH) :=
  if (3 : Int32) ≤ x3_4 then (
    some (.inr h_4)
  ) else (
    Option.bind (getR h_4 4 2 (some this)) fun v6 =>
    Option.bind (aldI h_4 0 v6 x3_4) fun v7 =>
    Option.bind (isO h_4 3 k2_4) fun ob8 =>
    Option.bind (F_X3_tells ob8 (3 : Int32) x3_4 (-v7) h_4) fun h9 =>
    Option.bind (getR h9 4 3 (some this)) fun v10 =>
    Option.bind (aldI h9 0 v10 x3_4) fun v11 =>
    if v11 = (10 : Int32) then (
      Option.bind (isO h9 3 k2_4) fun ob17 =>
      Option.bind (F_X3_tells ob17 x3_4 (3 : Int32) (9999 : Int32) h9) fun h18 =>
      some (.inl ((x3_4 + (1 : Int32)), h18))
    ) else (
      Option.bind (getR h9 4 3 (some this)) fun v13 =>
      Option.bind (aldI h9 0 v13 x3_4) fun v14 =>
      Option.bind (isO h9 3 k2_4) fun ob15 =>
      Option.bind (F_X3_tells ob15 x3_4 (3 : Int32) v14 h9) fun h16 =>
      some (.inl ((x3_4 + (1 : Int32)), h16))
    )
  )
def F_X5_taken_B70 (this : Nat) (a1 : Option Nat) (k2_22 : Option Nat) (x3_22 : Int32) (h_22 : HH) : Option ((Int32 × HH) ⊕ HH) :=
  if (3 : Int32) ≤ x3_22 then (
    some (.inr h_22)
  ) else (
    Option.bind (isO h_22 3 k2_22) fun ob24 =>
    Option.bind (F_X3_hasNone ob24 h_22) fun v25 =>
    if v25 = 0 then (
      Option.bind (isO h_22 4 (some this)) fun ob27 =>
      Option.bind (F_X5_isReset ob27 x3_22 h_22) fun v28 =>
      if v28 = 0 then (
        some (.inl ((x3_22 + (1 : Int32)), h_22))
      ) else (
        Option.bind (isO h_22 3 k2_22) fun ob30 =>
        Option.bind (F_X3_resets ob30 x3_22 (0 : Int32) h_22) fun h31 =>
        some (.inl ((x3_22 + (1 : Int32)), h31))
      )
    ) else (
      some (.inr h_22)
    )
  )
def F_X5_taken (this : Nat) (a1 : Option Nat) (h0 : HH) : Option (Option Nat × HH) :=
  Option.bind (newO h0 3 1 [.null]) fun h1 =>
  Option.bind (nnl (some (hSz h0))) fun ob2 =>
  Option.bind (F_X3_init_2 ob2 a1 h1) fun h3 =>
  Option.bind (lp (fun z => F_X5_taken_B11 this a1 (some (hSz h0)) z.1 z.2) 100000 ((0 : Int32), h3)) fun h19 =>
  Option.bind (isO h19 3 (some (hSz h0))) fun ob20 =>
  Option.bind (F_X3_tightens ob20 h19) fun h21 =>
  Option.bind (lp (fun z => F_X5_taken_B70 this a1 (some (hSz h0)) z.1 z.2) 100000 ((0 : Int32), h21)) fun h32 =>
  some ((some (hSz h0)), h32)
set_option maxHeartbeats 4000000 in
theorem w_X5_taken (l : Launch) (hl : l.stackTraces = false) (D : va_G) (dA : Nat → ClassId) (h0 : HH) (this : Nat) (a1 : Option Nat) (rE : Option Nat) (hE : HH) (hF : F_X5_taken this a1 h0 = some (rE, hE)) : MC D dA l yX5_taken cX5_taken 4 (Option.some (Jvm.ClassFile.FieldType.object "FerryClocks$Zone")) [] 3 69 [va_rf (some this), va_rf a1] h0 (.inr (some (va_rf rE)), hE) := by
  refine mc_of hl (plainFor_of_name pn_X5) (by simp [lg_sl, cat_rf, cat_i, cat_j, cat_f, cat_d]) ?_
  intro p e s m args below meth c R hRf hRl X hr hnm
  unfold F_X5_taken at hF
  rw [show argL [va_rf (some this), va_rf a1] = [some (va_rf (some this)), some (va_rf a1)] from by simp [argL, cat_rf, cat_i, cat_j, cat_f, cat_d]]
  refine G.pad 2 (L' := [some (va_rf (some this)), some (va_rf a1), none, none]) rfl ?_
  obtain ⟨h1, eh1, hF⟩ := bnd hF
  refine g_new X in_X3 tyX3 tyX3_ok rfl q1468 q168 q97 rfl dv_X3 eh1 dX5_taken_0 ?_
  refine g_dup X dX5_taken_3 (cat_rf _) ?_
  refine g_aload_n X dX5_taken_4 rfl rfl ?_
  obtain ⟨ob2, eob2, hF⟩ := bnd hF
  obtain ⟨h3, eh3, hF⟩ := bnd hF
  refine g_callI X (nnl_some eob2) (w_X3_init_2 l hl D dA h1 ob2 a1 h3 eh3) rfl q1469 q399 q97 q400 okn_X3_init_2 ⟨by rw [hRf]; exact Nat.le_of_ble_eq_true rfl, by rw [hRl]; exact Nat.le_of_ble_eq_true rfl⟩ (As := [va_rf a1]) (rest := [va_rf (some (hSz h0))]) rfl (by first | exact Nat.le_of_ble_eq_true rfl | simp [cat_rf, cat_i, cat_j, cat_f, cat_d]) dX5_taken_5 (ac_0 ?_)
  refine g_astore_n (L' := [some (va_rf (some this)), some (va_rf a1), some (va_rf (some (hSz h0))), none]) X dX5_taken_8 rfl (Nat.le_of_ble_eq_true rfl) (by first | rfl | simp [stL, rm1, clr2, cat_rf, cat_i, cat_j, cat_f, cat_d]) ?_
  refine g_iconst (v := (0 : Int32)) X dX5_taken_9 (by decide) ?_
  refine g_istore_n (L' := [some (va_rf (some this)), some (va_rf a1), some (va_rf (some (hSz h0))), some (.int (0 : Int32))]) X dX5_taken_10 rfl (Nat.le_of_ble_eq_true rfl) (by first | rfl | simp [stL, rm1, clr2, cat_rf, cat_i, cat_j, cat_f, cat_d]) ?_
  refine G.drop [true, false, true, true] rfl ?_
  obtain ⟨h19, e35, hF⟩ := bnd hF
  refine lp_ind (Gs := (fun z => G p l e R s m args below meth c (RQ D dA h0 (.inr (some (va_rf rE)), hE) below s) D dA h0 4 z.2 11 [some (va_rf (some this)), none, some (va_rf (some (hSz h0))), some (.int z.1)] [])) (Ge := (fun z => G p l e R s m args below meth c (RQ D dA h0 (.inr (some (va_rf rE)), hE) below s) D dA h0 4 z 64 [some (va_rf (some this)), none, some (va_rf (some (hSz h0))), none] [])) ?_ _ _ _ e35 ?_
  · rintro ⟨x3_4, h_4⟩ o hF hgo hr
    change F_X5_taken_B11 this a1 (some (hSz h0)) x3_4 h_4 = some o at hF
    generalize (some (hSz h0)) = k2_4 at hF hgo hr ⊢
    unfold F_X5_taken_B11 at hF
    show G p l e R s m args below meth c (RQ D dA h0 (.inr (some (va_rf rE)), hE) below s) D dA h0 4 h_4 11 [some (va_rf (some this)), none, some (va_rf k2_4), some (.int x3_4)] []
    refine g_iload_n X dX5_taken_11 rfl rfl ?_
    refine g_iconst (v := (3 : Int32)) X dX5_taken_12 (by decide) ?_
    refine g_icmp_ge X 64 dX5_taken_13 (by decide) (fun c5 => ?_) (fun c5 => ?_)
    · have hF := (if_pos c5).symm.trans hF
      refine G.drop [true, false, true, false] rfl ?_
      cases hF
      exact hr _ rfl
    · have hF := (if_neg c5).symm.trans hF
      refine g_aload_n X dX5_taken_16 rfl rfl ?_
      refine g_iconst (v := (3 : Int32)) X dX5_taken_17 (by decide) ?_
      refine g_iload_n X dX5_taken_18 rfl rfl ?_
      refine g_aload_n X dX5_taken_19 rfl rfl ?_
      obtain ⟨v6, ev6, hF⟩ := bnd hF
      refine g_get (k := 2) X in_X5 rfl (by decide) q320 (Or.inl rfl) (getR_V ev6) dX5_taken_20 ?_
      refine g_iload_n X dX5_taken_23 rfl rfl ?_
      obtain ⟨v7, ev7, hF⟩ := bnd hF
      refine g_iald X ev7 dX5_taken_24 ?_
      refine g_ineg X dX5_taken_25 ?_
      obtain ⟨ob8, eob8, hF⟩ := bnd hF
      obtain ⟨h9, eh9, hF⟩ := bnd hF
      refine g_callV X eob8 rfl rfl (w_X3_tells l hl D dA h_4 ob8 (3 : Int32) x3_4 (-v7) h9 eh9) q1470 q491 q492 q97 q493 okn_X3_tells ⟨by rw [hRf]; exact Nat.le_of_ble_eq_true rfl, by rw [hRl]; exact Nat.le_of_ble_eq_true rfl⟩ (As := [.int (3 : Int32), .int x3_4, .int (-v7)]) (rest := []) rfl (by first | exact Nat.le_of_ble_eq_true rfl | simp [cat_rf, cat_i, cat_j, cat_f, cat_d]) dX5_taken_26 (ac_0 ?_)
      refine g_aload_n X dX5_taken_29 rfl rfl ?_
      refine g_iload_n X dX5_taken_30 rfl rfl ?_
      refine g_iconst (v := (3 : Int32)) X dX5_taken_31 (by decide) ?_
      refine g_aload_n X dX5_taken_32 rfl rfl ?_
      obtain ⟨v10, ev10, hF⟩ := bnd hF
      refine g_get (k := 3) X in_X5 rfl (by decide) q322 (Or.inl rfl) (getR_V ev10) dX5_taken_33 ?_
      refine g_iload_n X dX5_taken_36 rfl rfl ?_
      obtain ⟨v11, ev11, hF⟩ := bnd hF
      refine g_iald X ev11 dX5_taken_37 ?_
      refine g_bipush (v := (10 : Int32)) X dX5_taken_38 (by decide) ?_
      refine g_icmp_ne X 49 dX5_taken_40 (by decide) (fun c12 => ?_) (fun c12 => ?_)
      · have hF := (if_neg c12).symm.trans hF
        refine g_aload_n X dX5_taken_49 rfl rfl ?_
        obtain ⟨v13, ev13, hF⟩ := bnd hF
        refine g_get (k := 3) X in_X5 rfl (by decide) q322 (Or.inl rfl) (getR_V ev13) dX5_taken_50 ?_
        refine g_iload_n X dX5_taken_53 rfl rfl ?_
        obtain ⟨v14, ev14, hF⟩ := bnd hF
        refine g_iald X ev14 dX5_taken_54 ?_
        obtain ⟨ob15, eob15, hF⟩ := bnd hF
        obtain ⟨h16, eh16, hF⟩ := bnd hF
        refine g_callV X eob15 rfl rfl (w_X3_tells l hl D dA h9 ob15 x3_4 (3 : Int32) v14 h16 eh16) q1470 q491 q492 q97 q493 okn_X3_tells ⟨by rw [hRf]; exact Nat.le_of_ble_eq_true rfl, by rw [hRl]; exact Nat.le_of_ble_eq_true rfl⟩ (As := [.int x3_4, .int (3 : Int32), .int v14]) (rest := []) rfl (by first | exact Nat.le_of_ble_eq_true rfl | simp [cat_rf, cat_i, cat_j, cat_f, cat_d]) dX5_taken_55 (ac_0 ?_)
        refine g_iinc (v := (x3_4 + (1 : Int32))) (L' := [some (va_rf (some this)), none, some (va_rf k2_4), some (.int (x3_4 + (1 : Int32)))]) X dX5_taken_58 (Nat.le_of_ble_eq_true rfl) rfl rfl (by first | rfl | simp [stL, rm1, clr2, cat_rf, cat_i, cat_j, cat_f, cat_d]) ?_
        refine g_goto X 11 dX5_taken_61 (by decide) ?_
        cases hF
        exact hgo _ rfl
      · have hF := (if_pos c12).symm.trans hF
        refine g_sipush (v := (9999 : Int32)) X dX5_taken_43 (by decide) ?_
        refine g_goto X 55 dX5_taken_46 (by decide) ?_
        obtain ⟨ob17, eob17, hF⟩ := bnd hF
        obtain ⟨h18, eh18, hF⟩ := bnd hF
        refine g_callV X eob17 rfl rfl (w_X3_tells l hl D dA h9 ob17 x3_4 (3 : Int32) (9999 : Int32) h18 eh18) q1470 q491 q492 q97 q493 okn_X3_tells ⟨by rw [hRf]; exact Nat.le_of_ble_eq_true rfl, by rw [hRl]; exact Nat.le_of_ble_eq_true rfl⟩ (As := [.int x3_4, .int (3 : Int32), .int (9999 : Int32)]) (rest := []) rfl (by first | exact Nat.le_of_ble_eq_true rfl | simp [cat_rf, cat_i, cat_j, cat_f, cat_d]) dX5_taken_55 (ac_0 ?_)
        refine g_iinc (v := (x3_4 + (1 : Int32))) (L' := [some (va_rf (some this)), none, some (va_rf k2_4), some (.int (x3_4 + (1 : Int32)))]) X dX5_taken_58 (Nat.le_of_ble_eq_true rfl) rfl rfl (by first | rfl | simp [stL, rm1, clr2, cat_rf, cat_i, cat_j, cat_f, cat_d]) ?_
        refine g_goto X 11 dX5_taken_61 (by decide) ?_
        cases hF
        exact hgo _ rfl
  show G p l e R s m args below meth c (RQ D dA h0 (.inr (some (va_rf rE)), hE) below s) D dA h0 4 h19 64 [some (va_rf (some this)), none, some (va_rf (some (hSz h0))), none] []
  refine g_aload_n X dX5_taken_64 rfl rfl ?_
  obtain ⟨ob20, eob20, hF⟩ := bnd hF
  obtain ⟨h21, eh21, hF⟩ := bnd hF
  refine g_callV X eob20 rfl rfl (w_X3_tightens l hl D dA h19 ob20  h21 eh21) q1471 q514 q515 q97 q516 okn_X3_tightens ⟨by rw [hRf]; exact Nat.le_of_ble_eq_true rfl, by rw [hRl]; exact Nat.le_of_ble_eq_true rfl⟩ (As := []) (rest := []) rfl (by first | exact Nat.le_of_ble_eq_true rfl | simp [cat_rf, cat_i, cat_j, cat_f, cat_d]) dX5_taken_65 (ac_0 ?_)
  refine g_iconst (v := (0 : Int32)) X dX5_taken_68 (by decide) ?_
  refine g_istore_n (L' := [some (va_rf (some this)), none, some (va_rf (some (hSz h0))), some (.int (0 : Int32))]) X dX5_taken_69 rfl (Nat.le_of_ble_eq_true rfl) (by first | rfl | simp [stL, rm1, clr2, cat_rf, cat_i, cat_j, cat_f, cat_d]) ?_
  obtain ⟨h32, e33, hF⟩ := bnd hF
  refine lp_ind (Gs := (fun z => G p l e R s m args below meth c (RQ D dA h0 (.inr (some (va_rf rE)), hE) below s) D dA h0 4 z.2 70 [some (va_rf (some this)), none, some (va_rf (some (hSz h0))), some (.int z.1)] [])) (Ge := (fun z => G p l e R s m args below meth c (RQ D dA h0 (.inr (some (va_rf rE)), hE) below s) D dA h0 4 z 102 [none, none, some (va_rf (some (hSz h0))), none] [])) ?_ _ _ _ e33 ?_
  · rintro ⟨x3_22, h_22⟩ o hF hgo hr
    change F_X5_taken_B70 this a1 (some (hSz h0)) x3_22 h_22 = some o at hF
    generalize (some (hSz h0)) = k2_22 at hF hgo hr ⊢
    unfold F_X5_taken_B70 at hF
    show G p l e R s m args below meth c (RQ D dA h0 (.inr (some (va_rf rE)), hE) below s) D dA h0 4 h_22 70 [some (va_rf (some this)), none, some (va_rf k2_22), some (.int x3_22)] []
    refine g_iload_n X dX5_taken_70 rfl rfl ?_
    refine g_iconst (v := (3 : Int32)) X dX5_taken_71 (by decide) ?_
    refine g_icmp_ge X 102 dX5_taken_72 (by decide) (fun c23 => ?_) (fun c23 => ?_)
    · have hF := (if_pos c23).symm.trans hF
      refine G.drop [false, false, true, false] rfl ?_
      cases hF
      exact hr _ rfl
    · have hF := (if_neg c23).symm.trans hF
      refine g_aload_n X dX5_taken_75 rfl rfl ?_
      obtain ⟨ob24, eob24, hF⟩ := bnd hF
      obtain ⟨v25, ev25, hF⟩ := bnd hF
      refine g_callV X eob24 rfl rfl (w_X3_hasNone l hl D dA h_22 ob24  v25 ev25) q1472 q522 q523 q97 q524 okn_X3_hasNone ⟨by rw [hRf]; exact Nat.le_of_ble_eq_true rfl, by rw [hRl]; exact Nat.le_of_ble_eq_true rfl⟩ (As := []) (rest := []) rfl (by first | exact Nat.le_of_ble_eq_true rfl | simp [cat_rf, cat_i, cat_j, cat_f, cat_d]) dX5_taken_76 (ac_v ?_)
      refine g_if_ne X 102 dX5_taken_79 (by decide) (fun c26 => ?_) (fun c26 => ?_)
      · have hF := (if_neg c26).symm.trans hF
        refine G.drop [false, false, true, false] rfl ?_
        cases hF
        exact hr _ rfl
      · have hF := (if_pos c26).symm.trans hF
        refine g_aload_n X dX5_taken_82 rfl rfl ?_
        refine g_iload_n X dX5_taken_83 rfl rfl ?_
        obtain ⟨ob27, eob27, hF⟩ := bnd hF
        obtain ⟨v28, ev28, hF⟩ := bnd hF
        refine g_callV X eob27 rfl rfl (w_X5_isReset l hl D dA h_22 ob27 x3_22 v28 ev28) q1473 q669 q670 q104 q671 okn_X5_isReset ⟨by rw [hRf]; exact Nat.le_of_ble_eq_true rfl, by rw [hRl]; exact Nat.le_of_ble_eq_true rfl⟩ (As := [.int x3_22]) (rest := []) rfl (by first | exact Nat.le_of_ble_eq_true rfl | simp [cat_rf, cat_i, cat_j, cat_f, cat_d]) dX5_taken_84 (ac_v ?_)
        refine g_if_eq X 96 dX5_taken_87 (by decide) (fun c29 => ?_) (fun c29 => ?_)
        · have hF := (if_pos c29).symm.trans hF
          refine g_iinc (v := (x3_22 + (1 : Int32))) (L' := [some (va_rf (some this)), none, some (va_rf k2_22), some (.int (x3_22 + (1 : Int32)))]) X dX5_taken_96 (Nat.le_of_ble_eq_true rfl) rfl rfl (by first | rfl | simp [stL, rm1, clr2, cat_rf, cat_i, cat_j, cat_f, cat_d]) ?_
          refine g_goto X 70 dX5_taken_99 (by decide) ?_
          cases hF
          exact hgo _ rfl
        · have hF := (if_neg c29).symm.trans hF
          refine g_aload_n X dX5_taken_90 rfl rfl ?_
          refine g_iload_n X dX5_taken_91 rfl rfl ?_
          refine g_iconst (v := (0 : Int32)) X dX5_taken_92 (by decide) ?_
          obtain ⟨ob30, eob30, hF⟩ := bnd hF
          obtain ⟨h31, eh31, hF⟩ := bnd hF
          refine g_callV X eob30 rfl rfl (w_X3_resets l hl D dA h_22 ob30 x3_22 (0 : Int32) h31 eh31) q1474 q565 q566 q97 q567 okn_X3_resets ⟨by rw [hRf]; exact Nat.le_of_ble_eq_true rfl, by rw [hRl]; exact Nat.le_of_ble_eq_true rfl⟩ (As := [.int x3_22, .int (0 : Int32)]) (rest := []) rfl (by first | exact Nat.le_of_ble_eq_true rfl | simp [cat_rf, cat_i, cat_j, cat_f, cat_d]) dX5_taken_93 (ac_0 ?_)
          refine g_iinc (v := (x3_22 + (1 : Int32))) (L' := [some (va_rf (some this)), none, some (va_rf k2_22), some (.int (x3_22 + (1 : Int32)))]) X dX5_taken_96 (Nat.le_of_ble_eq_true rfl) rfl rfl (by first | rfl | simp [stL, rm1, clr2, cat_rf, cat_i, cat_j, cat_f, cat_d]) ?_
          refine g_goto X 70 dX5_taken_99 (by decide) ?_
          cases hF
          exact hgo _ rfl
  show G p l e R s m args below meth c (RQ D dA h0 (.inr (some (va_rf rE)), hE) below s) D dA h0 4 h32 102 [none, none, some (va_rf (some (hSz h0))), none] []
  refine g_aload_n X dX5_taken_102 rfl rfl ?_
  cases hF
  exact g_aret X hr (Or.inl ⟨_, rfl⟩) dX5_taken_103
def F_X7_init (this : Nat) (a1 : Int32) (a2 : Option Nat) (a3 : Int32) (h0 : HH) : Option HH :=
  Option.bind (nnl (some this)) fun ob1 =>
  Option.bind (putV h0 5 0 (some this) (.int a1)) fun h2 =>
  Option.bind (putV h2 5 1 (some this) (va_rf a2)) fun h3 =>
  Option.bind (putV h3 5 2 (some this) (.int a3)) fun h4 =>
  some h4
set_option maxHeartbeats 4000000 in
theorem w_X7_init (l : Launch) (hl : l.stackTraces = false) (D : va_G) (dA : Nat → ClassId) (h0 : HH) (this : Nat) (a1 : Int32) (a2 : Option Nat) (a3 : Int32) (hE : HH) (hF : F_X7_init this a1 a2 a3 h0 = some hE) : MC D dA l yX7_init cX7_init 4 (Option.none : Option Jvm.ClassFile.FieldType) [] 1 20 [va_rf (some this), .int a1, va_rf a2, .int a3] h0 (.inr none, hE) := by
  refine mc_of hl (plainFor_of_name pn_X7) (by simp [lg_sl, cat_rf, cat_i, cat_j, cat_f, cat_d]) ?_
  intro p e s m args below meth c R hRf hRl X hr hnm
  unfold F_X7_init at hF
  rw [show argL [va_rf (some this), .int a1, va_rf a2, .int a3] = [some (va_rf (some this)), some (.int a1), some (va_rf a2), some (.int a3)] from by simp [argL, cat_rf, cat_i, cat_j, cat_f, cat_d]]
  refine g_aload_n X dX7_init_0 rfl rfl ?_
  obtain ⟨ob1, eob1, hF⟩ := bnd hF
  refine g_objInit X ob1 eob1 q1444 q132 q133 ⟨by rw [hRf]; exact Nat.le_of_ble_eq_true rfl, by rw [hRl]; exact Nat.le_of_ble_eq_true rfl⟩ (by first | exact Nat.le_of_ble_eq_true rfl | simp [cat_rf, cat_i, cat_j, cat_f, cat_d]) dX7_init_1 ?_
  refine g_aload_n X dX7_init_4 rfl rfl ?_
  refine g_iload_n X dX7_init_5 rfl rfl ?_
  obtain ⟨h2, eh2, hF⟩ := bnd hF
  refine g_putF (k := 0) X in_X7 tyX7 tyX7_ok nmX7 rfl (by decide) q1445 rfl rfl hnm rfl (tyX7_ok 0 (by decide)) rfl rfl eh2 dX7_init_6 ?_
  refine g_aload_n X dX7_init_9 rfl rfl ?_
  refine g_aload_n X dX7_init_10 rfl rfl ?_
  obtain ⟨h3, eh3, hF⟩ := bnd hF
  refine g_putF (k := 1) X in_X7 tyX7 tyX7_ok nmX7 rfl (by decide) q1448 rfl rfl hnm rfl (tyX7_ok 1 (by decide)) (narrow_rf _ _) (fits_rf _ _) eh3 dX7_init_11 ?_
  refine g_aload_n X dX7_init_14 rfl rfl ?_
  refine g_iload_n X dX7_init_15 rfl rfl ?_
  obtain ⟨h4, eh4, hF⟩ := bnd hF
  refine g_putF (k := 2) X in_X7 tyX7 tyX7_ok nmX7 rfl (by decide) q1450 rfl rfl hnm rfl (tyX7_ok 2 (by decide)) rfl rfl eh4 dX7_init_16 ?_
  cases hF
  exact g_vret X hr dX7_init_19
