def F_X4_goFree_B22 (this : Nat) (a1 : Int32) (x2_6 : Int32) (h_6 : HH) : Option ((Int32 × HH) ⊕ HH) :=
  if (4 : Int32) ≤ x2_6 then (
    some (.inr h_6)
  ) else (
    if x2_6 = a1 then (
      some (.inl ((x2_6 + (1 : Int32)), h_6))
    ) else (
      Option.bind (getR h_6 1 9 (some this)) fun v9 =>
      Option.bind (astI h_6 v9 (((4 : Int32) * a1) + x2_6) (100000 : Int32)) fun h10 =>
      Option.bind (getR h10 1 9 (some this)) fun v11 =>
      Option.bind (getR h10 1 9 (some this)) fun v12 =>
      Option.bind (aldI h10 0 v12 (((4 : Int32) * x2_6) + (3 : Int32))) fun v13 =>
      Option.bind (astI h10 v11 (((4 : Int32) * x2_6) + a1) v13) fun h14 =>
      some (.inl ((x2_6 + (1 : Int32)), h14))
    )
  )
def F_X4_goFree (this : Nat) (a1 : Int32) (h0 : HH) : Option (Int32 × HH) :=
  if (F_X4_isClock a1) = 0 then (
    some ((-11 : Int32), h0)
  ) else (
    Option.bind (isO h0 1 (some this)) fun ob2 =>
    b2 (F_X4_looks ob2 h0) fun v4 h3 =>
    if v4 = 0 then (
      some ((-12 : Int32), h3)
    ) else (
      Option.bind (lp (fun z => F_X4_goFree_B22 this a1 z.1 z.2) 100000 ((0 : Int32), h3)) fun h15 =>
      Option.bind (getR h15 1 9 (some this)) fun v16 =>
      Option.bind (astI h15 v16 ((12 : Int32) + a1) (0 : Int32)) fun h17 =>
      Option.bind (isO h17 1 (some this)) fun ob18 =>
      b2 (F_X4_toldBounds ob18 h17) fun v20 h19 =>
      some (v20, h19)
    )
  )
set_option maxHeartbeats 4000000 in
theorem w_X4_goFree (l : Launch) (hl : l.stackTraces = false) (D : va_G) (dA : Nat → ClassId) (h0 : HH) (this : Nat) (a1 : Int32) (rE : Int32) (hE : HH) (hF : F_X4_goFree this a1 h0 = some (rE, hE)) : MC D dA l yX4_goFree cX4_goFree 3 (Option.some Jvm.ClassFile.FieldType.int) [] 6 131 [va_rf (some this), .int a1] h0 (.inr (some (.int rE)), hE) := by
  refine mc_of hl (plainFor_of_name pn_X4) (by simp [lg_sl, cat_rf, cat_i, cat_j, cat_f, cat_d]) ?_
  intro p e s m args below meth c R hRf hRl X hr hnm
  unfold F_X4_goFree at hF
  rw [show argL [va_rf (some this), .int a1] = [some (va_rf (some this)), some (.int a1)] from by simp [argL, cat_rf, cat_i, cat_j, cat_f, cat_d]]
  refine G.pad 1 (L' := [some (va_rf (some this)), some (.int a1), none]) rfl ?_
  refine g_iload_n X dX4_goFree_0 rfl rfl ?_
  refine g_callS X (w_X4_isClock l hl D dA h0 a1) q1948 q1949 q103 q1950 okn_X4_isClock ⟨by rw [hRf]; exact Nat.le_of_ble_eq_true rfl, by rw [hRl]; exact Nat.le_of_ble_eq_true rfl⟩ (As := [.int a1]) (rest := []) rfl (by first | exact Nat.le_of_ble_eq_true rfl | simp [cat_rf, cat_i, cat_j, cat_f, cat_d]) dX4_goFree_1 (ac_v ?_)
  refine g_if_ne X 10 dX4_goFree_4 (by decide) (fun c1 => ?_) (fun c1 => ?_)
  · have hF := (if_neg c1).symm.trans hF
    refine g_aload_n X dX4_goFree_10 rfl rfl ?_
    obtain ⟨ob2, eob2, hF⟩ := bnd hF
    obtain ⟨v4, h3, eh3, hF⟩ := b2_some hF
    refine g_callV X eob2 rfl rfl (w_X4_looks l hl D dA h0 ob2  v4 h3 eh3) q1880 q1882 qs34 q103 q1883 okn_X4_looks ⟨by rw [hRf]; exact Nat.le_of_ble_eq_true rfl, by rw [hRl]; exact Nat.le_of_ble_eq_true rfl⟩ (As := []) (rest := []) rfl (by first | exact Nat.le_of_ble_eq_true rfl | simp [cat_rf, cat_i, cat_j, cat_f, cat_d]) dX4_goFree_11 (ac_v ?_)
    refine g_if_ne X 20 dX4_goFree_14 (by decide) (fun c5 => ?_) (fun c5 => ?_)
    · have hF := (if_neg c5).symm.trans hF
      refine g_iconst (v := (0 : Int32)) X dX4_goFree_20 (by decide) ?_
      refine g_istore_n (L' := [some (va_rf (some this)), some (.int a1), some (.int (0 : Int32))]) X dX4_goFree_21 rfl (Nat.le_of_ble_eq_true rfl) (by first | rfl | simp [stL, rm1, clr2, cat_rf, cat_i, cat_j, cat_f, cat_d]) ?_
      obtain ⟨h15, e21, hF⟩ := bnd hF
      refine lp_ind (Gs := (fun z => G p l e R s m args below meth c (RQ D dA h0 (.inr (some (.int rE)), hE) below s) D dA h0 3 z.2 22 [some (va_rf (some this)), some (.int a1), some (.int z.1)] [])) (Ge := (fun z => G p l e R s m args below meth c (RQ D dA h0 (.inr (some (.int rE)), hE) below s) D dA h0 3 z 70 [some (va_rf (some this)), some (.int a1), none] [])) ?_ _ _ _ e21 ?_
      · rintro ⟨x2_6, h_6⟩ o hF hgo hr
        change F_X4_goFree_B22 this a1 x2_6 h_6 = some o at hF
        unfold F_X4_goFree_B22 at hF
        show G p l e R s m args below meth c (RQ D dA h0 (.inr (some (.int rE)), hE) below s) D dA h0 3 h_6 22 [some (va_rf (some this)), some (.int a1), some (.int x2_6)] []
        refine g_iload_n X dX4_goFree_22 rfl rfl ?_
        refine g_iconst (v := (4 : Int32)) X dX4_goFree_23 (by decide) ?_
        refine g_icmp_ge X 70 dX4_goFree_24 (by decide) (fun c7 => ?_) (fun c7 => ?_)
        · have hF := (if_pos c7).symm.trans hF
          refine G.drop [true, true, false] rfl ?_
          cases hF
          exact hr _ rfl
        · have hF := (if_neg c7).symm.trans hF
          refine g_iload_n X dX4_goFree_27 rfl rfl ?_
          refine g_iload_n X dX4_goFree_28 rfl rfl ?_
          refine g_icmp_eq X 64 dX4_goFree_29 (by decide) (fun c8 => ?_) (fun c8 => ?_)
          · have hF := (if_pos c8).symm.trans hF
            refine g_iinc (v := (x2_6 + (1 : Int32))) (L' := [some (va_rf (some this)), some (.int a1), some (.int (x2_6 + (1 : Int32)))]) X dX4_goFree_64 (Nat.le_of_ble_eq_true rfl) rfl rfl (by first | rfl | simp [stL, rm1, clr2, cat_rf, cat_i, cat_j, cat_f, cat_d]) ?_
            refine g_goto X 22 dX4_goFree_67 (by decide) ?_
            cases hF
            exact hgo _ rfl
          · have hF := (if_neg c8).symm.trans hF
            refine g_aload_n X dX4_goFree_32 rfl rfl ?_
            obtain ⟨v9, ev9, hF⟩ := bnd hF
            refine g_get (k := 9) X in_X4 rfl (by decide) q1772 (Or.inl rfl) (getR_V ev9) dX4_goFree_33 ?_
            refine g_iconst (v := (4 : Int32)) X dX4_goFree_36 (by decide) ?_
            refine g_iload_n X dX4_goFree_37 rfl rfl ?_
            refine g_imul X dX4_goFree_38 ?_
            refine g_iload_n X dX4_goFree_39 rfl rfl ?_
            refine g_iadd X dX4_goFree_40 ?_
            refine g_ldc (v := (100000 : Int32)) X q1762 dX4_goFree_41 ?_
            obtain ⟨h10, eh10, hF⟩ := bnd hF
            refine g_iast X eh10 dX4_goFree_43 ?_
            refine g_aload_n X dX4_goFree_44 rfl rfl ?_
            obtain ⟨v11, ev11, hF⟩ := bnd hF
            refine g_get (k := 9) X in_X4 rfl (by decide) q1772 (Or.inl rfl) (getR_V ev11) dX4_goFree_45 ?_
            refine g_iconst (v := (4 : Int32)) X dX4_goFree_48 (by decide) ?_
            refine g_iload_n X dX4_goFree_49 rfl rfl ?_
            refine g_imul X dX4_goFree_50 ?_
            refine g_iload_n X dX4_goFree_51 rfl rfl ?_
            refine g_iadd X dX4_goFree_52 ?_
            refine g_aload_n X dX4_goFree_53 rfl rfl ?_
            obtain ⟨v12, ev12, hF⟩ := bnd hF
            refine g_get (k := 9) X in_X4 rfl (by decide) q1772 (Or.inl rfl) (getR_V ev12) dX4_goFree_54 ?_
            refine g_iconst (v := (4 : Int32)) X dX4_goFree_57 (by decide) ?_
            refine g_iload_n X dX4_goFree_58 rfl rfl ?_
            refine g_imul X dX4_goFree_59 ?_
            refine g_iconst (v := (3 : Int32)) X dX4_goFree_60 (by decide) ?_
            refine g_iadd X dX4_goFree_61 ?_
            obtain ⟨v13, ev13, hF⟩ := bnd hF
            refine g_iald X ev13 dX4_goFree_62 ?_
            obtain ⟨h14, eh14, hF⟩ := bnd hF
            refine g_iast X eh14 dX4_goFree_63 ?_
            refine g_iinc (v := (x2_6 + (1 : Int32))) (L' := [some (va_rf (some this)), some (.int a1), some (.int (x2_6 + (1 : Int32)))]) X dX4_goFree_64 (Nat.le_of_ble_eq_true rfl) rfl rfl (by first | rfl | simp [stL, rm1, clr2, cat_rf, cat_i, cat_j, cat_f, cat_d]) ?_
            refine g_goto X 22 dX4_goFree_67 (by decide) ?_
            cases hF
            exact hgo _ rfl
      show G p l e R s m args below meth c (RQ D dA h0 (.inr (some (.int rE)), hE) below s) D dA h0 3 h15 70 [some (va_rf (some this)), some (.int a1), none] []
      refine g_aload_n X dX4_goFree_70 rfl rfl ?_
      obtain ⟨v16, ev16, hF⟩ := bnd hF
      refine g_get (k := 9) X in_X4 rfl (by decide) q1772 (Or.inl rfl) (getR_V ev16) dX4_goFree_71 ?_
      refine g_bipush (v := (12 : Int32)) X dX4_goFree_74 (by decide) ?_
      refine g_iload_n X dX4_goFree_76 rfl rfl ?_
      refine g_iadd X dX4_goFree_77 ?_
      refine g_iconst (v := (0 : Int32)) X dX4_goFree_78 (by decide) ?_
      obtain ⟨h17, eh17, hF⟩ := bnd hF
      refine g_iast X eh17 dX4_goFree_79 ?_
      refine g_aload_n X dX4_goFree_80 rfl rfl ?_
      obtain ⟨ob18, eob18, hF⟩ := bnd hF
      obtain ⟨v20, h19, eh19, hF⟩ := b2_some hF
      refine g_callV X eob18 rfl rfl (w_X4_toldBounds l hl D dA h17 ob18  v20 h19 eh19) q1983 q1985 qs50 q103 q1986 okn_X4_toldBounds ⟨by rw [hRf]; exact Nat.le_of_ble_eq_true rfl, by rw [hRl]; exact Nat.le_of_ble_eq_true rfl⟩ (As := []) (rest := []) rfl (by first | exact Nat.le_of_ble_eq_true rfl | simp [cat_rf, cat_i, cat_j, cat_f, cat_d]) dX4_goFree_81 (ac_v ?_)
      cases hF
      exact g_iret X hr dX4_goFree_84
    · have hF := (if_pos c5).symm.trans hF
      refine g_bipush (v := (-12 : Int32)) X dX4_goFree_17 (by decide) ?_
      cases hF
      exact g_iret X hr dX4_goFree_19
  · have hF := (if_pos c1).symm.trans hF
    refine g_bipush (v := (-11 : Int32)) X dX4_goFree_7 (by decide) ?_
    cases hF
    exact g_iret X hr dX4_goFree_9
def F_X4_setFree (this : Nat) (a1 : Int32) (h0 : HH) : Option (Int32 × HH) :=
  Option.bind (isO h0 1 (some this)) fun ob1 =>
  Option.bind (F_X4_begins ob1 h0) fun h2 =>
  Option.bind (isO h2 1 (some this)) fun ob3 =>
  b2 (F_X4_goFree ob3 a1 h2) fun v5 h4 =>
  Option.bind (isO h4 1 (some this)) fun ob6 =>
  b2 (F_X4_ends ob6 v5 h4) fun v8 h7 =>
  some (v8, h7)
set_option maxHeartbeats 4000000 in
theorem w_X4_setFree (l : Launch) (hl : l.stackTraces = false) (D : va_G) (dA : Nat → ClassId) (h0 : HH) (this : Nat) (a1 : Int32) (rE : Int32) (hE : HH) (hF : F_X4_setFree this a1 h0 = some (rE, hE)) : MC D dA l yX4_setFree cX4_setFree 2 (Option.some Jvm.ClassFile.FieldType.int) [] 7 153 [va_rf (some this), .int a1] h0 (.inr (some (.int rE)), hE) := by
  refine mc_of hl (plainFor_of_name pn_X4) (by simp [lg_sl, cat_rf, cat_i, cat_j, cat_f, cat_d]) ?_
  intro p e s m args below meth c R hRf hRl X hr hnm
  unfold F_X4_setFree at hF
  rw [show argL [va_rf (some this), .int a1] = [some (va_rf (some this)), some (.int a1)] from by simp [argL, cat_rf, cat_i, cat_j, cat_f, cat_d]]
  refine g_aload_n X dX4_setFree_0 rfl rfl ?_
  obtain ⟨ob1, eob1, hF⟩ := bnd hF
  obtain ⟨h2, eh2, hF⟩ := bnd hF
  refine g_callV X eob1 rfl rfl (w_X4_begins l hl D dA h0 ob1  h2 eh2) q1859 q1861 qs31 q103 q1862 okn_X4_begins ⟨by rw [hRf]; exact Nat.le_of_ble_eq_true rfl, by rw [hRl]; exact Nat.le_of_ble_eq_true rfl⟩ (As := []) (rest := []) rfl (by first | exact Nat.le_of_ble_eq_true rfl | simp [cat_rf, cat_i, cat_j, cat_f, cat_d]) dX4_setFree_1 (ac_0 ?_)
  refine g_aload_n X dX4_setFree_4 rfl rfl ?_
  refine g_aload_n X dX4_setFree_5 rfl rfl ?_
  refine g_iload_n X dX4_setFree_6 rfl rfl ?_
  obtain ⟨ob3, eob3, hF⟩ := bnd hF
  obtain ⟨v5, h4, eh4, hF⟩ := b2_some hF
  refine g_callV X eob3 rfl rfl (w_X4_goFree l hl D dA h2 ob3 a1 v5 h4 eh4) q1991 q1993 qs51 q103 q1994 okn_X4_goFree ⟨by rw [hRf]; exact Nat.le_of_ble_eq_true rfl, by rw [hRl]; exact Nat.le_of_ble_eq_true rfl⟩ (As := [.int a1]) (rest := [va_rf (some this)]) rfl (by first | exact Nat.le_of_ble_eq_true rfl | simp [cat_rf, cat_i, cat_j, cat_f, cat_d]) dX4_setFree_7 (ac_v ?_)
  obtain ⟨ob6, eob6, hF⟩ := bnd hF
  obtain ⟨v8, h7, eh7, hF⟩ := b2_some hF
  refine g_callV X eob6 rfl rfl (w_X4_ends l hl D dA h4 ob6 v5 v8 h7 eh7) q1896 q1898 qs35 q103 q1899 okn_X4_ends ⟨by rw [hRf]; exact Nat.le_of_ble_eq_true rfl, by rw [hRl]; exact Nat.le_of_ble_eq_true rfl⟩ (As := [.int v5]) (rest := []) rfl (by first | exact Nat.le_of_ble_eq_true rfl | simp [cat_rf, cat_i, cat_j, cat_f, cat_d]) dX4_setFree_10 (ac_v ?_)
  cases hF
  exact g_iret X hr dX4_setFree_13
def F_X4_least (this : Nat) (a1 : Int32) (h0 : HH) : Option Int32 :=
  Option.bind (getR h0 1 9 (some this)) fun v1 =>
  Option.bind (aldI h0 0 v1 ((12 : Int32) + a1)) fun v2 =>
  some (-v2)
set_option maxHeartbeats 4000000 in
theorem w_X4_least (l : Launch) (hl : l.stackTraces = false) (D : va_G) (dA : Nat → ClassId) (h0 : HH) (this : Nat) (a1 : Int32) (rE : Int32) (hF : F_X4_least this a1 h0 = some rE) : MC D dA l yX4_least cX4_least 2 (Option.some Jvm.ClassFile.FieldType.int) [] 0 0 [va_rf (some this), .int a1] h0 (.inr (some (.int rE)), h0) := by
  refine mc_of hl (plainFor_of_name pn_X4) (by simp [lg_sl, cat_rf, cat_i, cat_j, cat_f, cat_d]) ?_
  intro p e s m args below meth c R hRf hRl X hr hnm
  unfold F_X4_least at hF
  rw [show argL [va_rf (some this), .int a1] = [some (va_rf (some this)), some (.int a1)] from by simp [argL, cat_rf, cat_i, cat_j, cat_f, cat_d]]
  refine g_aload_n X dX4_least_0 rfl rfl ?_
  obtain ⟨v1, ev1, hF⟩ := bnd hF
  refine g_get (k := 9) X in_X4 rfl (by decide) q1772 (Or.inl rfl) (getR_V ev1) dX4_least_1 ?_
  refine g_bipush (v := (12 : Int32)) X dX4_least_4 (by decide) ?_
  refine g_iload_n X dX4_least_6 rfl rfl ?_
  refine g_iadd X dX4_least_7 ?_
  obtain ⟨v2, ev2, hF⟩ := bnd hF
  refine g_iald X ev2 dX4_least_8 ?_
  refine g_ineg X dX4_least_9 ?_
  cases hF
  exact g_iret X hr dX4_least_10
def F_X4_goCopy_B34 (this : Nat) (a1 : Int32) (a2 : Int32) (x3_8 : Int32) (h_8 : HH) : Option ((Int32 × HH) ⊕ HH) :=
  if (4 : Int32) ≤ x3_8 then (
    some (.inr h_8)
  ) else (
    if x3_8 = a1 then (
      some (.inl ((x3_8 + (1 : Int32)), h_8))
    ) else (
      Option.bind (getR h_8 1 9 (some this)) fun v11 =>
      Option.bind (getR h_8 1 9 (some this)) fun v12 =>
      Option.bind (aldI h_8 0 v12 (((4 : Int32) * a2) + x3_8)) fun v13 =>
      Option.bind (astI h_8 v11 (((4 : Int32) * a1) + x3_8) v13) fun h14 =>
      Option.bind (getR h14 1 9 (some this)) fun v15 =>
      Option.bind (getR h14 1 9 (some this)) fun v16 =>
      Option.bind (aldI h14 0 v16 (((4 : Int32) * x3_8) + a2)) fun v17 =>
      Option.bind (astI h14 v15 (((4 : Int32) * x3_8) + a1) v17) fun h18 =>
      some (.inl ((x3_8 + (1 : Int32)), h18))
    )
  )
def F_X4_goCopy (this : Nat) (a1 : Int32) (a2 : Int32) (h0 : HH) : Option (Int32 × HH) :=
  if (F_X4_isClock a1) = 0 then (
    some ((-11 : Int32), h0)
  ) else (
    if (F_X4_isClock a2) = 0 then (
      some ((-11 : Int32), h0)
    ) else (
      if a1 = a2 then (
        some ((-11 : Int32), h0)
      ) else (
        Option.bind (isO h0 1 (some this)) fun ob4 =>
        b2 (F_X4_looks ob4 h0) fun v6 h5 =>
        if v6 = 0 then (
          some ((-12 : Int32), h5)
        ) else (
          Option.bind (lp (fun z => F_X4_goCopy_B34 this a1 a2 z.1 z.2) 100000 ((0 : Int32), h5)) fun h19 =>
          Option.bind (isO h19 1 (some this)) fun ob20 =>
          Option.bind (F_X4_least ob20 a2 h19) fun v21 =>
          Option.bind (isO h19 1 (some this)) fun ob22 =>
          b2 (F_X4_tells ob22 v21 h19) fun v24 h23 =>
          some (v24, h23)
        )
      )
    )
  )
set_option maxHeartbeats 4000000 in
theorem w_X4_goCopy (l : Launch) (hl : l.stackTraces = false) (D : va_G) (dA : Nat → ClassId) (h0 : HH) (this : Nat) (a1 : Int32) (a2 : Int32) (rE : Int32) (hE : HH) (hF : F_X4_goCopy this a1 a2 h0 = some (rE, hE)) : MC D dA l yX4_goCopy cX4_goCopy 4 (Option.some Jvm.ClassFile.FieldType.int) [] 5 110 [va_rf (some this), .int a1, .int a2] h0 (.inr (some (.int rE)), hE) := by
  refine mc_of hl (plainFor_of_name pn_X4) (by simp [lg_sl, cat_rf, cat_i, cat_j, cat_f, cat_d]) ?_
  intro p e s m args below meth c R hRf hRl X hr hnm
  unfold F_X4_goCopy at hF
  rw [show argL [va_rf (some this), .int a1, .int a2] = [some (va_rf (some this)), some (.int a1), some (.int a2)] from by simp [argL, cat_rf, cat_i, cat_j, cat_f, cat_d]]
  refine G.pad 1 (L' := [some (va_rf (some this)), some (.int a1), some (.int a2), none]) rfl ?_
  refine g_iload_n X dX4_goCopy_0 rfl rfl ?_
  refine g_callS X (w_X4_isClock l hl D dA h0 a1) q1948 q1949 q103 q1950 okn_X4_isClock ⟨by rw [hRf]; exact Nat.le_of_ble_eq_true rfl, by rw [hRl]; exact Nat.le_of_ble_eq_true rfl⟩ (As := [.int a1]) (rest := []) rfl (by first | exact Nat.le_of_ble_eq_true rfl | simp [cat_rf, cat_i, cat_j, cat_f, cat_d]) dX4_goCopy_1 (ac_v ?_)
  refine g_if_eq X 19 dX4_goCopy_4 (by decide) (fun c1 => ?_) (fun c1 => ?_)
  · have hF := (if_pos c1).symm.trans hF
    refine g_bipush (v := (-11 : Int32)) X dX4_goCopy_19 (by decide) ?_
    cases hF
    exact g_iret X hr dX4_goCopy_21
  · have hF := (if_neg c1).symm.trans hF
    refine g_iload_n X dX4_goCopy_7 rfl rfl ?_
    refine g_callS X (w_X4_isClock l hl D dA h0 a2) q1948 q1949 q103 q1950 okn_X4_isClock ⟨by rw [hRf]; exact Nat.le_of_ble_eq_true rfl, by rw [hRl]; exact Nat.le_of_ble_eq_true rfl⟩ (As := [.int a2]) (rest := []) rfl (by first | exact Nat.le_of_ble_eq_true rfl | simp [cat_rf, cat_i, cat_j, cat_f, cat_d]) dX4_goCopy_8 (ac_v ?_)
    refine g_if_eq X 19 dX4_goCopy_11 (by decide) (fun c2 => ?_) (fun c2 => ?_)
    · have hF := (if_pos c2).symm.trans hF
      refine g_bipush (v := (-11 : Int32)) X dX4_goCopy_19 (by decide) ?_
      cases hF
      exact g_iret X hr dX4_goCopy_21
    · have hF := (if_neg c2).symm.trans hF
      refine g_iload_n X dX4_goCopy_14 rfl rfl ?_
      refine g_iload_n X dX4_goCopy_15 rfl rfl ?_
      refine g_icmp_ne X 22 dX4_goCopy_16 (by decide) (fun c3 => ?_) (fun c3 => ?_)
      · have hF := (if_neg c3).symm.trans hF
        refine g_aload_n X dX4_goCopy_22 rfl rfl ?_
        obtain ⟨ob4, eob4, hF⟩ := bnd hF
        obtain ⟨v6, h5, eh5, hF⟩ := b2_some hF
        refine g_callV X eob4 rfl rfl (w_X4_looks l hl D dA h0 ob4  v6 h5 eh5) q1880 q1882 qs34 q103 q1883 okn_X4_looks ⟨by rw [hRf]; exact Nat.le_of_ble_eq_true rfl, by rw [hRl]; exact Nat.le_of_ble_eq_true rfl⟩ (As := []) (rest := []) rfl (by first | exact Nat.le_of_ble_eq_true rfl | simp [cat_rf, cat_i, cat_j, cat_f, cat_d]) dX4_goCopy_23 (ac_v ?_)
        refine g_if_ne X 32 dX4_goCopy_26 (by decide) (fun c7 => ?_) (fun c7 => ?_)
        · have hF := (if_neg c7).symm.trans hF
          refine g_iconst (v := (0 : Int32)) X dX4_goCopy_32 (by decide) ?_
          refine g_istore_n (L' := [some (va_rf (some this)), some (.int a1), some (.int a2), some (.int (0 : Int32))]) X dX4_goCopy_33 rfl (Nat.le_of_ble_eq_true rfl) (by first | rfl | simp [stL, rm1, clr2, cat_rf, cat_i, cat_j, cat_f, cat_d]) ?_
          obtain ⟨h19, e25, hF⟩ := bnd hF
          refine lp_ind (Gs := (fun z => G p l e R s m args below meth c (RQ D dA h0 (.inr (some (.int rE)), hE) below s) D dA h0 4 z.2 34 [some (va_rf (some this)), some (.int a1), some (.int a2), some (.int z.1)] [])) (Ge := (fun z => G p l e R s m args below meth c (RQ D dA h0 (.inr (some (.int rE)), hE) below s) D dA h0 4 z 90 [some (va_rf (some this)), none, some (.int a2), none] [])) ?_ _ _ _ e25 ?_
          · rintro ⟨x3_8, h_8⟩ o hF hgo hr
            change F_X4_goCopy_B34 this a1 a2 x3_8 h_8 = some o at hF
            unfold F_X4_goCopy_B34 at hF
            show G p l e R s m args below meth c (RQ D dA h0 (.inr (some (.int rE)), hE) below s) D dA h0 4 h_8 34 [some (va_rf (some this)), some (.int a1), some (.int a2), some (.int x3_8)] []
            refine g_iload_n X dX4_goCopy_34 rfl rfl ?_
            refine g_iconst (v := (4 : Int32)) X dX4_goCopy_35 (by decide) ?_
            refine g_icmp_ge X 90 dX4_goCopy_36 (by decide) (fun c9 => ?_) (fun c9 => ?_)
            · have hF := (if_pos c9).symm.trans hF
              refine G.drop [true, false, true, false] rfl ?_
              cases hF
              exact hr _ rfl
            · have hF := (if_neg c9).symm.trans hF
              refine g_iload_n X dX4_goCopy_39 rfl rfl ?_
              refine g_iload_n X dX4_goCopy_40 rfl rfl ?_
              refine g_icmp_eq X 84 dX4_goCopy_41 (by decide) (fun c10 => ?_) (fun c10 => ?_)
              · have hF := (if_pos c10).symm.trans hF
                refine g_iinc (v := (x3_8 + (1 : Int32))) (L' := [some (va_rf (some this)), some (.int a1), some (.int a2), some (.int (x3_8 + (1 : Int32)))]) X dX4_goCopy_84 (Nat.le_of_ble_eq_true rfl) rfl rfl (by first | rfl | simp [stL, rm1, clr2, cat_rf, cat_i, cat_j, cat_f, cat_d]) ?_
                refine g_goto X 34 dX4_goCopy_87 (by decide) ?_
                cases hF
                exact hgo _ rfl
              · have hF := (if_neg c10).symm.trans hF
                refine g_aload_n X dX4_goCopy_44 rfl rfl ?_
                obtain ⟨v11, ev11, hF⟩ := bnd hF
                refine g_get (k := 9) X in_X4 rfl (by decide) q1772 (Or.inl rfl) (getR_V ev11) dX4_goCopy_45 ?_
                refine g_iconst (v := (4 : Int32)) X dX4_goCopy_48 (by decide) ?_
                refine g_iload_n X dX4_goCopy_49 rfl rfl ?_
                refine g_imul X dX4_goCopy_50 ?_
                refine g_iload_n X dX4_goCopy_51 rfl rfl ?_
                refine g_iadd X dX4_goCopy_52 ?_
                refine g_aload_n X dX4_goCopy_53 rfl rfl ?_
                obtain ⟨v12, ev12, hF⟩ := bnd hF
                refine g_get (k := 9) X in_X4 rfl (by decide) q1772 (Or.inl rfl) (getR_V ev12) dX4_goCopy_54 ?_
                refine g_iconst (v := (4 : Int32)) X dX4_goCopy_57 (by decide) ?_
                refine g_iload_n X dX4_goCopy_58 rfl rfl ?_
                refine g_imul X dX4_goCopy_59 ?_
                refine g_iload_n X dX4_goCopy_60 rfl rfl ?_
                refine g_iadd X dX4_goCopy_61 ?_
                obtain ⟨v13, ev13, hF⟩ := bnd hF
                refine g_iald X ev13 dX4_goCopy_62 ?_
                obtain ⟨h14, eh14, hF⟩ := bnd hF
                refine g_iast X eh14 dX4_goCopy_63 ?_
                refine g_aload_n X dX4_goCopy_64 rfl rfl ?_
                obtain ⟨v15, ev15, hF⟩ := bnd hF
                refine g_get (k := 9) X in_X4 rfl (by decide) q1772 (Or.inl rfl) (getR_V ev15) dX4_goCopy_65 ?_
                refine g_iconst (v := (4 : Int32)) X dX4_goCopy_68 (by decide) ?_
                refine g_iload_n X dX4_goCopy_69 rfl rfl ?_
                refine g_imul X dX4_goCopy_70 ?_
                refine g_iload_n X dX4_goCopy_71 rfl rfl ?_
                refine g_iadd X dX4_goCopy_72 ?_
                refine g_aload_n X dX4_goCopy_73 rfl rfl ?_
                obtain ⟨v16, ev16, hF⟩ := bnd hF
                refine g_get (k := 9) X in_X4 rfl (by decide) q1772 (Or.inl rfl) (getR_V ev16) dX4_goCopy_74 ?_
                refine g_iconst (v := (4 : Int32)) X dX4_goCopy_77 (by decide) ?_
                refine g_iload_n X dX4_goCopy_78 rfl rfl ?_
                refine g_imul X dX4_goCopy_79 ?_
                refine g_iload_n X dX4_goCopy_80 rfl rfl ?_
                refine g_iadd X dX4_goCopy_81 ?_
                obtain ⟨v17, ev17, hF⟩ := bnd hF
                refine g_iald X ev17 dX4_goCopy_82 ?_
                obtain ⟨h18, eh18, hF⟩ := bnd hF
                refine g_iast X eh18 dX4_goCopy_83 ?_
                refine g_iinc (v := (x3_8 + (1 : Int32))) (L' := [some (va_rf (some this)), some (.int a1), some (.int a2), some (.int (x3_8 + (1 : Int32)))]) X dX4_goCopy_84 (Nat.le_of_ble_eq_true rfl) rfl rfl (by first | rfl | simp [stL, rm1, clr2, cat_rf, cat_i, cat_j, cat_f, cat_d]) ?_
                refine g_goto X 34 dX4_goCopy_87 (by decide) ?_
                cases hF
                exact hgo _ rfl
          show G p l e R s m args below meth c (RQ D dA h0 (.inr (some (.int rE)), hE) below s) D dA h0 4 h19 90 [some (va_rf (some this)), none, some (.int a2), none] []
          refine g_aload_n X dX4_goCopy_90 rfl rfl ?_
          refine g_aload_n X dX4_goCopy_91 rfl rfl ?_
          refine g_iload_n X dX4_goCopy_92 rfl rfl ?_
          obtain ⟨ob20, eob20, hF⟩ := bnd hF
          obtain ⟨v21, ev21, hF⟩ := bnd hF
          refine g_callV X eob20 rfl rfl (w_X4_least l hl D dA h19 ob20 a2 v21 ev21) q2003 q2005 qs53 q103 q2006 okn_X4_least ⟨by rw [hRf]; exact Nat.le_of_ble_eq_true rfl, by rw [hRl]; exact Nat.le_of_ble_eq_true rfl⟩ (As := [.int a2]) (rest := [va_rf (some this)]) rfl (by first | exact Nat.le_of_ble_eq_true rfl | simp [cat_rf, cat_i, cat_j, cat_f, cat_d]) dX4_goCopy_93 (ac_v ?_)
          obtain ⟨ob22, eob22, hF⟩ := bnd hF
          obtain ⟨v24, h23, eh23, hF⟩ := b2_some hF
          refine g_callV X eob22 rfl rfl (w_X4_tells l hl D dA h19 ob22 v21 v24 h23 eh23) q1959 q1961 qs46 q103 q1962 okn_X4_tells ⟨by rw [hRf]; exact Nat.le_of_ble_eq_true rfl, by rw [hRl]; exact Nat.le_of_ble_eq_true rfl⟩ (As := [.int v21]) (rest := []) rfl (by first | exact Nat.le_of_ble_eq_true rfl | simp [cat_rf, cat_i, cat_j, cat_f, cat_d]) dX4_goCopy_96 (ac_v ?_)
          cases hF
          exact g_iret X hr dX4_goCopy_99
        · have hF := (if_pos c7).symm.trans hF
          refine g_bipush (v := (-12 : Int32)) X dX4_goCopy_29 (by decide) ?_
          cases hF
          exact g_iret X hr dX4_goCopy_31
      · have hF := (if_pos c3).symm.trans hF
        refine g_bipush (v := (-11 : Int32)) X dX4_goCopy_19 (by decide) ?_
        cases hF
        exact g_iret X hr dX4_goCopy_21
def F_X4_copyClock (this : Nat) (a1 : Int32) (a2 : Int32) (h0 : HH) : Option (Int32 × HH) :=
  Option.bind (isO h0 1 (some this)) fun ob1 =>
  Option.bind (F_X4_begins ob1 h0) fun h2 =>
  Option.bind (isO h2 1 (some this)) fun ob3 =>
  b2 (F_X4_goCopy ob3 a1 a2 h2) fun v5 h4 =>
  Option.bind (isO h4 1 (some this)) fun ob6 =>
  b2 (F_X4_ends ob6 v5 h4) fun v8 h7 =>
  some (v8, h7)
set_option maxHeartbeats 4000000 in
theorem w_X4_copyClock (l : Launch) (hl : l.stackTraces = false) (D : va_G) (dA : Nat → ClassId) (h0 : HH) (this : Nat) (a1 : Int32) (a2 : Int32) (rE : Int32) (hE : HH) (hF : F_X4_copyClock this a1 a2 h0 = some (rE, hE)) : MC D dA l yX4_copyClock cX4_copyClock 3 (Option.some Jvm.ClassFile.FieldType.int) [] 6 133 [va_rf (some this), .int a1, .int a2] h0 (.inr (some (.int rE)), hE) := by
  refine mc_of hl (plainFor_of_name pn_X4) (by simp [lg_sl, cat_rf, cat_i, cat_j, cat_f, cat_d]) ?_
  intro p e s m args below meth c R hRf hRl X hr hnm
  unfold F_X4_copyClock at hF
  rw [show argL [va_rf (some this), .int a1, .int a2] = [some (va_rf (some this)), some (.int a1), some (.int a2)] from by simp [argL, cat_rf, cat_i, cat_j, cat_f, cat_d]]
  refine g_aload_n X dX4_copyClock_0 rfl rfl ?_
  obtain ⟨ob1, eob1, hF⟩ := bnd hF
  obtain ⟨h2, eh2, hF⟩ := bnd hF
  refine g_callV X eob1 rfl rfl (w_X4_begins l hl D dA h0 ob1  h2 eh2) q1859 q1861 qs31 q103 q1862 okn_X4_begins ⟨by rw [hRf]; exact Nat.le_of_ble_eq_true rfl, by rw [hRl]; exact Nat.le_of_ble_eq_true rfl⟩ (As := []) (rest := []) rfl (by first | exact Nat.le_of_ble_eq_true rfl | simp [cat_rf, cat_i, cat_j, cat_f, cat_d]) dX4_copyClock_1 (ac_0 ?_)
  refine g_aload_n X dX4_copyClock_4 rfl rfl ?_
  refine g_aload_n X dX4_copyClock_5 rfl rfl ?_
  refine g_iload_n X dX4_copyClock_6 rfl rfl ?_
  refine g_iload_n X dX4_copyClock_7 rfl rfl ?_
  obtain ⟨ob3, eob3, hF⟩ := bnd hF
  obtain ⟨v5, h4, eh4, hF⟩ := b2_some hF
  refine g_callV X eob3 rfl rfl (w_X4_goCopy l hl D dA h2 ob3 a1 a2 v5 h4 eh4) q1999 q2001 qs52 q103 q2002 okn_X4_goCopy ⟨by rw [hRf]; exact Nat.le_of_ble_eq_true rfl, by rw [hRl]; exact Nat.le_of_ble_eq_true rfl⟩ (As := [.int a1, .int a2]) (rest := [va_rf (some this)]) rfl (by first | exact Nat.le_of_ble_eq_true rfl | simp [cat_rf, cat_i, cat_j, cat_f, cat_d]) dX4_copyClock_8 (ac_v ?_)
  obtain ⟨ob6, eob6, hF⟩ := bnd hF
  obtain ⟨v8, h7, eh7, hF⟩ := b2_some hF
  refine g_callV X eob6 rfl rfl (w_X4_ends l hl D dA h4 ob6 v5 v8 h7 eh7) q1896 q1898 qs35 q103 q1899 okn_X4_ends ⟨by rw [hRf]; exact Nat.le_of_ble_eq_true rfl, by rw [hRl]; exact Nat.le_of_ble_eq_true rfl⟩ (As := [.int v5]) (rest := []) rfl (by first | exact Nat.le_of_ble_eq_true rfl | simp [cat_rf, cat_i, cat_j, cat_f, cat_d]) dX4_copyClock_11 (ac_v ?_)
  cases hF
  exact g_iret X hr dX4_copyClock_14
def F_X4_goShift_B32 (this : Nat) (a1 : Int32) (a2 : Int32) (x3_7 : Int32) (h_7 : HH) : Option ((Int32 × HH) ⊕ HH) :=
  if (4 : Int32) ≤ x3_7 then (
    some (.inr h_7)
  ) else (
    if x3_7 = a1 then (
      some (.inl ((x3_7 + (1 : Int32)), h_7))
    ) else (
      Option.bind (getR h_7 1 9 (some this)) fun v10 =>
      Option.bind (getR h_7 1 9 (some this)) fun v11 =>
      Option.bind (aldI h_7 0 v11 (((4 : Int32) * a1) + x3_7)) fun v12 =>
      Option.bind (astI h_7 v10 (((4 : Int32) * a1) + x3_7) (F_X4_sum v12 a2)) fun h13 =>
      Option.bind (getR h13 1 9 (some this)) fun v14 =>
      Option.bind (getR h13 1 9 (some this)) fun v15 =>
      Option.bind (aldI h13 0 v15 (((4 : Int32) * x3_7) + a1)) fun v16 =>
      Option.bind (astI h13 v14 (((4 : Int32) * x3_7) + a1) (F_X4_sum v16 (-a2))) fun h17 =>
      some (.inl ((x3_7 + (1 : Int32)), h17))
    )
  )
def F_X4_goShift (this : Nat) (a1 : Int32) (a2 : Int32) (h0 : HH) : Option (Int32 × HH) :=
  if (F_X4_isClock a1) = 0 then (
    some ((-11 : Int32), h0)
  ) else (
    if (F_X4_in a2 (1 : Int32) (9 : Int32)) = 0 then (
      some ((-11 : Int32), h0)
    ) else (
      Option.bind (isO h0 1 (some this)) fun ob3 =>
      b2 (F_X4_looks ob3 h0) fun v5 h4 =>
      if v5 = 0 then (
        some ((-12 : Int32), h4)
      ) else (
        Option.bind (lp (fun z => F_X4_goShift_B32 this a1 a2 z.1 z.2) 100000 ((0 : Int32), h4)) fun h18 =>
        Option.bind (isO h18 1 (some this)) fun ob19 =>
        Option.bind (F_X4_least ob19 a1 h18) fun v20 =>
        Option.bind (isO h18 1 (some this)) fun ob21 =>
        b2 (F_X4_tells ob21 v20 h18) fun v23 h22 =>
        some (v23, h22)
      )
    )
  )
set_option maxHeartbeats 4000000 in
theorem w_X4_goShift (l : Launch) (hl : l.stackTraces = false) (D : va_G) (dA : Nat → ClassId) (h0 : HH) (this : Nat) (a1 : Int32) (a2 : Int32) (rE : Int32) (hE : HH) (hF : F_X4_goShift this a1 a2 h0 = some (rE, hE)) : MC D dA l yX4_goShift cX4_goShift 4 (Option.some Jvm.ClassFile.FieldType.int) [] 5 110 [va_rf (some this), .int a1, .int a2] h0 (.inr (some (.int rE)), hE) := by
  refine mc_of hl (plainFor_of_name pn_X4) (by simp [lg_sl, cat_rf, cat_i, cat_j, cat_f, cat_d]) ?_
  intro p e s m args below meth c R hRf hRl X hr hnm
  unfold F_X4_goShift at hF
  rw [show argL [va_rf (some this), .int a1, .int a2] = [some (va_rf (some this)), some (.int a1), some (.int a2)] from by simp [argL, cat_rf, cat_i, cat_j, cat_f, cat_d]]
  refine G.pad 1 (L' := [some (va_rf (some this)), some (.int a1), some (.int a2), none]) rfl ?_
  refine g_iload_n X dX4_goShift_0 rfl rfl ?_
  refine g_callS X (w_X4_isClock l hl D dA h0 a1) q1948 q1949 q103 q1950 okn_X4_isClock ⟨by rw [hRf]; exact Nat.le_of_ble_eq_true rfl, by rw [hRl]; exact Nat.le_of_ble_eq_true rfl⟩ (As := [.int a1]) (rest := []) rfl (by first | exact Nat.le_of_ble_eq_true rfl | simp [cat_rf, cat_i, cat_j, cat_f, cat_d]) dX4_goShift_1 (ac_v ?_)
  refine g_if_eq X 17 dX4_goShift_4 (by decide) (fun c1 => ?_) (fun c1 => ?_)
  · have hF := (if_pos c1).symm.trans hF
    refine g_bipush (v := (-11 : Int32)) X dX4_goShift_17 (by decide) ?_
    cases hF
    exact g_iret X hr dX4_goShift_19
  · have hF := (if_neg c1).symm.trans hF
    refine g_iload_n X dX4_goShift_7 rfl rfl ?_
    refine g_iconst (v := (1 : Int32)) X dX4_goShift_8 (by decide) ?_
    refine g_bipush (v := (9 : Int32)) X dX4_goShift_9 (by decide) ?_
    refine g_callS X (w_X4_in l hl D dA h0 a2 (1 : Int32) (9 : Int32)) q1873 q1874 q103 q1875 okn_X4_in ⟨by rw [hRf]; exact Nat.le_of_ble_eq_true rfl, by rw [hRl]; exact Nat.le_of_ble_eq_true rfl⟩ (As := [.int a2, .int (1 : Int32), .int (9 : Int32)]) (rest := []) rfl (by first | exact Nat.le_of_ble_eq_true rfl | simp [cat_rf, cat_i, cat_j, cat_f, cat_d]) dX4_goShift_11 (ac_v ?_)
    refine g_if_ne X 20 dX4_goShift_14 (by decide) (fun c2 => ?_) (fun c2 => ?_)
    · have hF := (if_neg c2).symm.trans hF
      refine g_aload_n X dX4_goShift_20 rfl rfl ?_
      obtain ⟨ob3, eob3, hF⟩ := bnd hF
      obtain ⟨v5, h4, eh4, hF⟩ := b2_some hF
      refine g_callV X eob3 rfl rfl (w_X4_looks l hl D dA h0 ob3  v5 h4 eh4) q1880 q1882 qs34 q103 q1883 okn_X4_looks ⟨by rw [hRf]; exact Nat.le_of_ble_eq_true rfl, by rw [hRl]; exact Nat.le_of_ble_eq_true rfl⟩ (As := []) (rest := []) rfl (by first | exact Nat.le_of_ble_eq_true rfl | simp [cat_rf, cat_i, cat_j, cat_f, cat_d]) dX4_goShift_21 (ac_v ?_)
      refine g_if_ne X 30 dX4_goShift_24 (by decide) (fun c6 => ?_) (fun c6 => ?_)
      · have hF := (if_neg c6).symm.trans hF
        refine g_iconst (v := (0 : Int32)) X dX4_goShift_30 (by decide) ?_
        refine g_istore_n (L' := [some (va_rf (some this)), some (.int a1), some (.int a2), some (.int (0 : Int32))]) X dX4_goShift_31 rfl (Nat.le_of_ble_eq_true rfl) (by first | rfl | simp [stL, rm1, clr2, cat_rf, cat_i, cat_j, cat_f, cat_d]) ?_
        obtain ⟨h18, e24, hF⟩ := bnd hF
        refine lp_ind (Gs := (fun z => G p l e R s m args below meth c (RQ D dA h0 (.inr (some (.int rE)), hE) below s) D dA h0 4 z.2 32 [some (va_rf (some this)), some (.int a1), some (.int a2), some (.int z.1)] [])) (Ge := (fun z => G p l e R s m args below meth c (RQ D dA h0 (.inr (some (.int rE)), hE) below s) D dA h0 4 z 97 [some (va_rf (some this)), some (.int a1), none, none] [])) ?_ _ _ _ e24 ?_
        · rintro ⟨x3_7, h_7⟩ o hF hgo hr
          change F_X4_goShift_B32 this a1 a2 x3_7 h_7 = some o at hF
          unfold F_X4_goShift_B32 at hF
          show G p l e R s m args below meth c (RQ D dA h0 (.inr (some (.int rE)), hE) below s) D dA h0 4 h_7 32 [some (va_rf (some this)), some (.int a1), some (.int a2), some (.int x3_7)] []
          refine g_iload_n X dX4_goShift_32 rfl rfl ?_
          refine g_iconst (v := (4 : Int32)) X dX4_goShift_33 (by decide) ?_
          refine g_icmp_ge X 97 dX4_goShift_34 (by decide) (fun c8 => ?_) (fun c8 => ?_)
          · have hF := (if_pos c8).symm.trans hF
            refine G.drop [true, true, false, false] rfl ?_
            cases hF
            exact hr _ rfl
          · have hF := (if_neg c8).symm.trans hF
            refine g_iload_n X dX4_goShift_37 rfl rfl ?_
            refine g_iload_n X dX4_goShift_38 rfl rfl ?_
            refine g_icmp_eq X 91 dX4_goShift_39 (by decide) (fun c9 => ?_) (fun c9 => ?_)
            · have hF := (if_pos c9).symm.trans hF
              refine g_iinc (v := (x3_7 + (1 : Int32))) (L' := [some (va_rf (some this)), some (.int a1), some (.int a2), some (.int (x3_7 + (1 : Int32)))]) X dX4_goShift_91 (Nat.le_of_ble_eq_true rfl) rfl rfl (by first | rfl | simp [stL, rm1, clr2, cat_rf, cat_i, cat_j, cat_f, cat_d]) ?_
              refine g_goto X 32 dX4_goShift_94 (by decide) ?_
              cases hF
              exact hgo _ rfl
            · have hF := (if_neg c9).symm.trans hF
              refine g_aload_n X dX4_goShift_42 rfl rfl ?_
              obtain ⟨v10, ev10, hF⟩ := bnd hF
              refine g_get (k := 9) X in_X4 rfl (by decide) q1772 (Or.inl rfl) (getR_V ev10) dX4_goShift_43 ?_
              refine g_iconst (v := (4 : Int32)) X dX4_goShift_46 (by decide) ?_
              refine g_iload_n X dX4_goShift_47 rfl rfl ?_
              refine g_imul X dX4_goShift_48 ?_
              refine g_iload_n X dX4_goShift_49 rfl rfl ?_
              refine g_iadd X dX4_goShift_50 ?_
              refine g_aload_n X dX4_goShift_51 rfl rfl ?_
              obtain ⟨v11, ev11, hF⟩ := bnd hF
              refine g_get (k := 9) X in_X4 rfl (by decide) q1772 (Or.inl rfl) (getR_V ev11) dX4_goShift_52 ?_
              refine g_iconst (v := (4 : Int32)) X dX4_goShift_55 (by decide) ?_
              refine g_iload_n X dX4_goShift_56 rfl rfl ?_
              refine g_imul X dX4_goShift_57 ?_
              refine g_iload_n X dX4_goShift_58 rfl rfl ?_
              refine g_iadd X dX4_goShift_59 ?_
              obtain ⟨v12, ev12, hF⟩ := bnd hF
              refine g_iald X ev12 dX4_goShift_60 ?_
              refine g_iload_n X dX4_goShift_61 rfl rfl ?_
              refine g_callS X (w_X4_sum l hl D dA h_7 v12 a2) q1890 q1891 q103 q1892 okn_X4_sum ⟨by rw [hRf]; exact Nat.le_of_ble_eq_true rfl, by rw [hRl]; exact Nat.le_of_ble_eq_true rfl⟩ (As := [.int v12, .int a2]) (rest := [.int (((4 : Int32) * a1) + x3_7), va_rf v10]) rfl (by first | exact Nat.le_of_ble_eq_true rfl | simp [cat_rf, cat_i, cat_j, cat_f, cat_d]) dX4_goShift_62 (ac_v ?_)
              obtain ⟨h13, eh13, hF⟩ := bnd hF
              refine g_iast X eh13 dX4_goShift_65 ?_
              refine g_aload_n X dX4_goShift_66 rfl rfl ?_
              obtain ⟨v14, ev14, hF⟩ := bnd hF
              refine g_get (k := 9) X in_X4 rfl (by decide) q1772 (Or.inl rfl) (getR_V ev14) dX4_goShift_67 ?_
              refine g_iconst (v := (4 : Int32)) X dX4_goShift_70 (by decide) ?_
              refine g_iload_n X dX4_goShift_71 rfl rfl ?_
              refine g_imul X dX4_goShift_72 ?_
              refine g_iload_n X dX4_goShift_73 rfl rfl ?_
              refine g_iadd X dX4_goShift_74 ?_
              refine g_aload_n X dX4_goShift_75 rfl rfl ?_
              obtain ⟨v15, ev15, hF⟩ := bnd hF
              refine g_get (k := 9) X in_X4 rfl (by decide) q1772 (Or.inl rfl) (getR_V ev15) dX4_goShift_76 ?_
              refine g_iconst (v := (4 : Int32)) X dX4_goShift_79 (by decide) ?_
              refine g_iload_n X dX4_goShift_80 rfl rfl ?_
              refine g_imul X dX4_goShift_81 ?_
              refine g_iload_n X dX4_goShift_82 rfl rfl ?_
              refine g_iadd X dX4_goShift_83 ?_
              obtain ⟨v16, ev16, hF⟩ := bnd hF
              refine g_iald X ev16 dX4_goShift_84 ?_
              refine g_iload_n X dX4_goShift_85 rfl rfl ?_
              refine g_ineg X dX4_goShift_86 ?_
              refine g_callS X (w_X4_sum l hl D dA h13 v16 (-a2)) q1890 q1891 q103 q1892 okn_X4_sum ⟨by rw [hRf]; exact Nat.le_of_ble_eq_true rfl, by rw [hRl]; exact Nat.le_of_ble_eq_true rfl⟩ (As := [.int v16, .int (-a2)]) (rest := [.int (((4 : Int32) * x3_7) + a1), va_rf v14]) rfl (by first | exact Nat.le_of_ble_eq_true rfl | simp [cat_rf, cat_i, cat_j, cat_f, cat_d]) dX4_goShift_87 (ac_v ?_)
              obtain ⟨h17, eh17, hF⟩ := bnd hF
              refine g_iast X eh17 dX4_goShift_90 ?_
              refine g_iinc (v := (x3_7 + (1 : Int32))) (L' := [some (va_rf (some this)), some (.int a1), some (.int a2), some (.int (x3_7 + (1 : Int32)))]) X dX4_goShift_91 (Nat.le_of_ble_eq_true rfl) rfl rfl (by first | rfl | simp [stL, rm1, clr2, cat_rf, cat_i, cat_j, cat_f, cat_d]) ?_
              refine g_goto X 32 dX4_goShift_94 (by decide) ?_
              cases hF
              exact hgo _ rfl
        show G p l e R s m args below meth c (RQ D dA h0 (.inr (some (.int rE)), hE) below s) D dA h0 4 h18 97 [some (va_rf (some this)), some (.int a1), none, none] []
        refine g_aload_n X dX4_goShift_97 rfl rfl ?_
        refine g_aload_n X dX4_goShift_98 rfl rfl ?_
        refine g_iload_n X dX4_goShift_99 rfl rfl ?_
        obtain ⟨ob19, eob19, hF⟩ := bnd hF
        obtain ⟨v20, ev20, hF⟩ := bnd hF
        refine g_callV X eob19 rfl rfl (w_X4_least l hl D dA h18 ob19 a1 v20 ev20) q2003 q2005 qs53 q103 q2006 okn_X4_least ⟨by rw [hRf]; exact Nat.le_of_ble_eq_true rfl, by rw [hRl]; exact Nat.le_of_ble_eq_true rfl⟩ (As := [.int a1]) (rest := [va_rf (some this)]) rfl (by first | exact Nat.le_of_ble_eq_true rfl | simp [cat_rf, cat_i, cat_j, cat_f, cat_d]) dX4_goShift_100 (ac_v ?_)
        obtain ⟨ob21, eob21, hF⟩ := bnd hF
        obtain ⟨v23, h22, eh22, hF⟩ := b2_some hF
        refine g_callV X eob21 rfl rfl (w_X4_tells l hl D dA h18 ob21 v20 v23 h22 eh22) q1959 q1961 qs46 q103 q1962 okn_X4_tells ⟨by rw [hRf]; exact Nat.le_of_ble_eq_true rfl, by rw [hRl]; exact Nat.le_of_ble_eq_true rfl⟩ (As := [.int v20]) (rest := []) rfl (by first | exact Nat.le_of_ble_eq_true rfl | simp [cat_rf, cat_i, cat_j, cat_f, cat_d]) dX4_goShift_103 (ac_v ?_)
        cases hF
        exact g_iret X hr dX4_goShift_106
      · have hF := (if_pos c6).symm.trans hF
        refine g_bipush (v := (-12 : Int32)) X dX4_goShift_27 (by decide) ?_
        cases hF
        exact g_iret X hr dX4_goShift_29
    · have hF := (if_pos c2).symm.trans hF
      refine g_bipush (v := (-11 : Int32)) X dX4_goShift_17 (by decide) ?_
      cases hF
      exact g_iret X hr dX4_goShift_19
def F_X4_shift (this : Nat) (a1 : Int32) (a2 : Int32) (h0 : HH) : Option (Int32 × HH) :=
  Option.bind (isO h0 1 (some this)) fun ob1 =>
  Option.bind (F_X4_begins ob1 h0) fun h2 =>
  Option.bind (isO h2 1 (some this)) fun ob3 =>
  b2 (F_X4_goShift ob3 a1 a2 h2) fun v5 h4 =>
  Option.bind (isO h4 1 (some this)) fun ob6 =>
  b2 (F_X4_ends ob6 v5 h4) fun v8 h7 =>
  some (v8, h7)
set_option maxHeartbeats 4000000 in
theorem w_X4_shift (l : Launch) (hl : l.stackTraces = false) (D : va_G) (dA : Nat → ClassId) (h0 : HH) (this : Nat) (a1 : Int32) (a2 : Int32) (rE : Int32) (hE : HH) (hF : F_X4_shift this a1 a2 h0 = some (rE, hE)) : MC D dA l yX4_shift cX4_shift 3 (Option.some Jvm.ClassFile.FieldType.int) [] 6 133 [va_rf (some this), .int a1, .int a2] h0 (.inr (some (.int rE)), hE) := by
  refine mc_of hl (plainFor_of_name pn_X4) (by simp [lg_sl, cat_rf, cat_i, cat_j, cat_f, cat_d]) ?_
  intro p e s m args below meth c R hRf hRl X hr hnm
  unfold F_X4_shift at hF
  rw [show argL [va_rf (some this), .int a1, .int a2] = [some (va_rf (some this)), some (.int a1), some (.int a2)] from by simp [argL, cat_rf, cat_i, cat_j, cat_f, cat_d]]
  refine g_aload_n X dX4_shift_0 rfl rfl ?_
  obtain ⟨ob1, eob1, hF⟩ := bnd hF
  obtain ⟨h2, eh2, hF⟩ := bnd hF
  refine g_callV X eob1 rfl rfl (w_X4_begins l hl D dA h0 ob1  h2 eh2) q1859 q1861 qs31 q103 q1862 okn_X4_begins ⟨by rw [hRf]; exact Nat.le_of_ble_eq_true rfl, by rw [hRl]; exact Nat.le_of_ble_eq_true rfl⟩ (As := []) (rest := []) rfl (by first | exact Nat.le_of_ble_eq_true rfl | simp [cat_rf, cat_i, cat_j, cat_f, cat_d]) dX4_shift_1 (ac_0 ?_)
  refine g_aload_n X dX4_shift_4 rfl rfl ?_
  refine g_aload_n X dX4_shift_5 rfl rfl ?_
  refine g_iload_n X dX4_shift_6 rfl rfl ?_
  refine g_iload_n X dX4_shift_7 rfl rfl ?_
  obtain ⟨ob3, eob3, hF⟩ := bnd hF
  obtain ⟨v5, h4, eh4, hF⟩ := b2_some hF
  refine g_callV X eob3 rfl rfl (w_X4_goShift l hl D dA h2 ob3 a1 a2 v5 h4 eh4) q2011 q2013 qs54 q103 q2014 okn_X4_goShift ⟨by rw [hRf]; exact Nat.le_of_ble_eq_true rfl, by rw [hRl]; exact Nat.le_of_ble_eq_true rfl⟩ (As := [.int a1, .int a2]) (rest := [va_rf (some this)]) rfl (by first | exact Nat.le_of_ble_eq_true rfl | simp [cat_rf, cat_i, cat_j, cat_f, cat_d]) dX4_shift_8 (ac_v ?_)
  obtain ⟨ob6, eob6, hF⟩ := bnd hF
  obtain ⟨v8, h7, eh7, hF⟩ := b2_some hF
  refine g_callV X eob6 rfl rfl (w_X4_ends l hl D dA h4 ob6 v5 v8 h7 eh7) q1896 q1898 qs35 q103 q1899 okn_X4_ends ⟨by rw [hRf]; exact Nat.le_of_ble_eq_true rfl, by rw [hRl]; exact Nat.le_of_ble_eq_true rfl⟩ (As := [.int v5]) (rest := []) rfl (by first | exact Nat.le_of_ble_eq_true rfl | simp [cat_rf, cat_i, cat_j, cat_f, cat_d]) dX4_shift_11 (ac_v ?_)
  cases hF
  exact g_iret X hr dX4_shift_14
def F_X4_isSlot (a1 : Int32) : Int32 :=
  (F_X4_in a1 (0 : Int32) (3 : Int32))
set_option maxHeartbeats 4000000 in
theorem w_X4_isSlot (l : Launch) (hl : l.stackTraces = false) (D : va_G) (dA : Nat → ClassId) (h0 : HH) (a1 : Int32) : MC D dA l yX4_isSlot cX4_isSlot 1 (Option.some Jvm.ClassFile.FieldType.boolean) [] 1 22 [.int a1] h0 (.inr (some (.int (F_X4_isSlot a1))), h0) := by
  refine mc_of hl (plainFor_of_name pn_X4) (by simp [lg_sl, cat_rf, cat_i, cat_j, cat_f, cat_d]) ?_
  intro p e s m args below meth c R hRf hRl X hr hnm
  generalize hF : F_X4_isSlot a1 = rE
  unfold F_X4_isSlot at hF
  rw [show argL [.int a1] = [some (.int a1)] from by simp [argL, cat_rf, cat_i, cat_j, cat_f, cat_d]]
  refine g_iload_n X dX4_isSlot_0 rfl rfl ?_
  refine g_iconst (v := (0 : Int32)) X dX4_isSlot_1 (by decide) ?_
  refine g_iconst (v := (3 : Int32)) X dX4_isSlot_2 (by decide) ?_
  refine g_callS X (w_X4_in l hl D dA h0 a1 (0 : Int32) (3 : Int32)) q1873 q1874 q103 q1875 okn_X4_in ⟨by rw [hRf]; exact Nat.le_of_ble_eq_true rfl, by rw [hRl]; exact Nat.le_of_ble_eq_true rfl⟩ (As := [.int a1, .int (0 : Int32), .int (3 : Int32)]) (rest := []) rfl (by first | exact Nat.le_of_ble_eq_true rfl | simp [cat_rf, cat_i, cat_j, cat_f, cat_d]) dX4_isSlot_3 (ac_v ?_)
  cases hF
  exact g_zret X hr (by simp only [F_X4_in]; (repeat' split) <;> rfl) dX4_isSlot_6
def F_X4_store (this : Nat) (a1 : Int32) (h0 : HH) : Option (Int32 × HH) :=
  Option.bind (isO h0 1 (some this)) fun ob1 =>
  Option.bind (F_X4_begins ob1 h0) fun h2 =>
  if (F_X4_isSlot a1) = 0 then (
    Option.bind (isO h2 1 (some this)) fun ob15 =>
    b2 (F_X4_fails ob15 (1 : Int32) h2) fun v17 h16 =>
    some ((if v17 = (1 : Int32) then (1 : Int32) else (0 : Int32)), h16)
  ) else (
    Option.bind (getR h2 1 0 (some this)) fun v4 =>
    Option.bind (aldI h2 0 v4 ((80 : Int32) + a1)) fun v5 =>
    Option.bind (getR h2 1 0 (some this)) fun v6 =>
    Option.bind (astI h2 v6 ((80 : Int32) + a1) (1 : Int32)) fun h7 =>
    Option.bind (getR h7 1 0 (some this)) fun v8 =>
    Option.bind (getR h7 1 0 (some this)) fun v9 =>
    Option.bind (F_X4_carries v8 (0 : Int32) v9 ((16 : Int32) + ((16 : Int32) * a1)) h7) fun h10 =>
    Option.bind (isO h10 1 (some this)) fun ob11 =>
    b2 (F_X4_ends ob11 v5 h10) fun v13 h12 =>
    some ((if v13 = (1 : Int32) then (1 : Int32) else (0 : Int32)), h12)
  )
set_option maxHeartbeats 4000000 in
theorem w_X4_store (l : Launch) (hl : l.stackTraces = false) (D : va_G) (dA : Nat → ClassId) (h0 : HH) (this : Nat) (a1 : Int32) (rE : Int32) (hE : HH) (hF : F_X4_store this a1 h0 = some (rE, hE)) : MC D dA l yX4_store cX4_store 3 (Option.some Jvm.ClassFile.FieldType.boolean) [] 3 66 [va_rf (some this), .int a1] h0 (.inr (some (.int rE)), hE) := by
  refine mc_of hl (plainFor_of_name pn_X4) (by simp [lg_sl, cat_rf, cat_i, cat_j, cat_f, cat_d]) ?_
  intro p e s m args below meth c R hRf hRl X hr hnm
  unfold F_X4_store at hF
  rw [show argL [va_rf (some this), .int a1] = [some (va_rf (some this)), some (.int a1)] from by simp [argL, cat_rf, cat_i, cat_j, cat_f, cat_d]]
  refine G.pad 1 (L' := [some (va_rf (some this)), some (.int a1), none]) rfl ?_
  refine g_aload_n X dX4_store_0 rfl rfl ?_
  obtain ⟨ob1, eob1, hF⟩ := bnd hF
  obtain ⟨h2, eh2, hF⟩ := bnd hF
  refine g_callV X eob1 rfl rfl (w_X4_begins l hl D dA h0 ob1  h2 eh2) q1859 q1861 qs31 q103 q1862 okn_X4_begins ⟨by rw [hRf]; exact Nat.le_of_ble_eq_true rfl, by rw [hRl]; exact Nat.le_of_ble_eq_true rfl⟩ (As := []) (rest := []) rfl (by first | exact Nat.le_of_ble_eq_true rfl | simp [cat_rf, cat_i, cat_j, cat_f, cat_d]) dX4_store_1 (ac_0 ?_)
  refine g_iload_n X dX4_store_4 rfl rfl ?_
  refine g_callS X (w_X4_isSlot l hl D dA h2 a1) q2019 q2020 q103 q2021 okn_X4_isSlot ⟨by rw [hRf]; exact Nat.le_of_ble_eq_true rfl, by rw [hRl]; exact Nat.le_of_ble_eq_true rfl⟩ (As := [.int a1]) (rest := []) rfl (by first | exact Nat.le_of_ble_eq_true rfl | simp [cat_rf, cat_i, cat_j, cat_f, cat_d]) dX4_store_5 (ac_v ?_)
  refine g_if_ne X 26 dX4_store_8 (by decide) (fun c3 => ?_) (fun c3 => ?_)
  · have hF := (if_neg c3).symm.trans hF
    refine g_aload_n X dX4_store_26 rfl rfl ?_
    obtain ⟨v4, ev4, hF⟩ := bnd hF
    refine g_get (k := 0) X in_X4 rfl (by decide) q1763 (Or.inl rfl) (getR_V ev4) dX4_store_27 ?_
    refine g_bipush (v := (80 : Int32)) X dX4_store_30 (by decide) ?_
    refine g_iload_n X dX4_store_32 rfl rfl ?_
    refine g_iadd X dX4_store_33 ?_
    obtain ⟨v5, ev5, hF⟩ := bnd hF
    refine g_iald X ev5 dX4_store_34 ?_
    refine g_istore_n (L' := [some (va_rf (some this)), some (.int a1), some (.int v5)]) X dX4_store_35 rfl (Nat.le_of_ble_eq_true rfl) (by first | rfl | simp [stL, rm1, clr2, cat_rf, cat_i, cat_j, cat_f, cat_d]) ?_
    refine g_aload_n X dX4_store_36 rfl rfl ?_
    obtain ⟨v6, ev6, hF⟩ := bnd hF
    refine g_get (k := 0) X in_X4 rfl (by decide) q1763 (Or.inl rfl) (getR_V ev6) dX4_store_37 ?_
    refine g_bipush (v := (80 : Int32)) X dX4_store_40 (by decide) ?_
    refine g_iload_n X dX4_store_42 rfl rfl ?_
    refine g_iadd X dX4_store_43 ?_
    refine g_iconst (v := (1 : Int32)) X dX4_store_44 (by decide) ?_
    obtain ⟨h7, eh7, hF⟩ := bnd hF
    refine g_iast X eh7 dX4_store_45 ?_
    refine g_aload_n X dX4_store_46 rfl rfl ?_
    obtain ⟨v8, ev8, hF⟩ := bnd hF
    refine g_get (k := 0) X in_X4 rfl (by decide) q1763 (Or.inl rfl) (getR_V ev8) dX4_store_47 ?_
    refine g_iconst (v := (0 : Int32)) X dX4_store_50 (by decide) ?_
    refine g_aload_n X dX4_store_51 rfl rfl ?_
    obtain ⟨v9, ev9, hF⟩ := bnd hF
    refine g_get (k := 0) X in_X4 rfl (by decide) q1763 (Or.inl rfl) (getR_V ev9) dX4_store_52 ?_
    refine g_bipush (v := (16 : Int32)) X dX4_store_55 (by decide) ?_
    refine g_bipush (v := (16 : Int32)) X dX4_store_57 (by decide) ?_
    refine g_iload_n X dX4_store_59 rfl rfl ?_
    refine g_imul X dX4_store_60 ?_
    refine g_iadd X dX4_store_61 ?_
    obtain ⟨h10, eh10, hF⟩ := bnd hF
    refine g_callS X (w_X4_carries l hl D dA h7 v8 (0 : Int32) v9 ((16 : Int32) + ((16 : Int32) * a1)) h10 eh10) q1884 q1885 q103 q1886 okn_X4_carries ⟨by rw [hRf]; exact Nat.le_of_ble_eq_true rfl, by rw [hRl]; exact Nat.le_of_ble_eq_true rfl⟩ (As := [va_rf v8, .int (0 : Int32), va_rf v9, .int ((16 : Int32) + ((16 : Int32) * a1))]) (rest := []) rfl (by first | exact Nat.le_of_ble_eq_true rfl | simp [cat_rf, cat_i, cat_j, cat_f, cat_d]) dX4_store_62 (ac_0 ?_)
    refine g_aload_n X dX4_store_65 rfl rfl ?_
    refine g_iload_n X dX4_store_66 rfl rfl ?_
    obtain ⟨ob11, eob11, hF⟩ := bnd hF
    obtain ⟨v13, h12, eh12, hF⟩ := b2_some hF
    refine g_callV X eob11 rfl rfl (w_X4_ends l hl D dA h10 ob11 v5 v13 h12 eh12) q1896 q1898 qs35 q103 q1899 okn_X4_ends ⟨by rw [hRf]; exact Nat.le_of_ble_eq_true rfl, by rw [hRl]; exact Nat.le_of_ble_eq_true rfl⟩ (As := [.int v5]) (rest := []) rfl (by first | exact Nat.le_of_ble_eq_true rfl | simp [cat_rf, cat_i, cat_j, cat_f, cat_d]) dX4_store_67 (ac_v ?_)
    refine g_iconst (v := (1 : Int32)) X dX4_store_70 (by decide) ?_
    suffices K : G p l e R s m args below meth c (RQ D dA h0 (.inr (some (.int rE)), hE) below s) D dA h0 3 h12 79 [none, none, none] [.int (if v13 = (1 : Int32) then (1 : Int32) else (0 : Int32))] by
      refine g_icmp_ne X 78 dX4_store_71 (by decide) (fun c14 => ?_) (fun c14 => ?_)
      · (try simp only [if_neg c14] at K)
        refine g_iconst (v := (0 : Int32)) X dX4_store_78 (by decide) ?_
        refine G.drop [false, false, false] rfl ?_
        first | exact K | (simp only [if_neg c14]; exact K)
      · (try simp only [if_pos c14] at K)
        refine g_iconst (v := (1 : Int32)) X dX4_store_74 (by decide) ?_
        refine g_goto X 79 dX4_store_75 (by decide) ?_
        refine G.drop [false, false, false] rfl ?_
        first | exact K | (simp only [if_pos c14]; exact K)
    cases hF
    exact g_zret X hr (by (repeat' split) <;> rfl) dX4_store_79
  · have hF := (if_pos c3).symm.trans hF
    refine g_aload_n X dX4_store_11 rfl rfl ?_
    refine g_iconst (v := (1 : Int32)) X dX4_store_12 (by decide) ?_
    obtain ⟨ob15, eob15, hF⟩ := bnd hF
    obtain ⟨v17, h16, eh16, hF⟩ := b2_some hF
    refine g_callV X eob15 rfl rfl (w_X4_fails l hl D dA h2 ob15 (1 : Int32) v17 h16 eh16) q1900 q1902 qs36 q103 q1903 okn_X4_fails ⟨by rw [hRf]; exact Nat.le_of_ble_eq_true rfl, by rw [hRl]; exact Nat.le_of_ble_eq_true rfl⟩ (As := [.int (1 : Int32)]) (rest := []) rfl (by first | exact Nat.le_of_ble_eq_true rfl | simp [cat_rf, cat_i, cat_j, cat_f, cat_d]) dX4_store_13 (ac_v ?_)
    refine g_iconst (v := (1 : Int32)) X dX4_store_16 (by decide) ?_
    suffices K : G p l e R s m args below meth c (RQ D dA h0 (.inr (some (.int rE)), hE) below s) D dA h0 3 h16 25 [none, none, none] [.int (if v17 = (1 : Int32) then (1 : Int32) else (0 : Int32))] by
      refine g_icmp_ne X 24 dX4_store_17 (by decide) (fun c18 => ?_) (fun c18 => ?_)
      · (try simp only [if_neg c18] at K)
        refine g_iconst (v := (0 : Int32)) X dX4_store_24 (by decide) ?_
        refine G.drop [false, false, false] rfl ?_
        first | exact K | (simp only [if_neg c18]; exact K)
      · (try simp only [if_pos c18] at K)
        refine g_iconst (v := (1 : Int32)) X dX4_store_20 (by decide) ?_
        refine g_goto X 25 dX4_store_21 (by decide) ?_
        refine G.drop [false, false, false] rfl ?_
        first | exact K | (simp only [if_pos c18]; exact K)
    cases hF
    exact g_zret X hr (by (repeat' split) <;> rfl) dX4_store_25
def F_X4_hasZone (this : Nat) (a1 : Int32) (h0 : HH) : Option Int32 :=
  Option.bind (getR h0 1 0 (some this)) fun v1 =>
  Option.bind (aldI h0 0 v1 ((80 : Int32) + a1)) fun v2 =>
  some (if v2 = (1 : Int32) then (1 : Int32) else (0 : Int32))
set_option maxHeartbeats 4000000 in
theorem w_X4_hasZone (l : Launch) (hl : l.stackTraces = false) (D : va_G) (dA : Nat → ClassId) (h0 : HH) (this : Nat) (a1 : Int32) (rE : Int32) (hF : F_X4_hasZone this a1 h0 = some rE) : MC D dA l yX4_hasZone cX4_hasZone 2 (Option.some Jvm.ClassFile.FieldType.boolean) [] 0 0 [va_rf (some this), .int a1] h0 (.inr (some (.int rE)), h0) := by
  refine mc_of hl (plainFor_of_name pn_X4) (by simp [lg_sl, cat_rf, cat_i, cat_j, cat_f, cat_d]) ?_
  intro p e s m args below meth c R hRf hRl X hr hnm
  unfold F_X4_hasZone at hF
  rw [show argL [va_rf (some this), .int a1] = [some (va_rf (some this)), some (.int a1)] from by simp [argL, cat_rf, cat_i, cat_j, cat_f, cat_d]]
  refine g_aload_n X dX4_hasZone_0 rfl rfl ?_
  obtain ⟨v1, ev1, hF⟩ := bnd hF
  refine g_get (k := 0) X in_X4 rfl (by decide) q1763 (Or.inl rfl) (getR_V ev1) dX4_hasZone_1 ?_
  refine g_bipush (v := (80 : Int32)) X dX4_hasZone_4 (by decide) ?_
  refine g_iload_n X dX4_hasZone_6 rfl rfl ?_
  refine g_iadd X dX4_hasZone_7 ?_
  obtain ⟨v2, ev2, hF⟩ := bnd hF
  refine g_iald X ev2 dX4_hasZone_8 ?_
  refine g_iconst (v := (1 : Int32)) X dX4_hasZone_9 (by decide) ?_
  suffices K : G p l e R s m args below meth c (RQ D dA h0 (.inr (some (.int rE)), h0) below s) D dA h0 2 h0 18 [none, none] [.int (if v2 = (1 : Int32) then (1 : Int32) else (0 : Int32))] by
    refine g_icmp_ne X 17 dX4_hasZone_10 (by decide) (fun c3 => ?_) (fun c3 => ?_)
    · (try simp only [if_neg c3] at K)
      refine g_iconst (v := (0 : Int32)) X dX4_hasZone_17 (by decide) ?_
      refine G.drop [false, false] rfl ?_
      first | exact K | (simp only [if_neg c3]; exact K)
    · (try simp only [if_pos c3] at K)
      refine g_iconst (v := (1 : Int32)) X dX4_hasZone_13 (by decide) ?_
      refine g_goto X 18 dX4_hasZone_14 (by decide) ?_
      refine G.drop [false, false] rfl ?_
      first | exact K | (simp only [if_pos c3]; exact K)
  cases hF
  exact g_zret X hr (by (repeat' split) <;> rfl) dX4_hasZone_18
def F_X4_meet_B33 (this : Nat) (a1 : Int32) (x2_7 : Int32) (h_7 : HH) : Option ((Int32 × HH) ⊕ HH) :=
  if (16 : Int32) ≤ x2_7 then (
    some (.inr h_7)
  ) else (
    Option.bind (getR h_7 1 0 (some this)) fun v9 =>
    Option.bind (getR h_7 1 0 (some this)) fun v10 =>
    Option.bind (aldI h_7 0 v10 ((0 : Int32) + x2_7)) fun v11 =>
    Option.bind (getR h_7 1 0 (some this)) fun v12 =>
    Option.bind (aldI h_7 0 v12 (((16 : Int32) + ((16 : Int32) * a1)) + x2_7)) fun v13 =>
    Option.bind (astI h_7 v9 ((0 : Int32) + x2_7) (F_X4_less v11 v13)) fun h14 =>
    some (.inl ((x2_7 + (1 : Int32)), h14))
  )
def F_X4_meet (this : Nat) (a1 : Int32) (h0 : HH) : Option (Int32 × HH) :=
  Option.bind (isO h0 1 (some this)) fun ob1 =>
  Option.bind (F_X4_begins ob1 h0) fun h2 =>
  if (F_X4_isSlot a1) = 0 then (
    Option.bind (isO h2 1 (some this)) fun ob33 =>
    b2 (F_X4_fails ob33 (1 : Int32) h2) fun v35 h34 =>
    some (v35, h34)
  ) else (
    Option.bind (isO h2 1 (some this)) fun ob4 =>
    Option.bind (F_X4_hasZone ob4 a1 h2) fun v5 =>
    if v5 = 0 then (
      Option.bind (isO h2 1 (some this)) fun ob30 =>
      b2 (F_X4_fails ob30 (2 : Int32) h2) fun v32 h31 =>
      some (v32, h31)
    ) else (
      Option.bind (lp (fun z => F_X4_meet_B33 this a1 z.1 z.2) 100000 ((0 : Int32), h2)) fun h15 =>
      Option.bind (isO h15 1 (some this)) fun ob16 =>
      b2 (F_X4_isTooLate ob16 h15) fun v18 h17 =>
      if v18 = 0 then (
        Option.bind (isO h17 1 (some this)) fun ob20 =>
        Option.bind (F_X4_changed ob20 h17) fun v21 =>
        Option.bind (isO h17 1 (some this)) fun ob22 =>
        b2 (F_X4_ends ob22 v21 h17) fun v24 h23 =>
        some (v24, h23)
      ) else (
        Option.bind (isO h17 1 (some this)) fun ob25 =>
        b2 (F_X4_ends ob25 (-12 : Int32) h17) fun v27 h26 =>
        some (v27, h26)
      )
    )
  )
set_option maxHeartbeats 4000000 in
theorem w_X4_meet (l : Launch) (hl : l.stackTraces = false) (D : va_G) (dA : Nat → ClassId) (h0 : HH) (this : Nat) (a1 : Int32) (rE : Int32) (hE : HH) (hF : F_X4_meet this a1 h0 = some (rE, hE)) : MC D dA l yX4_meet cX4_meet 3 (Option.some Jvm.ClassFile.FieldType.int) [] 4 89 [va_rf (some this), .int a1] h0 (.inr (some (.int rE)), hE) := by
  refine mc_of hl (plainFor_of_name pn_X4) (by simp [lg_sl, cat_rf, cat_i, cat_j, cat_f, cat_d]) ?_
  intro p e s m args below meth c R hRf hRl X hr hnm
  unfold F_X4_meet at hF
  rw [show argL [va_rf (some this), .int a1] = [some (va_rf (some this)), some (.int a1)] from by simp [argL, cat_rf, cat_i, cat_j, cat_f, cat_d]]
  refine G.pad 1 (L' := [some (va_rf (some this)), some (.int a1), none]) rfl ?_
  refine g_aload_n X dX4_meet_0 rfl rfl ?_
  obtain ⟨ob1, eob1, hF⟩ := bnd hF
  obtain ⟨h2, eh2, hF⟩ := bnd hF
  refine g_callV X eob1 rfl rfl (w_X4_begins l hl D dA h0 ob1  h2 eh2) q1859 q1861 qs31 q103 q1862 okn_X4_begins ⟨by rw [hRf]; exact Nat.le_of_ble_eq_true rfl, by rw [hRl]; exact Nat.le_of_ble_eq_true rfl⟩ (As := []) (rest := []) rfl (by first | exact Nat.le_of_ble_eq_true rfl | simp [cat_rf, cat_i, cat_j, cat_f, cat_d]) dX4_meet_1 (ac_0 ?_)
  refine g_iload_n X dX4_meet_4 rfl rfl ?_
  refine g_callS X (w_X4_isSlot l hl D dA h2 a1) q2019 q2020 q103 q2021 okn_X4_isSlot ⟨by rw [hRf]; exact Nat.le_of_ble_eq_true rfl, by rw [hRl]; exact Nat.le_of_ble_eq_true rfl⟩ (As := [.int a1]) (rest := []) rfl (by first | exact Nat.le_of_ble_eq_true rfl | simp [cat_rf, cat_i, cat_j, cat_f, cat_d]) dX4_meet_5 (ac_v ?_)
  refine g_if_ne X 17 dX4_meet_8 (by decide) (fun c3 => ?_) (fun c3 => ?_)
  · have hF := (if_neg c3).symm.trans hF
    refine g_aload_n X dX4_meet_17 rfl rfl ?_
    refine g_iload_n X dX4_meet_18 rfl rfl ?_
    obtain ⟨ob4, eob4, hF⟩ := bnd hF
    obtain ⟨v5, ev5, hF⟩ := bnd hF
    refine g_callV X eob4 rfl rfl (w_X4_hasZone l hl D dA h2 ob4 a1 v5 ev5) q2026 q2028 qs55 q103 q2029 okn_X4_hasZone ⟨by rw [hRf]; exact Nat.le_of_ble_eq_true rfl, by rw [hRl]; exact Nat.le_of_ble_eq_true rfl⟩ (As := [.int a1]) (rest := []) rfl (by first | exact Nat.le_of_ble_eq_true rfl | simp [cat_rf, cat_i, cat_j, cat_f, cat_d]) dX4_meet_19 (ac_v ?_)
    refine g_if_ne X 31 dX4_meet_22 (by decide) (fun c6 => ?_) (fun c6 => ?_)
    · have hF := (if_neg c6).symm.trans hF
      refine g_iconst (v := (0 : Int32)) X dX4_meet_31 (by decide) ?_
      refine g_istore_n (L' := [some (va_rf (some this)), some (.int a1), some (.int (0 : Int32))]) X dX4_meet_32 rfl (Nat.le_of_ble_eq_true rfl) (by first | rfl | simp [stL, rm1, clr2, cat_rf, cat_i, cat_j, cat_f, cat_d]) ?_
      obtain ⟨h15, e28, hF⟩ := bnd hF
      refine lp_ind (Gs := (fun z => G p l e R s m args below meth c (RQ D dA h0 (.inr (some (.int rE)), hE) below s) D dA h0 3 z.2 33 [some (va_rf (some this)), some (.int a1), some (.int z.1)] [])) (Ge := (fun z => G p l e R s m args below meth c (RQ D dA h0 (.inr (some (.int rE)), hE) below s) D dA h0 3 z 78 [some (va_rf (some this)), none, none] [])) ?_ _ _ _ e28 ?_
      · rintro ⟨x2_7, h_7⟩ o hF hgo hr
        change F_X4_meet_B33 this a1 x2_7 h_7 = some o at hF
        unfold F_X4_meet_B33 at hF
        show G p l e R s m args below meth c (RQ D dA h0 (.inr (some (.int rE)), hE) below s) D dA h0 3 h_7 33 [some (va_rf (some this)), some (.int a1), some (.int x2_7)] []
        refine g_iload_n X dX4_meet_33 rfl rfl ?_
        refine g_bipush (v := (16 : Int32)) X dX4_meet_34 (by decide) ?_
        refine g_icmp_ge X 78 dX4_meet_36 (by decide) (fun c8 => ?_) (fun c8 => ?_)
        · have hF := (if_pos c8).symm.trans hF
          refine G.drop [true, false, false] rfl ?_
          cases hF
          exact hr _ rfl
        · have hF := (if_neg c8).symm.trans hF
          refine g_aload_n X dX4_meet_39 rfl rfl ?_
          obtain ⟨v9, ev9, hF⟩ := bnd hF
          refine g_get (k := 0) X in_X4 rfl (by decide) q1763 (Or.inl rfl) (getR_V ev9) dX4_meet_40 ?_
          refine g_iconst (v := (0 : Int32)) X dX4_meet_43 (by decide) ?_
          refine g_iload_n X dX4_meet_44 rfl rfl ?_
          refine g_iadd X dX4_meet_45 ?_
          refine g_aload_n X dX4_meet_46 rfl rfl ?_
          obtain ⟨v10, ev10, hF⟩ := bnd hF
          refine g_get (k := 0) X in_X4 rfl (by decide) q1763 (Or.inl rfl) (getR_V ev10) dX4_meet_47 ?_
          refine g_iconst (v := (0 : Int32)) X dX4_meet_50 (by decide) ?_
          refine g_iload_n X dX4_meet_51 rfl rfl ?_
          refine g_iadd X dX4_meet_52 ?_
          obtain ⟨v11, ev11, hF⟩ := bnd hF
          refine g_iald X ev11 dX4_meet_53 ?_
          refine g_aload_n X dX4_meet_54 rfl rfl ?_
          obtain ⟨v12, ev12, hF⟩ := bnd hF
          refine g_get (k := 0) X in_X4 rfl (by decide) q1763 (Or.inl rfl) (getR_V ev12) dX4_meet_55 ?_
          refine g_bipush (v := (16 : Int32)) X dX4_meet_58 (by decide) ?_
          refine g_bipush (v := (16 : Int32)) X dX4_meet_60 (by decide) ?_
          refine g_iload_n X dX4_meet_62 rfl rfl ?_
          refine g_imul X dX4_meet_63 ?_
          refine g_iadd X dX4_meet_64 ?_
          refine g_iload_n X dX4_meet_65 rfl rfl ?_
          refine g_iadd X dX4_meet_66 ?_
          obtain ⟨v13, ev13, hF⟩ := bnd hF
          refine g_iald X ev13 dX4_meet_67 ?_
          refine g_callS X (w_X4_less l hl D dA h_7 v11 v13) q1893 q1894 q103 q1895 okn_X4_less ⟨by rw [hRf]; exact Nat.le_of_ble_eq_true rfl, by rw [hRl]; exact Nat.le_of_ble_eq_true rfl⟩ (As := [.int v11, .int v13]) (rest := [.int ((0 : Int32) + x2_7), va_rf v9]) rfl (by first | exact Nat.le_of_ble_eq_true rfl | simp [cat_rf, cat_i, cat_j, cat_f, cat_d]) dX4_meet_68 (ac_v ?_)
          obtain ⟨h14, eh14, hF⟩ := bnd hF
          refine g_iast X eh14 dX4_meet_71 ?_
          refine g_iinc (v := (x2_7 + (1 : Int32))) (L' := [some (va_rf (some this)), some (.int a1), some (.int (x2_7 + (1 : Int32)))]) X dX4_meet_72 (Nat.le_of_ble_eq_true rfl) rfl rfl (by first | rfl | simp [stL, rm1, clr2, cat_rf, cat_i, cat_j, cat_f, cat_d]) ?_
          refine g_goto X 33 dX4_meet_75 (by decide) ?_
          cases hF
          exact hgo _ rfl
      show G p l e R s m args below meth c (RQ D dA h0 (.inr (some (.int rE)), hE) below s) D dA h0 3 h15 78 [some (va_rf (some this)), none, none] []
      refine g_aload_n X dX4_meet_78 rfl rfl ?_
      refine g_aload_n X dX4_meet_79 rfl rfl ?_
      obtain ⟨ob16, eob16, hF⟩ := bnd hF
      obtain ⟨v18, h17, eh17, hF⟩ := b2_some hF
      refine g_callV X eob16 rfl rfl (w_X4_isTooLate l hl D dA h15 ob16  v18 h17 eh17) q1876 q1878 qs33 q103 q1879 okn_X4_isTooLate ⟨by rw [hRf]; exact Nat.le_of_ble_eq_true rfl, by rw [hRl]; exact Nat.le_of_ble_eq_true rfl⟩ (As := []) (rest := [va_rf (some this)]) rfl (by first | exact Nat.le_of_ble_eq_true rfl | simp [cat_rf, cat_i, cat_j, cat_f, cat_d]) dX4_meet_80 (ac_v ?_)
      refine g_if_eq X 91 dX4_meet_83 (by decide) (fun c19 => ?_) (fun c19 => ?_)
      · have hF := (if_pos c19).symm.trans hF
        refine g_aload_n X dX4_meet_91 rfl rfl ?_
        obtain ⟨ob20, eob20, hF⟩ := bnd hF
        obtain ⟨v21, ev21, hF⟩ := bnd hF
        refine g_callV X eob20 rfl rfl (w_X4_changed l hl D dA h17 ob20  v21 ev21) q1920 q1922 qs39 q103 q1923 okn_X4_changed ⟨by rw [hRf]; exact Nat.le_of_ble_eq_true rfl, by rw [hRl]; exact Nat.le_of_ble_eq_true rfl⟩ (As := []) (rest := [va_rf (some this)]) rfl (by first | exact Nat.le_of_ble_eq_true rfl | simp [cat_rf, cat_i, cat_j, cat_f, cat_d]) dX4_meet_92 (ac_v ?_)
        obtain ⟨ob22, eob22, hF⟩ := bnd hF
        obtain ⟨v24, h23, eh23, hF⟩ := b2_some hF
        refine g_callV X eob22 rfl rfl (w_X4_ends l hl D dA h17 ob22 v21 v24 h23 eh23) q1896 q1898 qs35 q103 q1899 okn_X4_ends ⟨by rw [hRf]; exact Nat.le_of_ble_eq_true rfl, by rw [hRl]; exact Nat.le_of_ble_eq_true rfl⟩ (As := [.int v21]) (rest := []) rfl (by first | exact Nat.le_of_ble_eq_true rfl | simp [cat_rf, cat_i, cat_j, cat_f, cat_d]) dX4_meet_95 (ac_v ?_)
        cases hF
        exact g_iret X hr dX4_meet_98
      · have hF := (if_neg c19).symm.trans hF
        refine g_bipush (v := (-12 : Int32)) X dX4_meet_86 (by decide) ?_
        refine g_goto X 95 dX4_meet_88 (by decide) ?_
        obtain ⟨ob25, eob25, hF⟩ := bnd hF
        obtain ⟨v27, h26, eh26, hF⟩ := b2_some hF
        refine g_callV X eob25 rfl rfl (w_X4_ends l hl D dA h17 ob25 (-12 : Int32) v27 h26 eh26) q1896 q1898 qs35 q103 q1899 okn_X4_ends ⟨by rw [hRf]; exact Nat.le_of_ble_eq_true rfl, by rw [hRl]; exact Nat.le_of_ble_eq_true rfl⟩ (As := [.int (-12 : Int32)]) (rest := []) rfl (by first | exact Nat.le_of_ble_eq_true rfl | simp [cat_rf, cat_i, cat_j, cat_f, cat_d]) dX4_meet_95 (ac_v ?_)
        cases hF
        exact g_iret X hr dX4_meet_98
    · have hF := (if_pos c6).symm.trans hF
      refine g_aload_n X dX4_meet_25 rfl rfl ?_
      refine g_iconst (v := (2 : Int32)) X dX4_meet_26 (by decide) ?_
      obtain ⟨ob30, eob30, hF⟩ := bnd hF
      obtain ⟨v32, h31, eh31, hF⟩ := b2_some hF
      refine g_callV X eob30 rfl rfl (w_X4_fails l hl D dA h2 ob30 (2 : Int32) v32 h31 eh31) q1900 q1902 qs36 q103 q1903 okn_X4_fails ⟨by rw [hRf]; exact Nat.le_of_ble_eq_true rfl, by rw [hRl]; exact Nat.le_of_ble_eq_true rfl⟩ (As := [.int (2 : Int32)]) (rest := []) rfl (by first | exact Nat.le_of_ble_eq_true rfl | simp [cat_rf, cat_i, cat_j, cat_f, cat_d]) dX4_meet_27 (ac_v ?_)
      cases hF
      exact g_iret X hr dX4_meet_30
  · have hF := (if_pos c3).symm.trans hF
    refine g_aload_n X dX4_meet_11 rfl rfl ?_
    refine g_iconst (v := (1 : Int32)) X dX4_meet_12 (by decide) ?_
    obtain ⟨ob33, eob33, hF⟩ := bnd hF
    obtain ⟨v35, h34, eh34, hF⟩ := b2_some hF
    refine g_callV X eob33 rfl rfl (w_X4_fails l hl D dA h2 ob33 (1 : Int32) v35 h34 eh34) q1900 q1902 qs36 q103 q1903 okn_X4_fails ⟨by rw [hRf]; exact Nat.le_of_ble_eq_true rfl, by rw [hRl]; exact Nat.le_of_ble_eq_true rfl⟩ (As := [.int (1 : Int32)]) (rest := []) rfl (by first | exact Nat.le_of_ble_eq_true rfl | simp [cat_rf, cat_i, cat_j, cat_f, cat_d]) dX4_meet_13 (ac_v ?_)
    cases hF
    exact g_iret X hr dX4_meet_16
def F_X4_looksAt (this : Nat) (a1 : Int32) (h0 : HH) : Option (Int32 × HH) :=
  Option.bind (getR h0 1 0 (some this)) fun v1 =>
  Option.bind (getR h0 1 10 (some this)) fun v2 =>
  Option.bind (F_X4_carries v1 ((16 : Int32) + ((16 : Int32) * a1)) v2 (0 : Int32) h0) fun h3 =>
  Option.bind (getR h3 1 10 (some this)) fun v4 =>
  b2 (F_X4_tightens v4 (0 : Int32) h3) fun v6 h5 =>
  Option.bind (okZ v6) fun _ =>
  some (v6, h5)
set_option maxHeartbeats 4000000 in
theorem w_X4_looksAt (l : Launch) (hl : l.stackTraces = false) (D : va_G) (dA : Nat → ClassId) (h0 : HH) (this : Nat) (a1 : Int32) (rE : Int32) (hE : HH) (hF : F_X4_looksAt this a1 h0 = some (rE, hE)) : MC D dA l yX4_looksAt cX4_looksAt 2 (Option.some Jvm.ClassFile.FieldType.boolean) [] 2 46 [va_rf (some this), .int a1] h0 (.inr (some (.int rE)), hE) := by
  refine mc_of hl (plainFor_of_name pn_X4) (by simp [lg_sl, cat_rf, cat_i, cat_j, cat_f, cat_d]) ?_
  intro p e s m args below meth c R hRf hRl X hr hnm
  unfold F_X4_looksAt at hF
  rw [show argL [va_rf (some this), .int a1] = [some (va_rf (some this)), some (.int a1)] from by simp [argL, cat_rf, cat_i, cat_j, cat_f, cat_d]]
  refine g_aload_n X dX4_looksAt_0 rfl rfl ?_
  obtain ⟨v1, ev1, hF⟩ := bnd hF
  refine g_get (k := 0) X in_X4 rfl (by decide) q1763 (Or.inl rfl) (getR_V ev1) dX4_looksAt_1 ?_
  refine g_bipush (v := (16 : Int32)) X dX4_looksAt_4 (by decide) ?_
  refine g_bipush (v := (16 : Int32)) X dX4_looksAt_6 (by decide) ?_
  refine g_iload_n X dX4_looksAt_8 rfl rfl ?_
  refine g_imul X dX4_looksAt_9 ?_
  refine g_iadd X dX4_looksAt_10 ?_
  refine g_aload_n X dX4_looksAt_11 rfl rfl ?_
  obtain ⟨v2, ev2, hF⟩ := bnd hF
  refine g_get (k := 10) X in_X4 rfl (by decide) q1773 (Or.inl rfl) (getR_V ev2) dX4_looksAt_12 ?_
  refine g_iconst (v := (0 : Int32)) X dX4_looksAt_15 (by decide) ?_
  obtain ⟨h3, eh3, hF⟩ := bnd hF
  refine g_callS X (w_X4_carries l hl D dA h0 v1 ((16 : Int32) + ((16 : Int32) * a1)) v2 (0 : Int32) h3 eh3) q1884 q1885 q103 q1886 okn_X4_carries ⟨by rw [hRf]; exact Nat.le_of_ble_eq_true rfl, by rw [hRl]; exact Nat.le_of_ble_eq_true rfl⟩ (As := [va_rf v1, .int ((16 : Int32) + ((16 : Int32) * a1)), va_rf v2, .int (0 : Int32)]) (rest := []) rfl (by first | exact Nat.le_of_ble_eq_true rfl | simp [cat_rf, cat_i, cat_j, cat_f, cat_d]) dX4_looksAt_16 (ac_0 ?_)
  refine g_aload_n X dX4_looksAt_19 rfl rfl ?_
  obtain ⟨v4, ev4, hF⟩ := bnd hF
  refine g_get (k := 10) X in_X4 rfl (by decide) q1773 (Or.inl rfl) (getR_V ev4) dX4_looksAt_20 ?_
  refine g_iconst (v := (0 : Int32)) X dX4_looksAt_23 (by decide) ?_
  obtain ⟨v6, h5, eh5, hF⟩ := b2_some hF
  refine g_callS X (w_X4_tightens l hl D dA h3 v4 (0 : Int32) v6 h5 eh5) q1887 q1888 q103 q1889 okn_X4_tightens ⟨by rw [hRf]; exact Nat.le_of_ble_eq_true rfl, by rw [hRl]; exact Nat.le_of_ble_eq_true rfl⟩ (As := [va_rf v4, .int (0 : Int32)]) (rest := []) rfl (by first | exact Nat.le_of_ble_eq_true rfl | simp [cat_rf, cat_i, cat_j, cat_f, cat_d]) dX4_looksAt_24 (ac_v ?_)
  obtain ⟨_, z7, hF⟩ := bnd hF
  cases hF
  exact g_zret X hr (narZ z7) dX4_looksAt_27
def F_X4_more (a1 : Int32) (a2 : Int32) : Int32 :=
  (if a2 ≤ a1 then a1 else a2)
set_option maxHeartbeats 4000000 in
theorem w_X4_more (l : Launch) (hl : l.stackTraces = false) (D : va_G) (dA : Nat → ClassId) (h0 : HH) (a1 : Int32) (a2 : Int32) : MC D dA l yX4_more cX4_more 2 (Option.some Jvm.ClassFile.FieldType.int) [] 0 0 [.int a1, .int a2] h0 (.inr (some (.int (F_X4_more a1 a2))), h0) := by
  refine mc_of hl (plainFor_of_name pn_X4) (by simp [lg_sl, cat_rf, cat_i, cat_j, cat_f, cat_d]) ?_
  intro p e s m args below meth c R hRf hRl X hr hnm
  generalize hF : F_X4_more a1 a2 = rE
  unfold F_X4_more at hF
  rw [show argL [.int a1, .int a2] = [some (.int a1), some (.int a2)] from by simp [argL, cat_rf, cat_i, cat_j, cat_f, cat_d]]
  refine g_iload_n X dX4_more_0 rfl rfl ?_
  refine g_iload_n X dX4_more_1 rfl rfl ?_
  suffices K : G p l e R s m args below meth c (RQ D dA h0 (.inr (some (.int rE)), h0) below s) D dA h0 2 h0 10 [none, none] [.int (if a2 ≤ a1 then a1 else a2)] by
    refine g_icmp_ge X 9 dX4_more_2 (by decide) (fun c1 => ?_) (fun c1 => ?_)
    · (try simp only [if_pos c1] at K)
      refine g_iload_n X dX4_more_9 rfl rfl ?_
      refine G.drop [false, false] rfl ?_
      first | exact K | (simp only [if_pos c1]; exact K)
    · (try simp only [if_neg c1] at K)
      refine g_iload_n X dX4_more_5 rfl rfl ?_
      refine g_goto X 10 dX4_more_6 (by decide) ?_
      refine G.drop [false, false] rfl ?_
      first | exact K | (simp only [if_neg c1]; exact K)
  cases hF
  exact g_iret X hr dX4_more_10
def F_X4_wrap_B58 (this : Nat) (a1 : Int32) (y0_45 : Int32) (x3_7 : Int32) (h_7 : HH) : Option ((Int32 × HH) ⊕ HH) :=
  if (16 : Int32) ≤ x3_7 then (
    some (.inr h_7)
  ) else (
    Option.bind (getR h_7 1 0 (some this)) fun v9 =>
    Option.bind (getR h_7 1 9 (some this)) fun v10 =>
    Option.bind (aldI h_7 0 v10 x3_7) fun v11 =>
    Option.bind (getR h_7 1 10 (some this)) fun v12 =>
    Option.bind (aldI h_7 0 v12 x3_7) fun v13 =>
    Option.bind (astI h_7 v9 ((0 : Int32) + x3_7) (F_X4_more v11 v13)) fun h14 =>
    some (.inl ((x3_7 + (1 : Int32)), h14))
  )
def F_X4_wrap_T45 (this : Nat) (a1 : Int32) (y0_45 : Int32) (h_45 : HH) : Option (Int32 × HH) :=
  if y0_45 = 0 then (
    Option.bind (isO h_45 1 (some this)) fun ob29 =>
    b2 (F_X4_fails ob29 (2 : Int32) h_45) fun v31 h30 =>
    some (v31, h30)
  ) else (
    Option.bind (lp (fun z => F_X4_wrap_B58 this a1 y0_45 z.1 z.2) 100000 ((0 : Int32), h_45)) fun h15 =>
    Option.bind (isO h15 1 (some this)) fun ob16 =>
    Option.bind (F_X4_isTooFar ob16 h15) fun v17 =>
    if v17 = 0 then (
      Option.bind (isO h15 1 (some this)) fun ob19 =>
      Option.bind (F_X4_changed ob19 h15) fun v20 =>
      Option.bind (isO h15 1 (some this)) fun ob21 =>
      b2 (F_X4_ends ob21 v20 h15) fun v23 h22 =>
      some (v23, h22)
    ) else (
      Option.bind (isO h15 1 (some this)) fun ob24 =>
      b2 (F_X4_ends ob24 (-12 : Int32) h15) fun v26 h25 =>
      some (v26, h25)
    )
  )
def F_X4_wrap (this : Nat) (a1 : Int32) (h0 : HH) : Option (Int32 × HH) :=
  Option.bind (isO h0 1 (some this)) fun ob1 =>
  Option.bind (F_X4_begins ob1 h0) fun h2 =>
  if (F_X4_isSlot a1) = 0 then (
    Option.bind (isO h2 1 (some this)) fun ob41 =>
    b2 (F_X4_fails ob41 (1 : Int32) h2) fun v43 h42 =>
    some (v43, h42)
  ) else (
    Option.bind (isO h2 1 (some this)) fun ob4 =>
    Option.bind (F_X4_hasZone ob4 a1 h2) fun v5 =>
    if v5 = 0 then (
      F_X4_wrap_T45 this a1 (0 : Int32) h2
    ) else (
      Option.bind (isO h2 1 (some this)) fun ob33 =>
      b2 (F_X4_looks ob33 h2) fun v35 h34 =>
      if v35 = 0 then (
        F_X4_wrap_T45 this a1 (0 : Int32) h34
      ) else (
        Option.bind (isO h34 1 (some this)) fun ob37 =>
        b2 (F_X4_looksAt ob37 a1 h34) fun v39 h38 =>
        if v39 = 0 then (
          F_X4_wrap_T45 this a1 (0 : Int32) h38
        ) else (
          F_X4_wrap_T45 this a1 (1 : Int32) h38
        )
      )
    )
  )
set_option maxHeartbeats 4000000 in
theorem w_X4_wrap (l : Launch) (hl : l.stackTraces = false) (D : va_G) (dA : Nat → ClassId) (h0 : HH) (this : Nat) (a1 : Int32) (rE : Int32) (hE : HH) (hF : F_X4_wrap this a1 h0 = some (rE, hE)) : MC D dA l yX4_wrap cX4_wrap 4 (Option.some Jvm.ClassFile.FieldType.int) [] 3 67 [va_rf (some this), .int a1] h0 (.inr (some (.int rE)), hE) := by
  refine mc_of hl (plainFor_of_name pn_X4) (by simp [lg_sl, cat_rf, cat_i, cat_j, cat_f, cat_d]) ?_
  intro p e s m args below meth c R hRf hRl X hr hnm
  unfold F_X4_wrap at hF
  rw [show argL [va_rf (some this), .int a1] = [some (va_rf (some this)), some (.int a1)] from by simp [argL, cat_rf, cat_i, cat_j, cat_f, cat_d]]
  refine G.pad 2 (L' := [some (va_rf (some this)), some (.int a1), none, none]) rfl ?_
  refine g_aload_n X dX4_wrap_0 rfl rfl ?_
  obtain ⟨ob1, eob1, hF⟩ := bnd hF
  obtain ⟨h2, eh2, hF⟩ := bnd hF
  refine g_callV X eob1 rfl rfl (w_X4_begins l hl D dA h0 ob1  h2 eh2) q1859 q1861 qs31 q103 q1862 okn_X4_begins ⟨by rw [hRf]; exact Nat.le_of_ble_eq_true rfl, by rw [hRl]; exact Nat.le_of_ble_eq_true rfl⟩ (As := []) (rest := []) rfl (by first | exact Nat.le_of_ble_eq_true rfl | simp [cat_rf, cat_i, cat_j, cat_f, cat_d]) dX4_wrap_1 (ac_0 ?_)
  refine g_iload_n X dX4_wrap_4 rfl rfl ?_
  refine g_callS X (w_X4_isSlot l hl D dA h2 a1) q2019 q2020 q103 q2021 okn_X4_isSlot ⟨by rw [hRf]; exact Nat.le_of_ble_eq_true rfl, by rw [hRl]; exact Nat.le_of_ble_eq_true rfl⟩ (As := [.int a1]) (rest := []) rfl (by first | exact Nat.le_of_ble_eq_true rfl | simp [cat_rf, cat_i, cat_j, cat_f, cat_d]) dX4_wrap_5 (ac_v ?_)
  refine g_if_ne X 17 dX4_wrap_8 (by decide) (fun c3 => ?_) (fun c3 => ?_)
  · have hF := (if_neg c3).symm.trans hF
    refine g_aload_n X dX4_wrap_17 rfl rfl ?_
    refine g_iload_n X dX4_wrap_18 rfl rfl ?_
    obtain ⟨ob4, eob4, hF⟩ := bnd hF
    obtain ⟨v5, ev5, hF⟩ := bnd hF
    refine g_callV X eob4 rfl rfl (w_X4_hasZone l hl D dA h2 ob4 a1 v5 ev5) q2026 q2028 qs55 q103 q2029 okn_X4_hasZone ⟨by rw [hRf]; exact Nat.le_of_ble_eq_true rfl, by rw [hRl]; exact Nat.le_of_ble_eq_true rfl⟩ (As := [.int a1]) (rest := []) rfl (by first | exact Nat.le_of_ble_eq_true rfl | simp [cat_rf, cat_i, cat_j, cat_f, cat_d]) dX4_wrap_19 (ac_v ?_)
    have T45 : ∀ (y0_45 : Int32) (h_45 : HH) , F_X4_wrap_T45 this a1 y0_45 h_45 = some (rE, hE) → G p l e R s m args below meth c (RQ D dA h0 (.inr (some (.int rE)), hE) below s) D dA h0 4 h_45 45 [some (va_rf (some this)), none, none, none] [.int y0_45] := by
      intro y0_45 h_45  hF 
      unfold F_X4_wrap_T45 at hF
      refine g_istore_n (L' := [some (va_rf (some this)), none, some (.int y0_45), none]) X dX4_wrap_45 rfl (Nat.le_of_ble_eq_true rfl) (by first | rfl | simp [stL, rm1, clr2, cat_rf, cat_i, cat_j, cat_f, cat_d]) ?_
      refine g_iload_n X dX4_wrap_46 rfl rfl ?_
      refine g_if_ne X 56 dX4_wrap_47 (by decide) (fun c6 => ?_) (fun c6 => ?_)
      · have hF := (if_neg c6).symm.trans hF
        refine g_iconst (v := (0 : Int32)) X dX4_wrap_56 (by decide) ?_
        refine g_istore_n (L' := [some (va_rf (some this)), none, some (.int y0_45), some (.int (0 : Int32))]) X dX4_wrap_57 rfl (Nat.le_of_ble_eq_true rfl) (by first | rfl | simp [stL, rm1, clr2, cat_rf, cat_i, cat_j, cat_f, cat_d]) ?_
        refine G.drop [true, false, false, true] rfl ?_
        obtain ⟨h15, e27, hF⟩ := bnd hF
        refine lp_ind (Gs := (fun z => G p l e R s m args below meth c (RQ D dA h0 (.inr (some (.int rE)), hE) below s) D dA h0 4 z.2 58 [some (va_rf (some this)), none, none, some (.int z.1)] [])) (Ge := (fun z => G p l e R s m args below meth c (RQ D dA h0 (.inr (some (.int rE)), hE) below s) D dA h0 4 z 93 [some (va_rf (some this)), none, none, none] [])) ?_ _ _ _ e27 ?_
        · rintro ⟨x3_7, h_7⟩ o hF hgo hr
          change F_X4_wrap_B58 this a1 y0_45 x3_7 h_7 = some o at hF
          unfold F_X4_wrap_B58 at hF
          show G p l e R s m args below meth c (RQ D dA h0 (.inr (some (.int rE)), hE) below s) D dA h0 4 h_7 58 [some (va_rf (some this)), none, none, some (.int x3_7)] []
          refine g_iload_n X dX4_wrap_58 rfl rfl ?_
          refine g_bipush (v := (16 : Int32)) X dX4_wrap_59 (by decide) ?_
          refine g_icmp_ge X 93 dX4_wrap_61 (by decide) (fun c8 => ?_) (fun c8 => ?_)
          · have hF := (if_pos c8).symm.trans hF
            refine G.drop [true, false, false, false] rfl ?_
            cases hF
            exact hr _ rfl
          · have hF := (if_neg c8).symm.trans hF
            refine g_aload_n X dX4_wrap_64 rfl rfl ?_
            obtain ⟨v9, ev9, hF⟩ := bnd hF
            refine g_get (k := 0) X in_X4 rfl (by decide) q1763 (Or.inl rfl) (getR_V ev9) dX4_wrap_65 ?_
            refine g_iconst (v := (0 : Int32)) X dX4_wrap_68 (by decide) ?_
            refine g_iload_n X dX4_wrap_69 rfl rfl ?_
            refine g_iadd X dX4_wrap_70 ?_
            refine g_aload_n X dX4_wrap_71 rfl rfl ?_
            obtain ⟨v10, ev10, hF⟩ := bnd hF
            refine g_get (k := 9) X in_X4 rfl (by decide) q1772 (Or.inl rfl) (getR_V ev10) dX4_wrap_72 ?_
            refine g_iload_n X dX4_wrap_75 rfl rfl ?_
            obtain ⟨v11, ev11, hF⟩ := bnd hF
            refine g_iald X ev11 dX4_wrap_76 ?_
            refine g_aload_n X dX4_wrap_77 rfl rfl ?_
            obtain ⟨v12, ev12, hF⟩ := bnd hF
            refine g_get (k := 10) X in_X4 rfl (by decide) q1773 (Or.inl rfl) (getR_V ev12) dX4_wrap_78 ?_
            refine g_iload_n X dX4_wrap_81 rfl rfl ?_
            obtain ⟨v13, ev13, hF⟩ := bnd hF
            refine g_iald X ev13 dX4_wrap_82 ?_
            refine g_callS X (w_X4_more l hl D dA h_7 v11 v13) q2038 q2039 q103 q2040 okn_X4_more ⟨by rw [hRf]; exact Nat.le_of_ble_eq_true rfl, by rw [hRl]; exact Nat.le_of_ble_eq_true rfl⟩ (As := [.int v11, .int v13]) (rest := [.int ((0 : Int32) + x3_7), va_rf v9]) rfl (by first | exact Nat.le_of_ble_eq_true rfl | simp [cat_rf, cat_i, cat_j, cat_f, cat_d]) dX4_wrap_83 (ac_v ?_)
            obtain ⟨h14, eh14, hF⟩ := bnd hF
            refine g_iast X eh14 dX4_wrap_86 ?_
            refine g_iinc (v := (x3_7 + (1 : Int32))) (L' := [some (va_rf (some this)), none, none, some (.int (x3_7 + (1 : Int32)))]) X dX4_wrap_87 (Nat.le_of_ble_eq_true rfl) rfl rfl (by first | rfl | simp [stL, rm1, clr2, cat_rf, cat_i, cat_j, cat_f, cat_d]) ?_
            refine g_goto X 58 dX4_wrap_90 (by decide) ?_
            cases hF
            exact hgo _ rfl
        show G p l e R s m args below meth c (RQ D dA h0 (.inr (some (.int rE)), hE) below s) D dA h0 4 h15 93 [some (va_rf (some this)), none, none, none] []
        refine g_aload_n X dX4_wrap_93 rfl rfl ?_
        refine g_aload_n X dX4_wrap_94 rfl rfl ?_
        obtain ⟨ob16, eob16, hF⟩ := bnd hF
        obtain ⟨v17, ev17, hF⟩ := bnd hF
        refine g_callV X eob16 rfl rfl (w_X4_isTooFar l hl D dA h15 ob16  v17 ev17) q1932 q1934 qs41 q103 q1935 okn_X4_isTooFar ⟨by rw [hRf]; exact Nat.le_of_ble_eq_true rfl, by rw [hRl]; exact Nat.le_of_ble_eq_true rfl⟩ (As := []) (rest := [va_rf (some this)]) rfl (by first | exact Nat.le_of_ble_eq_true rfl | simp [cat_rf, cat_i, cat_j, cat_f, cat_d]) dX4_wrap_95 (ac_v ?_)
        refine g_if_eq X 106 dX4_wrap_98 (by decide) (fun c18 => ?_) (fun c18 => ?_)
        · have hF := (if_pos c18).symm.trans hF
          refine g_aload_n X dX4_wrap_106 rfl rfl ?_
          obtain ⟨ob19, eob19, hF⟩ := bnd hF
          obtain ⟨v20, ev20, hF⟩ := bnd hF
          refine g_callV X eob19 rfl rfl (w_X4_changed l hl D dA h15 ob19  v20 ev20) q1920 q1922 qs39 q103 q1923 okn_X4_changed ⟨by rw [hRf]; exact Nat.le_of_ble_eq_true rfl, by rw [hRl]; exact Nat.le_of_ble_eq_true rfl⟩ (As := []) (rest := [va_rf (some this)]) rfl (by first | exact Nat.le_of_ble_eq_true rfl | simp [cat_rf, cat_i, cat_j, cat_f, cat_d]) dX4_wrap_107 (ac_v ?_)
          obtain ⟨ob21, eob21, hF⟩ := bnd hF
          obtain ⟨v23, h22, eh22, hF⟩ := b2_some hF
          refine g_callV X eob21 rfl rfl (w_X4_ends l hl D dA h15 ob21 v20 v23 h22 eh22) q1896 q1898 qs35 q103 q1899 okn_X4_ends ⟨by rw [hRf]; exact Nat.le_of_ble_eq_true rfl, by rw [hRl]; exact Nat.le_of_ble_eq_true rfl⟩ (As := [.int v20]) (rest := []) rfl (by first | exact Nat.le_of_ble_eq_true rfl | simp [cat_rf, cat_i, cat_j, cat_f, cat_d]) dX4_wrap_110 (ac_v ?_)
          cases hF
          exact g_iret X hr dX4_wrap_113
        · have hF := (if_neg c18).symm.trans hF
          refine g_bipush (v := (-12 : Int32)) X dX4_wrap_101 (by decide) ?_
          refine g_goto X 110 dX4_wrap_103 (by decide) ?_
          obtain ⟨ob24, eob24, hF⟩ := bnd hF
          obtain ⟨v26, h25, eh25, hF⟩ := b2_some hF
          refine g_callV X eob24 rfl rfl (w_X4_ends l hl D dA h15 ob24 (-12 : Int32) v26 h25 eh25) q1896 q1898 qs35 q103 q1899 okn_X4_ends ⟨by rw [hRf]; exact Nat.le_of_ble_eq_true rfl, by rw [hRl]; exact Nat.le_of_ble_eq_true rfl⟩ (As := [.int (-12 : Int32)]) (rest := []) rfl (by first | exact Nat.le_of_ble_eq_true rfl | simp [cat_rf, cat_i, cat_j, cat_f, cat_d]) dX4_wrap_110 (ac_v ?_)
          cases hF
          exact g_iret X hr dX4_wrap_113
      · have hF := (if_pos c6).symm.trans hF
        refine g_aload_n X dX4_wrap_50 rfl rfl ?_
        refine g_iconst (v := (2 : Int32)) X dX4_wrap_51 (by decide) ?_
        obtain ⟨ob29, eob29, hF⟩ := bnd hF
        obtain ⟨v31, h30, eh30, hF⟩ := b2_some hF
        refine g_callV X eob29 rfl rfl (w_X4_fails l hl D dA h_45 ob29 (2 : Int32) v31 h30 eh30) q1900 q1902 qs36 q103 q1903 okn_X4_fails ⟨by rw [hRf]; exact Nat.le_of_ble_eq_true rfl, by rw [hRl]; exact Nat.le_of_ble_eq_true rfl⟩ (As := [.int (2 : Int32)]) (rest := []) rfl (by first | exact Nat.le_of_ble_eq_true rfl | simp [cat_rf, cat_i, cat_j, cat_f, cat_d]) dX4_wrap_52 (ac_v ?_)
        cases hF
        exact g_iret X hr dX4_wrap_55
    refine g_if_eq X 44 dX4_wrap_22 (by decide) (fun c32 => ?_) (fun c32 => ?_)
    · have hF := (if_pos c32).symm.trans hF
      refine g_iconst (v := (0 : Int32)) X dX4_wrap_44 (by decide) ?_
      refine G.drop [true, false, false, false] rfl ?_
      exact T45 _ _ hF
    · have hF := (if_neg c32).symm.trans hF
      refine g_aload_n X dX4_wrap_25 rfl rfl ?_
      obtain ⟨ob33, eob33, hF⟩ := bnd hF
      obtain ⟨v35, h34, eh34, hF⟩ := b2_some hF
      refine g_callV X eob33 rfl rfl (w_X4_looks l hl D dA h2 ob33  v35 h34 eh34) q1880 q1882 qs34 q103 q1883 okn_X4_looks ⟨by rw [hRf]; exact Nat.le_of_ble_eq_true rfl, by rw [hRl]; exact Nat.le_of_ble_eq_true rfl⟩ (As := []) (rest := []) rfl (by first | exact Nat.le_of_ble_eq_true rfl | simp [cat_rf, cat_i, cat_j, cat_f, cat_d]) dX4_wrap_26 (ac_v ?_)
      refine g_if_eq X 44 dX4_wrap_29 (by decide) (fun c36 => ?_) (fun c36 => ?_)
      · have hF := (if_pos c36).symm.trans hF
        refine g_iconst (v := (0 : Int32)) X dX4_wrap_44 (by decide) ?_
        refine G.drop [true, false, false, false] rfl ?_
        exact T45 _ _ hF
      · have hF := (if_neg c36).symm.trans hF
        refine g_aload_n X dX4_wrap_32 rfl rfl ?_
        refine g_iload_n X dX4_wrap_33 rfl rfl ?_
        obtain ⟨ob37, eob37, hF⟩ := bnd hF
        obtain ⟨v39, h38, eh38, hF⟩ := b2_some hF
        refine g_callV X eob37 rfl rfl (w_X4_looksAt l hl D dA h34 ob37 a1 v39 h38 eh38) q2034 q2036 qs56 q103 q2037 okn_X4_looksAt ⟨by rw [hRf]; exact Nat.le_of_ble_eq_true rfl, by rw [hRl]; exact Nat.le_of_ble_eq_true rfl⟩ (As := [.int a1]) (rest := []) rfl (by first | exact Nat.le_of_ble_eq_true rfl | simp [cat_rf, cat_i, cat_j, cat_f, cat_d]) dX4_wrap_34 (ac_v ?_)
        refine g_if_eq X 44 dX4_wrap_37 (by decide) (fun c40 => ?_) (fun c40 => ?_)
        · have hF := (if_pos c40).symm.trans hF
          refine g_iconst (v := (0 : Int32)) X dX4_wrap_44 (by decide) ?_
          refine G.drop [true, false, false, false] rfl ?_
          exact T45 _ _ hF
        · have hF := (if_neg c40).symm.trans hF
          refine g_iconst (v := (1 : Int32)) X dX4_wrap_40 (by decide) ?_
          refine g_goto X 45 dX4_wrap_41 (by decide) ?_
          refine G.drop [true, false, false, false] rfl ?_
          exact T45 _ _ hF
  · have hF := (if_pos c3).symm.trans hF
    refine g_aload_n X dX4_wrap_11 rfl rfl ?_
    refine g_iconst (v := (1 : Int32)) X dX4_wrap_12 (by decide) ?_
    obtain ⟨ob41, eob41, hF⟩ := bnd hF
    obtain ⟨v43, h42, eh42, hF⟩ := b2_some hF
    refine g_callV X eob41 rfl rfl (w_X4_fails l hl D dA h2 ob41 (1 : Int32) v43 h42 eh42) q1900 q1902 qs36 q103 q1903 okn_X4_fails ⟨by rw [hRf]; exact Nat.le_of_ble_eq_true rfl, by rw [hRl]; exact Nat.le_of_ble_eq_true rfl⟩ (As := [.int (1 : Int32)]) (rest := []) rfl (by first | exact Nat.le_of_ble_eq_true rfl | simp [cat_rf, cat_i, cat_j, cat_f, cat_d]) dX4_wrap_13 (ac_v ?_)
    cases hF
    exact g_iret X hr dX4_wrap_16
def F_X4_isHarbour (a1 : Int32) : Int32 :=
  (F_X4_in a1 (0 : Int32) (5 : Int32))
set_option maxHeartbeats 4000000 in
theorem w_X4_isHarbour (l : Launch) (hl : l.stackTraces = false) (D : va_G) (dA : Nat → ClassId) (h0 : HH) (a1 : Int32) : MC D dA l yX4_isHarbour cX4_isHarbour 1 (Option.some Jvm.ClassFile.FieldType.boolean) [] 1 22 [.int a1] h0 (.inr (some (.int (F_X4_isHarbour a1))), h0) := by
  refine mc_of hl (plainFor_of_name pn_X4) (by simp [lg_sl, cat_rf, cat_i, cat_j, cat_f, cat_d]) ?_
  intro p e s m args below meth c R hRf hRl X hr hnm
  generalize hF : F_X4_isHarbour a1 = rE
  unfold F_X4_isHarbour at hF
  rw [show argL [.int a1] = [some (.int a1)] from by simp [argL, cat_rf, cat_i, cat_j, cat_f, cat_d]]
  refine g_iload_n X dX4_isHarbour_0 rfl rfl ?_
  refine g_iconst (v := (0 : Int32)) X dX4_isHarbour_1 (by decide) ?_
  refine g_iconst (v := (5 : Int32)) X dX4_isHarbour_2 (by decide) ?_
  refine g_callS X (w_X4_in l hl D dA h0 a1 (0 : Int32) (5 : Int32)) q1873 q1874 q103 q1875 okn_X4_in ⟨by rw [hRf]; exact Nat.le_of_ble_eq_true rfl, by rw [hRl]; exact Nat.le_of_ble_eq_true rfl⟩ (As := [.int a1, .int (0 : Int32), .int (5 : Int32)]) (rest := []) rfl (by first | exact Nat.le_of_ble_eq_true rfl | simp [cat_rf, cat_i, cat_j, cat_f, cat_d]) dX4_isHarbour_3 (ac_v ?_)
  cases hF
  exact g_zret X hr (by simp only [F_X4_in]; (repeat' split) <;> rfl) dX4_isHarbour_6
def F_X4_setStay (this : Nat) (a1 : Int32) (a2 : Int32) (a3 : Int32) (h0 : HH) : Option (Int32 × HH) :=
  Option.bind (isO h0 1 (some this)) fun ob1 =>
  Option.bind (F_X4_begins ob1 h0) fun h2 =>
  if (F_X4_isHarbour a1) = 0 then (
    Option.bind (isO h2 1 (some this)) fun ob4 =>
    b2 (F_X4_fails ob4 (1 : Int32) h2) fun v6 h5 =>
    some (v6, h5)
  ) else (
    if (F_X4_isClock a2) = 0 then (
      Option.bind (isO h2 1 (some this)) fun ob8 =>
      b2 (F_X4_fails ob8 (1 : Int32) h2) fun v10 h9 =>
      some (v10, h9)
    ) else (
      if (F_X4_in a3 (0 : Int32) (10 : Int32)) = 0 then (
        Option.bind (isO h2 1 (some this)) fun ob19 =>
        b2 (F_X4_fails ob19 (1 : Int32) h2) fun v21 h20 =>
        some (v21, h20)
      ) else (
        Option.bind (getR h2 1 0 (some this)) fun v12 =>
        Option.bind (aldI h2 0 v12 (((84 : Int32) + ((3 : Int32) * a1)) + a2)) fun v13 =>
        Option.bind (getR h2 1 0 (some this)) fun v14 =>
        Option.bind (astI h2 v14 (((84 : Int32) + ((3 : Int32) * a1)) + a2) a3) fun h15 =>
        Option.bind (isO h15 1 (some this)) fun ob16 =>
        b2 (F_X4_ends ob16 v13 h15) fun v18 h17 =>
        some (v18, h17)
      )
    )
  )
set_option maxHeartbeats 4000000 in
theorem w_X4_setStay (l : Launch) (hl : l.stackTraces = false) (D : va_G) (dA : Nat → ClassId) (h0 : HH) (this : Nat) (a1 : Int32) (a2 : Int32) (a3 : Int32) (rE : Int32) (hE : HH) (hF : F_X4_setStay this a1 a2 a3 h0 = some (rE, hE)) : MC D dA l yX4_setStay cX4_setStay 5 (Option.some Jvm.ClassFile.FieldType.int) [] 3 66 [va_rf (some this), .int a1, .int a2, .int a3] h0 (.inr (some (.int rE)), hE) := by
  refine mc_of hl (plainFor_of_name pn_X4) (by simp [lg_sl, cat_rf, cat_i, cat_j, cat_f, cat_d]) ?_
  intro p e s m args below meth c R hRf hRl X hr hnm
  unfold F_X4_setStay at hF
  rw [show argL [va_rf (some this), .int a1, .int a2, .int a3] = [some (va_rf (some this)), some (.int a1), some (.int a2), some (.int a3)] from by simp [argL, cat_rf, cat_i, cat_j, cat_f, cat_d]]
  refine G.pad 1 (L' := [some (va_rf (some this)), some (.int a1), some (.int a2), some (.int a3), none]) rfl ?_
  refine g_aload_n X dX4_setStay_0 rfl rfl ?_
  obtain ⟨ob1, eob1, hF⟩ := bnd hF
  obtain ⟨h2, eh2, hF⟩ := bnd hF
  refine g_callV X eob1 rfl rfl (w_X4_begins l hl D dA h0 ob1  h2 eh2) q1859 q1861 qs31 q103 q1862 okn_X4_begins ⟨by rw [hRf]; exact Nat.le_of_ble_eq_true rfl, by rw [hRl]; exact Nat.le_of_ble_eq_true rfl⟩ (As := []) (rest := []) rfl (by first | exact Nat.le_of_ble_eq_true rfl | simp [cat_rf, cat_i, cat_j, cat_f, cat_d]) dX4_setStay_1 (ac_0 ?_)
  refine g_iload_n X dX4_setStay_4 rfl rfl ?_
  refine g_callS X (w_X4_isHarbour l hl D dA h2 a1) q2045 q2046 q103 q2047 okn_X4_isHarbour ⟨by rw [hRf]; exact Nat.le_of_ble_eq_true rfl, by rw [hRl]; exact Nat.le_of_ble_eq_true rfl⟩ (As := [.int a1]) (rest := []) rfl (by first | exact Nat.le_of_ble_eq_true rfl | simp [cat_rf, cat_i, cat_j, cat_f, cat_d]) dX4_setStay_5 (ac_v ?_)
  refine g_if_eq X 28 dX4_setStay_8 (by decide) (fun c3 => ?_) (fun c3 => ?_)
  · have hF := (if_pos c3).symm.trans hF
    refine g_aload_n X dX4_setStay_28 rfl rfl ?_
    refine g_iconst (v := (1 : Int32)) X dX4_setStay_29 (by decide) ?_
    obtain ⟨ob4, eob4, hF⟩ := bnd hF
    obtain ⟨v6, h5, eh5, hF⟩ := b2_some hF
    refine g_callV X eob4 rfl rfl (w_X4_fails l hl D dA h2 ob4 (1 : Int32) v6 h5 eh5) q1900 q1902 qs36 q103 q1903 okn_X4_fails ⟨by rw [hRf]; exact Nat.le_of_ble_eq_true rfl, by rw [hRl]; exact Nat.le_of_ble_eq_true rfl⟩ (As := [.int (1 : Int32)]) (rest := []) rfl (by first | exact Nat.le_of_ble_eq_true rfl | simp [cat_rf, cat_i, cat_j, cat_f, cat_d]) dX4_setStay_30 (ac_v ?_)
    cases hF
    exact g_iret X hr dX4_setStay_33
  · have hF := (if_neg c3).symm.trans hF
    refine g_iload_n X dX4_setStay_11 rfl rfl ?_
    refine g_callS X (w_X4_isClock l hl D dA h2 a2) q1948 q1949 q103 q1950 okn_X4_isClock ⟨by rw [hRf]; exact Nat.le_of_ble_eq_true rfl, by rw [hRl]; exact Nat.le_of_ble_eq_true rfl⟩ (As := [.int a2]) (rest := []) rfl (by first | exact Nat.le_of_ble_eq_true rfl | simp [cat_rf, cat_i, cat_j, cat_f, cat_d]) dX4_setStay_12 (ac_v ?_)
    refine g_if_eq X 28 dX4_setStay_15 (by decide) (fun c7 => ?_) (fun c7 => ?_)
    · have hF := (if_pos c7).symm.trans hF
      refine g_aload_n X dX4_setStay_28 rfl rfl ?_
      refine g_iconst (v := (1 : Int32)) X dX4_setStay_29 (by decide) ?_
      obtain ⟨ob8, eob8, hF⟩ := bnd hF
      obtain ⟨v10, h9, eh9, hF⟩ := b2_some hF
      refine g_callV X eob8 rfl rfl (w_X4_fails l hl D dA h2 ob8 (1 : Int32) v10 h9 eh9) q1900 q1902 qs36 q103 q1903 okn_X4_fails ⟨by rw [hRf]; exact Nat.le_of_ble_eq_true rfl, by rw [hRl]; exact Nat.le_of_ble_eq_true rfl⟩ (As := [.int (1 : Int32)]) (rest := []) rfl (by first | exact Nat.le_of_ble_eq_true rfl | simp [cat_rf, cat_i, cat_j, cat_f, cat_d]) dX4_setStay_30 (ac_v ?_)
      cases hF
      exact g_iret X hr dX4_setStay_33
    · have hF := (if_neg c7).symm.trans hF
      refine g_iload_n X dX4_setStay_18 rfl rfl ?_
      refine g_iconst (v := (0 : Int32)) X dX4_setStay_19 (by decide) ?_
      refine g_bipush (v := (10 : Int32)) X dX4_setStay_20 (by decide) ?_
      refine g_callS X (w_X4_in l hl D dA h2 a3 (0 : Int32) (10 : Int32)) q1873 q1874 q103 q1875 okn_X4_in ⟨by rw [hRf]; exact Nat.le_of_ble_eq_true rfl, by rw [hRl]; exact Nat.le_of_ble_eq_true rfl⟩ (As := [.int a3, .int (0 : Int32), .int (10 : Int32)]) (rest := []) rfl (by first | exact Nat.le_of_ble_eq_true rfl | simp [cat_rf, cat_i, cat_j, cat_f, cat_d]) dX4_setStay_22 (ac_v ?_)
      refine g_if_ne X 34 dX4_setStay_25 (by decide) (fun c11 => ?_) (fun c11 => ?_)
      · have hF := (if_neg c11).symm.trans hF
        refine g_aload_n X dX4_setStay_34 rfl rfl ?_
        obtain ⟨v12, ev12, hF⟩ := bnd hF
        refine g_get (k := 0) X in_X4 rfl (by decide) q1763 (Or.inl rfl) (getR_V ev12) dX4_setStay_35 ?_
        refine g_bipush (v := (84 : Int32)) X dX4_setStay_38 (by decide) ?_
        refine g_iconst (v := (3 : Int32)) X dX4_setStay_40 (by decide) ?_
        refine g_iload_n X dX4_setStay_41 rfl rfl ?_
        refine g_imul X dX4_setStay_42 ?_
        refine g_iadd X dX4_setStay_43 ?_
        refine g_iload_n X dX4_setStay_44 rfl rfl ?_
        refine g_iadd X dX4_setStay_45 ?_
        obtain ⟨v13, ev13, hF⟩ := bnd hF
        refine g_iald X ev13 dX4_setStay_46 ?_
        refine g_istore (L' := [some (va_rf (some this)), some (.int a1), some (.int a2), some (.int a3), some (.int v13)]) X dX4_setStay_47 (Nat.le_of_ble_eq_true rfl) (by first | rfl | simp [stL, rm1, clr2, cat_rf, cat_i, cat_j, cat_f, cat_d]) ?_
        refine g_aload_n X dX4_setStay_49 rfl rfl ?_
        obtain ⟨v14, ev14, hF⟩ := bnd hF
        refine g_get (k := 0) X in_X4 rfl (by decide) q1763 (Or.inl rfl) (getR_V ev14) dX4_setStay_50 ?_
        refine g_bipush (v := (84 : Int32)) X dX4_setStay_53 (by decide) ?_
        refine g_iconst (v := (3 : Int32)) X dX4_setStay_55 (by decide) ?_
        refine g_iload_n X dX4_setStay_56 rfl rfl ?_
        refine g_imul X dX4_setStay_57 ?_
        refine g_iadd X dX4_setStay_58 ?_
        refine g_iload_n X dX4_setStay_59 rfl rfl ?_
        refine g_iadd X dX4_setStay_60 ?_
        refine g_iload_n X dX4_setStay_61 rfl rfl ?_
        obtain ⟨h15, eh15, hF⟩ := bnd hF
        refine g_iast X eh15 dX4_setStay_62 ?_
        refine g_aload_n X dX4_setStay_63 rfl rfl ?_
        refine g_iload X dX4_setStay_64 rfl ?_
        obtain ⟨ob16, eob16, hF⟩ := bnd hF
        obtain ⟨v18, h17, eh17, hF⟩ := b2_some hF
        refine g_callV X eob16 rfl rfl (w_X4_ends l hl D dA h15 ob16 v13 v18 h17 eh17) q1896 q1898 qs35 q103 q1899 okn_X4_ends ⟨by rw [hRf]; exact Nat.le_of_ble_eq_true rfl, by rw [hRl]; exact Nat.le_of_ble_eq_true rfl⟩ (As := [.int v13]) (rest := []) rfl (by first | exact Nat.le_of_ble_eq_true rfl | simp [cat_rf, cat_i, cat_j, cat_f, cat_d]) dX4_setStay_66 (ac_v ?_)
        cases hF
        exact g_iret X hr dX4_setStay_69
      · have hF := (if_pos c11).symm.trans hF
        refine g_aload_n X dX4_setStay_28 rfl rfl ?_
        refine g_iconst (v := (1 : Int32)) X dX4_setStay_29 (by decide) ?_
        obtain ⟨ob19, eob19, hF⟩ := bnd hF
        obtain ⟨v21, h20, eh20, hF⟩ := b2_some hF
        refine g_callV X eob19 rfl rfl (w_X4_fails l hl D dA h2 ob19 (1 : Int32) v21 h20 eh20) q1900 q1902 qs36 q103 q1903 okn_X4_fails ⟨by rw [hRf]; exact Nat.le_of_ble_eq_true rfl, by rw [hRl]; exact Nat.le_of_ble_eq_true rfl⟩ (As := [.int (1 : Int32)]) (rest := []) rfl (by first | exact Nat.le_of_ble_eq_true rfl | simp [cat_rf, cat_i, cat_j, cat_f, cat_d]) dX4_setStay_30 (ac_v ?_)
        cases hF
        exact g_iret X hr dX4_setStay_33
def F_X4_lays (this : Nat) (a1 : Int32) (a2 : Int32) (a3 : Int32) (h0 : HH) : Option HH :=
  Option.bind (getR h0 1 0 (some this)) fun v1 =>
  Option.bind (astI h0 v1 (((103 : Int32) + ((9 : Int32) * a1)) + a2) a3) fun h2 =>
  some h2
set_option maxHeartbeats 4000000 in
theorem w_X4_lays (l : Launch) (hl : l.stackTraces = false) (D : va_G) (dA : Nat → ClassId) (h0 : HH) (this : Nat) (a1 : Int32) (a2 : Int32) (a3 : Int32) (hE : HH) (hF : F_X4_lays this a1 a2 a3 h0 = some hE) : MC D dA l yX4_lays cX4_lays 4 (Option.none : Option Jvm.ClassFile.FieldType) [] 0 0 [va_rf (some this), .int a1, .int a2, .int a3] h0 (.inr none, hE) := by
  refine mc_of hl (plainFor_of_name pn_X4) (by simp [lg_sl, cat_rf, cat_i, cat_j, cat_f, cat_d]) ?_
  intro p e s m args below meth c R hRf hRl X hr hnm
  unfold F_X4_lays at hF
  rw [show argL [va_rf (some this), .int a1, .int a2, .int a3] = [some (va_rf (some this)), some (.int a1), some (.int a2), some (.int a3)] from by simp [argL, cat_rf, cat_i, cat_j, cat_f, cat_d]]
  refine g_aload_n X dX4_lays_0 rfl rfl ?_
  obtain ⟨v1, ev1, hF⟩ := bnd hF
  refine g_get (k := 0) X in_X4 rfl (by decide) q1763 (Or.inl rfl) (getR_V ev1) dX4_lays_1 ?_
  refine g_bipush (v := (103 : Int32)) X dX4_lays_4 (by decide) ?_
  refine g_bipush (v := (9 : Int32)) X dX4_lays_6 (by decide) ?_
  refine g_iload_n X dX4_lays_8 rfl rfl ?_
  refine g_imul X dX4_lays_9 ?_
  refine g_iadd X dX4_lays_10 ?_
  refine g_iload_n X dX4_lays_11 rfl rfl ?_
  refine g_iadd X dX4_lays_12 ?_
  refine g_iload_n X dX4_lays_13 rfl rfl ?_
  obtain ⟨h2, eh2, hF⟩ := bnd hF
  refine g_iast X eh2 dX4_lays_14 ?_
  cases hF
  exact g_vret X hr dX4_lays_15
def F_X4_addLine_B61 (this : Nat) (a1 : Int32) (a2 : Int32) (k3_15 : Int32) (x4_15 : Int32) (h_15 : HH) : Option ((Int32 × HH) ⊕ HH) :=
  if (3 : Int32) ≤ x4_15 then (
    some (.inr h_15)
  ) else (
    Option.bind (isO h_15 1 (some this)) fun ob17 =>
    Option.bind (F_X4_lays ob17 k3_15 ((5 : Int32) + x4_15) (10 : Int32) h_15) fun h18 =>
    some (.inl ((x4_15 + (1 : Int32)), h18))
  )
def F_X4_addLine (this : Nat) (a1 : Int32) (a2 : Int32) (h0 : HH) : Option (Int32 × HH) :=
  Option.bind (isO h0 1 (some this)) fun ob1 =>
  Option.bind (F_X4_begins ob1 h0) fun h2 =>
  if (F_X4_isHarbour a1) = 0 then (
    Option.bind (isO h2 1 (some this)) fun ob4 =>
    b2 (F_X4_fails ob4 (1 : Int32) h2) fun v6 h5 =>
    some (v6, h5)
  ) else (
    if (F_X4_isHarbour a2) = 0 then (
      Option.bind (isO h2 1 (some this)) fun ob31 =>
      b2 (F_X4_fails ob31 (1 : Int32) h2) fun v33 h32 =>
      some (v33, h32)
    ) else (
      Option.bind (getR h2 1 0 (some this)) fun v8 =>
      Option.bind (aldI h2 0 v8 (102 : Int32)) fun v9 =>
      if v9 = (10 : Int32) then (
        Option.bind (isO h2 1 (some this)) fun ob28 =>
        b2 (F_X4_fails ob28 (2 : Int32) h2) fun v30 h29 =>
        some (v30, h29)
      ) else (
        Option.bind (isO h2 1 (some this)) fun ob11 =>
        Option.bind (F_X4_lays ob11 v9 (0 : Int32) a1 h2) fun h12 =>
        Option.bind (isO h12 1 (some this)) fun ob13 =>
        Option.bind (F_X4_lays ob13 v9 (1 : Int32) a2 h12) fun h14 =>
        Option.bind (lp (fun z => F_X4_addLine_B61 this a1 a2 v9 z.1 z.2) 100000 ((0 : Int32), h14)) fun h19 =>
        Option.bind (getR h19 1 0 (some this)) fun v20 =>
        Option.bind (aldI h19 0 v20 (102 : Int32)) fun v21 =>
        Option.bind (astI h19 v20 (102 : Int32) (v21 + (1 : Int32))) fun h22 =>
        Option.bind (isO h22 1 (some this)) fun ob23 =>
        b2 (F_X4_ends ob23 v9 h22) fun v25 h24 =>
        some (v25, h24)
      )
    )
  )
set_option maxHeartbeats 4000000 in
theorem w_X4_addLine (l : Launch) (hl : l.stackTraces = false) (D : va_G) (dA : Nat → ClassId) (h0 : HH) (this : Nat) (a1 : Int32) (a2 : Int32) (rE : Int32) (hE : HH) (hF : F_X4_addLine this a1 a2 h0 = some (rE, hE)) : MC D dA l yX4_addLine cX4_addLine 5 (Option.some Jvm.ClassFile.FieldType.int) [] 3 66 [va_rf (some this), .int a1, .int a2] h0 (.inr (some (.int rE)), hE) := by
  refine mc_of hl (plainFor_of_name pn_X4) (by simp [lg_sl, cat_rf, cat_i, cat_j, cat_f, cat_d]) ?_
  intro p e s m args below meth c R hRf hRl X hr hnm
  unfold F_X4_addLine at hF
  rw [show argL [va_rf (some this), .int a1, .int a2] = [some (va_rf (some this)), some (.int a1), some (.int a2)] from by simp [argL, cat_rf, cat_i, cat_j, cat_f, cat_d]]
  refine G.pad 2 (L' := [some (va_rf (some this)), some (.int a1), some (.int a2), none, none]) rfl ?_
  refine g_aload_n X dX4_addLine_0 rfl rfl ?_
  obtain ⟨ob1, eob1, hF⟩ := bnd hF
  obtain ⟨h2, eh2, hF⟩ := bnd hF
  refine g_callV X eob1 rfl rfl (w_X4_begins l hl D dA h0 ob1  h2 eh2) q1859 q1861 qs31 q103 q1862 okn_X4_begins ⟨by rw [hRf]; exact Nat.le_of_ble_eq_true rfl, by rw [hRl]; exact Nat.le_of_ble_eq_true rfl⟩ (As := []) (rest := []) rfl (by first | exact Nat.le_of_ble_eq_true rfl | simp [cat_rf, cat_i, cat_j, cat_f, cat_d]) dX4_addLine_1 (ac_0 ?_)
  refine g_iload_n X dX4_addLine_4 rfl rfl ?_
  refine g_callS X (w_X4_isHarbour l hl D dA h2 a1) q2045 q2046 q103 q2047 okn_X4_isHarbour ⟨by rw [hRf]; exact Nat.le_of_ble_eq_true rfl, by rw [hRl]; exact Nat.le_of_ble_eq_true rfl⟩ (As := [.int a1]) (rest := []) rfl (by first | exact Nat.le_of_ble_eq_true rfl | simp [cat_rf, cat_i, cat_j, cat_f, cat_d]) dX4_addLine_5 (ac_v ?_)
  refine g_if_eq X 18 dX4_addLine_8 (by decide) (fun c3 => ?_) (fun c3 => ?_)
  · have hF := (if_pos c3).symm.trans hF
    refine g_aload_n X dX4_addLine_18 rfl rfl ?_
    refine g_iconst (v := (1 : Int32)) X dX4_addLine_19 (by decide) ?_
    obtain ⟨ob4, eob4, hF⟩ := bnd hF
    obtain ⟨v6, h5, eh5, hF⟩ := b2_some hF
    refine g_callV X eob4 rfl rfl (w_X4_fails l hl D dA h2 ob4 (1 : Int32) v6 h5 eh5) q1900 q1902 qs36 q103 q1903 okn_X4_fails ⟨by rw [hRf]; exact Nat.le_of_ble_eq_true rfl, by rw [hRl]; exact Nat.le_of_ble_eq_true rfl⟩ (As := [.int (1 : Int32)]) (rest := []) rfl (by first | exact Nat.le_of_ble_eq_true rfl | simp [cat_rf, cat_i, cat_j, cat_f, cat_d]) dX4_addLine_20 (ac_v ?_)
    cases hF
    exact g_iret X hr dX4_addLine_23
  · have hF := (if_neg c3).symm.trans hF
    refine g_iload_n X dX4_addLine_11 rfl rfl ?_
    refine g_callS X (w_X4_isHarbour l hl D dA h2 a2) q2045 q2046 q103 q2047 okn_X4_isHarbour ⟨by rw [hRf]; exact Nat.le_of_ble_eq_true rfl, by rw [hRl]; exact Nat.le_of_ble_eq_true rfl⟩ (As := [.int a2]) (rest := []) rfl (by first | exact Nat.le_of_ble_eq_true rfl | simp [cat_rf, cat_i, cat_j, cat_f, cat_d]) dX4_addLine_12 (ac_v ?_)
    refine g_if_ne X 24 dX4_addLine_15 (by decide) (fun c7 => ?_) (fun c7 => ?_)
    · have hF := (if_neg c7).symm.trans hF
      refine g_aload_n X dX4_addLine_24 rfl rfl ?_
      obtain ⟨v8, ev8, hF⟩ := bnd hF
      refine g_get (k := 0) X in_X4 rfl (by decide) q1763 (Or.inl rfl) (getR_V ev8) dX4_addLine_25 ?_
      refine g_bipush (v := (102 : Int32)) X dX4_addLine_28 (by decide) ?_
      obtain ⟨v9, ev9, hF⟩ := bnd hF
      refine g_iald X ev9 dX4_addLine_30 ?_
      refine g_istore_n (L' := [some (va_rf (some this)), some (.int a1), some (.int a2), some (.int v9), none]) X dX4_addLine_31 rfl (Nat.le_of_ble_eq_true rfl) (by first | rfl | simp [stL, rm1, clr2, cat_rf, cat_i, cat_j, cat_f, cat_d]) ?_
      refine g_iload_n X dX4_addLine_32 rfl rfl ?_
      refine g_bipush (v := (10 : Int32)) X dX4_addLine_33 (by decide) ?_
      refine g_icmp_ne X 44 dX4_addLine_35 (by decide) (fun c10 => ?_) (fun c10 => ?_)
      · have hF := (if_neg c10).symm.trans hF
        refine g_aload_n X dX4_addLine_44 rfl rfl ?_
        refine g_iload_n X dX4_addLine_45 rfl rfl ?_
        refine g_iconst (v := (0 : Int32)) X dX4_addLine_46 (by decide) ?_
        refine g_iload_n X dX4_addLine_47 rfl rfl ?_
        obtain ⟨ob11, eob11, hF⟩ := bnd hF
        obtain ⟨h12, eh12, hF⟩ := bnd hF
        refine g_callV X eob11 rfl rfl (w_X4_lays l hl D dA h2 ob11 v9 (0 : Int32) a1 h12 eh12) q2052 q2054 qs57 q103 q2055 okn_X4_lays ⟨by rw [hRf]; exact Nat.le_of_ble_eq_true rfl, by rw [hRl]; exact Nat.le_of_ble_eq_true rfl⟩ (As := [.int v9, .int (0 : Int32), .int a1]) (rest := []) rfl (by first | exact Nat.le_of_ble_eq_true rfl | simp [cat_rf, cat_i, cat_j, cat_f, cat_d]) dX4_addLine_48 (ac_0 ?_)
        refine g_aload_n X dX4_addLine_51 rfl rfl ?_
        refine g_iload_n X dX4_addLine_52 rfl rfl ?_
        refine g_iconst (v := (1 : Int32)) X dX4_addLine_53 (by decide) ?_
        refine g_iload_n X dX4_addLine_54 rfl rfl ?_
        obtain ⟨ob13, eob13, hF⟩ := bnd hF
        obtain ⟨h14, eh14, hF⟩ := bnd hF
        refine g_callV X eob13 rfl rfl (w_X4_lays l hl D dA h12 ob13 v9 (1 : Int32) a2 h14 eh14) q2052 q2054 qs57 q103 q2055 okn_X4_lays ⟨by rw [hRf]; exact Nat.le_of_ble_eq_true rfl, by rw [hRl]; exact Nat.le_of_ble_eq_true rfl⟩ (As := [.int v9, .int (1 : Int32), .int a2]) (rest := []) rfl (by first | exact Nat.le_of_ble_eq_true rfl | simp [cat_rf, cat_i, cat_j, cat_f, cat_d]) dX4_addLine_55 (ac_0 ?_)
        refine g_iconst (v := (0 : Int32)) X dX4_addLine_58 (by decide) ?_
        refine g_istore (L' := [some (va_rf (some this)), some (.int a1), some (.int a2), some (.int v9), some (.int (0 : Int32))]) X dX4_addLine_59 (Nat.le_of_ble_eq_true rfl) (by first | rfl | simp [stL, rm1, clr2, cat_rf, cat_i, cat_j, cat_f, cat_d]) ?_
        refine G.drop [true, false, false, true, true] rfl ?_
        obtain ⟨h19, e26, hF⟩ := bnd hF
        refine lp_ind (Gs := (fun z => G p l e R s m args below meth c (RQ D dA h0 (.inr (some (.int rE)), hE) below s) D dA h0 5 z.2 61 [some (va_rf (some this)), none, none, some (.int v9), some (.int z.1)] [])) (Ge := (fun z => G p l e R s m args below meth c (RQ D dA h0 (.inr (some (.int rE)), hE) below s) D dA h0 5 z 84 [some (va_rf (some this)), none, none, some (.int v9), none] [])) ?_ _ _ _ e26 ?_
        · rintro ⟨x4_15, h_15⟩ o hF hgo hr
          change F_X4_addLine_B61 this a1 a2 v9 x4_15 h_15 = some o at hF
          generalize v9 = k3_15 at hF hgo hr ⊢
          unfold F_X4_addLine_B61 at hF
          show G p l e R s m args below meth c (RQ D dA h0 (.inr (some (.int rE)), hE) below s) D dA h0 5 h_15 61 [some (va_rf (some this)), none, none, some (.int k3_15), some (.int x4_15)] []
          refine g_iload X dX4_addLine_61 rfl ?_
          refine g_iconst (v := (3 : Int32)) X dX4_addLine_63 (by decide) ?_
          refine g_icmp_ge X 84 dX4_addLine_64 (by decide) (fun c16 => ?_) (fun c16 => ?_)
          · have hF := (if_pos c16).symm.trans hF
            refine G.drop [true, false, false, true, false] rfl ?_
            cases hF
            exact hr _ rfl
          · have hF := (if_neg c16).symm.trans hF
            refine g_aload_n X dX4_addLine_67 rfl rfl ?_
            refine g_iload_n X dX4_addLine_68 rfl rfl ?_
            refine g_iconst (v := (5 : Int32)) X dX4_addLine_69 (by decide) ?_
            refine g_iload X dX4_addLine_70 rfl ?_
            refine g_iadd X dX4_addLine_72 ?_
            refine g_bipush (v := (10 : Int32)) X dX4_addLine_73 (by decide) ?_
            obtain ⟨ob17, eob17, hF⟩ := bnd hF
            obtain ⟨h18, eh18, hF⟩ := bnd hF
            refine g_callV X eob17 rfl rfl (w_X4_lays l hl D dA h_15 ob17 k3_15 ((5 : Int32) + x4_15) (10 : Int32) h18 eh18) q2052 q2054 qs57 q103 q2055 okn_X4_lays ⟨by rw [hRf]; exact Nat.le_of_ble_eq_true rfl, by rw [hRl]; exact Nat.le_of_ble_eq_true rfl⟩ (As := [.int k3_15, .int ((5 : Int32) + x4_15), .int (10 : Int32)]) (rest := []) rfl (by first | exact Nat.le_of_ble_eq_true rfl | simp [cat_rf, cat_i, cat_j, cat_f, cat_d]) dX4_addLine_75 (ac_0 ?_)
            refine g_iinc (v := (x4_15 + (1 : Int32))) (L' := [some (va_rf (some this)), none, none, some (.int k3_15), some (.int (x4_15 + (1 : Int32)))]) X dX4_addLine_78 (Nat.le_of_ble_eq_true rfl) rfl rfl (by first | rfl | simp [stL, rm1, clr2, cat_rf, cat_i, cat_j, cat_f, cat_d]) ?_
            refine g_goto X 61 dX4_addLine_81 (by decide) ?_
            cases hF
            exact hgo _ rfl
        show G p l e R s m args below meth c (RQ D dA h0 (.inr (some (.int rE)), hE) below s) D dA h0 5 h19 84 [some (va_rf (some this)), none, none, some (.int v9), none] []
        refine g_aload_n X dX4_addLine_84 rfl rfl ?_
        obtain ⟨v20, ev20, hF⟩ := bnd hF
        refine g_get (k := 0) X in_X4 rfl (by decide) q1763 (Or.inl rfl) (getR_V ev20) dX4_addLine_85 ?_
        refine g_bipush (v := (102 : Int32)) X dX4_addLine_88 (by decide) ?_
        refine g_dup2_11 X dX4_addLine_90 rfl (cat_rf _) ?_
        obtain ⟨v21, ev21, hF⟩ := bnd hF
        refine g_iald X ev21 dX4_addLine_91 ?_
        refine g_iconst (v := (1 : Int32)) X dX4_addLine_92 (by decide) ?_
        refine g_iadd X dX4_addLine_93 ?_
        obtain ⟨h22, eh22, hF⟩ := bnd hF
        refine g_iast X eh22 dX4_addLine_94 ?_
        refine g_aload_n X dX4_addLine_95 rfl rfl ?_
        refine g_iload_n X dX4_addLine_96 rfl rfl ?_
        obtain ⟨ob23, eob23, hF⟩ := bnd hF
        obtain ⟨v25, h24, eh24, hF⟩ := b2_some hF
        refine g_callV X eob23 rfl rfl (w_X4_ends l hl D dA h22 ob23 v9 v25 h24 eh24) q1896 q1898 qs35 q103 q1899 okn_X4_ends ⟨by rw [hRf]; exact Nat.le_of_ble_eq_true rfl, by rw [hRl]; exact Nat.le_of_ble_eq_true rfl⟩ (As := [.int v9]) (rest := []) rfl (by first | exact Nat.le_of_ble_eq_true rfl | simp [cat_rf, cat_i, cat_j, cat_f, cat_d]) dX4_addLine_97 (ac_v ?_)
        cases hF
        exact g_iret X hr dX4_addLine_100
      · have hF := (if_pos c10).symm.trans hF
        refine g_aload_n X dX4_addLine_38 rfl rfl ?_
        refine g_iconst (v := (2 : Int32)) X dX4_addLine_39 (by decide) ?_
        obtain ⟨ob28, eob28, hF⟩ := bnd hF
        obtain ⟨v30, h29, eh29, hF⟩ := b2_some hF
        refine g_callV X eob28 rfl rfl (w_X4_fails l hl D dA h2 ob28 (2 : Int32) v30 h29 eh29) q1900 q1902 qs36 q103 q1903 okn_X4_fails ⟨by rw [hRf]; exact Nat.le_of_ble_eq_true rfl, by rw [hRl]; exact Nat.le_of_ble_eq_true rfl⟩ (As := [.int (2 : Int32)]) (rest := []) rfl (by first | exact Nat.le_of_ble_eq_true rfl | simp [cat_rf, cat_i, cat_j, cat_f, cat_d]) dX4_addLine_40 (ac_v ?_)
        cases hF
        exact g_iret X hr dX4_addLine_43
    · have hF := (if_pos c7).symm.trans hF
      refine g_aload_n X dX4_addLine_18 rfl rfl ?_
      refine g_iconst (v := (1 : Int32)) X dX4_addLine_19 (by decide) ?_
      obtain ⟨ob31, eob31, hF⟩ := bnd hF
      obtain ⟨v33, h32, eh32, hF⟩ := b2_some hF
      refine g_callV X eob31 rfl rfl (w_X4_fails l hl D dA h2 ob31 (1 : Int32) v33 h32 eh32) q1900 q1902 qs36 q103 q1903 okn_X4_fails ⟨by rw [hRf]; exact Nat.le_of_ble_eq_true rfl, by rw [hRl]; exact Nat.le_of_ble_eq_true rfl⟩ (As := [.int (1 : Int32)]) (rest := []) rfl (by first | exact Nat.le_of_ble_eq_true rfl | simp [cat_rf, cat_i, cat_j, cat_f, cat_d]) dX4_addLine_20 (ac_v ?_)
      cases hF
      exact g_iret X hr dX4_addLine_23
def F_X4_isLine (this : Nat) (a1 : Int32) (h0 : HH) : Option Int32 :=
  Option.bind (getR h0 1 0 (some this)) fun v1 =>
  Option.bind (aldI h0 0 v1 (102 : Int32)) fun v2 =>
  some (F_X4_in a1 (0 : Int32) (v2 - (1 : Int32)))
set_option maxHeartbeats 4000000 in
theorem w_X4_isLine (l : Launch) (hl : l.stackTraces = false) (D : va_G) (dA : Nat → ClassId) (h0 : HH) (this : Nat) (a1 : Int32) (rE : Int32) (hF : F_X4_isLine this a1 h0 = some rE) : MC D dA l yX4_isLine cX4_isLine 2 (Option.some Jvm.ClassFile.FieldType.boolean) [] 1 22 [va_rf (some this), .int a1] h0 (.inr (some (.int rE)), h0) := by
  refine mc_of hl (plainFor_of_name pn_X4) (by simp [lg_sl, cat_rf, cat_i, cat_j, cat_f, cat_d]) ?_
  intro p e s m args below meth c R hRf hRl X hr hnm
  unfold F_X4_isLine at hF
  rw [show argL [va_rf (some this), .int a1] = [some (va_rf (some this)), some (.int a1)] from by simp [argL, cat_rf, cat_i, cat_j, cat_f, cat_d]]
  refine g_iload_n X dX4_isLine_0 rfl rfl ?_
  refine g_iconst (v := (0 : Int32)) X dX4_isLine_1 (by decide) ?_
  refine g_aload_n X dX4_isLine_2 rfl rfl ?_
  obtain ⟨v1, ev1, hF⟩ := bnd hF
  refine g_get (k := 0) X in_X4 rfl (by decide) q1763 (Or.inl rfl) (getR_V ev1) dX4_isLine_3 ?_
  refine g_bipush (v := (102 : Int32)) X dX4_isLine_6 (by decide) ?_
  obtain ⟨v2, ev2, hF⟩ := bnd hF
  refine g_iald X ev2 dX4_isLine_8 ?_
  refine g_iconst (v := (1 : Int32)) X dX4_isLine_9 (by decide) ?_
  refine g_isub X dX4_isLine_10 ?_
  refine g_callS X (w_X4_in l hl D dA h0 a1 (0 : Int32) (v2 - (1 : Int32))) q1873 q1874 q103 q1875 okn_X4_in ⟨by rw [hRf]; exact Nat.le_of_ble_eq_true rfl, by rw [hRl]; exact Nat.le_of_ble_eq_true rfl⟩ (As := [.int a1, .int (0 : Int32), .int (v2 - (1 : Int32))]) (rest := []) rfl (by first | exact Nat.le_of_ble_eq_true rfl | simp [cat_rf, cat_i, cat_j, cat_f, cat_d]) dX4_isLine_11 (ac_v ?_)
  cases hF
  exact g_zret X hr (by simp only [F_X4_in]; (repeat' split) <;> rfl) dX4_isLine_14
def F_X4_line (this : Nat) (a1 : Int32) (a2 : Int32) (h0 : HH) : Option Int32 :=
  Option.bind (getR h0 1 0 (some this)) fun v1 =>
  Option.bind (aldI h0 0 v1 (((103 : Int32) + ((9 : Int32) * a1)) + a2)) fun v2 =>
  some v2
set_option maxHeartbeats 4000000 in
theorem w_X4_line (l : Launch) (hl : l.stackTraces = false) (D : va_G) (dA : Nat → ClassId) (h0 : HH) (this : Nat) (a1 : Int32) (a2 : Int32) (rE : Int32) (hF : F_X4_line this a1 a2 h0 = some rE) : MC D dA l yX4_line cX4_line 3 (Option.some Jvm.ClassFile.FieldType.int) [] 0 0 [va_rf (some this), .int a1, .int a2] h0 (.inr (some (.int rE)), h0) := by
  refine mc_of hl (plainFor_of_name pn_X4) (by simp [lg_sl, cat_rf, cat_i, cat_j, cat_f, cat_d]) ?_
  intro p e s m args below meth c R hRf hRl X hr hnm
  unfold F_X4_line at hF
  rw [show argL [va_rf (some this), .int a1, .int a2] = [some (va_rf (some this)), some (.int a1), some (.int a2)] from by simp [argL, cat_rf, cat_i, cat_j, cat_f, cat_d]]
  refine g_aload_n X dX4_line_0 rfl rfl ?_
  obtain ⟨v1, ev1, hF⟩ := bnd hF
  refine g_get (k := 0) X in_X4 rfl (by decide) q1763 (Or.inl rfl) (getR_V ev1) dX4_line_1 ?_
  refine g_bipush (v := (103 : Int32)) X dX4_line_4 (by decide) ?_
  refine g_bipush (v := (9 : Int32)) X dX4_line_6 (by decide) ?_
  refine g_iload_n X dX4_line_8 rfl rfl ?_
  refine g_imul X dX4_line_9 ?_
  refine g_iadd X dX4_line_10 ?_
  refine g_iload_n X dX4_line_11 rfl rfl ?_
  refine g_iadd X dX4_line_12 ?_
  obtain ⟨v2, ev2, hF⟩ := bnd hF
  refine g_iald X ev2 dX4_line_13 ?_
  cases hF
  exact g_iret X hr dX4_line_14
def F_X4_setNeed (this : Nat) (a1 : Int32) (a2 : Int32) (a3 : Int32) (a4 : Int32) (h0 : HH) : Option (Int32 × HH) :=
  Option.bind (isO h0 1 (some this)) fun ob1 =>
  Option.bind (F_X4_begins ob1 h0) fun h2 =>
  Option.bind (isO h2 1 (some this)) fun ob3 =>
  Option.bind (F_X4_isLine ob3 a1 h2) fun v4 =>
  if v4 = 0 then (
    Option.bind (isO h2 1 (some this)) fun ob6 =>
    b2 (F_X4_fails ob6 (1 : Int32) h2) fun v8 h7 =>
    some (v8, h7)
  ) else (
    if (F_X4_isClock a2) = 0 then (
      Option.bind (isO h2 1 (some this)) fun ob10 =>
      b2 (F_X4_fails ob10 (1 : Int32) h2) fun v12 h11 =>
      some (v12, h11)
    ) else (
      if (F_X4_in a3 (0 : Int32) (9 : Int32)) = 0 then (
        Option.bind (isO h2 1 (some this)) fun ob14 =>
        b2 (F_X4_fails ob14 (1 : Int32) h2) fun v16 h15 =>
        some (v16, h15)
      ) else (
        if (F_X4_in a4 a3 (10 : Int32)) = 0 then (
          Option.bind (isO h2 1 (some this)) fun ob27 =>
          b2 (F_X4_fails ob27 (1 : Int32) h2) fun v29 h28 =>
          some (v29, h28)
        ) else (
          Option.bind (isO h2 1 (some this)) fun ob18 =>
          Option.bind (F_X4_line ob18 a1 ((2 : Int32) + a2) h2) fun v19 =>
          Option.bind (isO h2 1 (some this)) fun ob20 =>
          Option.bind (F_X4_lays ob20 a1 ((2 : Int32) + a2) a3 h2) fun h21 =>
          Option.bind (isO h21 1 (some this)) fun ob22 =>
          Option.bind (F_X4_lays ob22 a1 ((5 : Int32) + a2) a4 h21) fun h23 =>
          Option.bind (isO h23 1 (some this)) fun ob24 =>
          b2 (F_X4_ends ob24 v19 h23) fun v26 h25 =>
          some (v26, h25)
        )
      )
    )
  )
set_option maxHeartbeats 4000000 in
theorem w_X4_setNeed (l : Launch) (hl : l.stackTraces = false) (D : va_G) (dA : Nat → ClassId) (h0 : HH) (this : Nat) (a1 : Int32) (a2 : Int32) (a3 : Int32) (a4 : Int32) (rE : Int32) (hE : HH) (hF : F_X4_setNeed this a1 a2 a3 a4 h0 = some (rE, hE)) : MC D dA l yX4_setNeed cX4_setNeed 6 (Option.some Jvm.ClassFile.FieldType.int) [] 3 66 [va_rf (some this), .int a1, .int a2, .int a3, .int a4] h0 (.inr (some (.int rE)), hE) := by
  refine mc_of hl (plainFor_of_name pn_X4) (by simp [lg_sl, cat_rf, cat_i, cat_j, cat_f, cat_d]) ?_
  intro p e s m args below meth c R hRf hRl X hr hnm
  unfold F_X4_setNeed at hF
  rw [show argL [va_rf (some this), .int a1, .int a2, .int a3, .int a4] = [some (va_rf (some this)), some (.int a1), some (.int a2), some (.int a3), some (.int a4)] from by simp [argL, cat_rf, cat_i, cat_j, cat_f, cat_d]]
  refine G.pad 1 (L' := [some (va_rf (some this)), some (.int a1), some (.int a2), some (.int a3), some (.int a4), none]) rfl ?_
  refine g_aload_n X dX4_setNeed_0 rfl rfl ?_
  obtain ⟨ob1, eob1, hF⟩ := bnd hF
  obtain ⟨h2, eh2, hF⟩ := bnd hF
  refine g_callV X eob1 rfl rfl (w_X4_begins l hl D dA h0 ob1  h2 eh2) q1859 q1861 qs31 q103 q1862 okn_X4_begins ⟨by rw [hRf]; exact Nat.le_of_ble_eq_true rfl, by rw [hRl]; exact Nat.le_of_ble_eq_true rfl⟩ (As := []) (rest := []) rfl (by first | exact Nat.le_of_ble_eq_true rfl | simp [cat_rf, cat_i, cat_j, cat_f, cat_d]) dX4_setNeed_1 (ac_0 ?_)
  refine g_aload_n X dX4_setNeed_4 rfl rfl ?_
  refine g_iload_n X dX4_setNeed_5 rfl rfl ?_
  obtain ⟨ob3, eob3, hF⟩ := bnd hF
  obtain ⟨v4, ev4, hF⟩ := bnd hF
  refine g_callV X eob3 rfl rfl (w_X4_isLine l hl D dA h2 ob3 a1 v4 ev4) q2060 q2062 qs58 q103 q2063 okn_X4_isLine ⟨by rw [hRf]; exact Nat.le_of_ble_eq_true rfl, by rw [hRl]; exact Nat.le_of_ble_eq_true rfl⟩ (As := [.int a1]) (rest := []) rfl (by first | exact Nat.le_of_ble_eq_true rfl | simp [cat_rf, cat_i, cat_j, cat_f, cat_d]) dX4_setNeed_6 (ac_v ?_)
  refine g_if_eq X 40 dX4_setNeed_9 (by decide) (fun c5 => ?_) (fun c5 => ?_)
  · have hF := (if_pos c5).symm.trans hF
    refine g_aload_n X dX4_setNeed_40 rfl rfl ?_
    refine g_iconst (v := (1 : Int32)) X dX4_setNeed_41 (by decide) ?_
    obtain ⟨ob6, eob6, hF⟩ := bnd hF
    obtain ⟨v8, h7, eh7, hF⟩ := b2_some hF
    refine g_callV X eob6 rfl rfl (w_X4_fails l hl D dA h2 ob6 (1 : Int32) v8 h7 eh7) q1900 q1902 qs36 q103 q1903 okn_X4_fails ⟨by rw [hRf]; exact Nat.le_of_ble_eq_true rfl, by rw [hRl]; exact Nat.le_of_ble_eq_true rfl⟩ (As := [.int (1 : Int32)]) (rest := []) rfl (by first | exact Nat.le_of_ble_eq_true rfl | simp [cat_rf, cat_i, cat_j, cat_f, cat_d]) dX4_setNeed_42 (ac_v ?_)
    cases hF
    exact g_iret X hr dX4_setNeed_45
  · have hF := (if_neg c5).symm.trans hF
    refine g_iload_n X dX4_setNeed_12 rfl rfl ?_
    refine g_callS X (w_X4_isClock l hl D dA h2 a2) q1948 q1949 q103 q1950 okn_X4_isClock ⟨by rw [hRf]; exact Nat.le_of_ble_eq_true rfl, by rw [hRl]; exact Nat.le_of_ble_eq_true rfl⟩ (As := [.int a2]) (rest := []) rfl (by first | exact Nat.le_of_ble_eq_true rfl | simp [cat_rf, cat_i, cat_j, cat_f, cat_d]) dX4_setNeed_13 (ac_v ?_)
    refine g_if_eq X 40 dX4_setNeed_16 (by decide) (fun c9 => ?_) (fun c9 => ?_)
    · have hF := (if_pos c9).symm.trans hF
      refine g_aload_n X dX4_setNeed_40 rfl rfl ?_
      refine g_iconst (v := (1 : Int32)) X dX4_setNeed_41 (by decide) ?_
      obtain ⟨ob10, eob10, hF⟩ := bnd hF
      obtain ⟨v12, h11, eh11, hF⟩ := b2_some hF
      refine g_callV X eob10 rfl rfl (w_X4_fails l hl D dA h2 ob10 (1 : Int32) v12 h11 eh11) q1900 q1902 qs36 q103 q1903 okn_X4_fails ⟨by rw [hRf]; exact Nat.le_of_ble_eq_true rfl, by rw [hRl]; exact Nat.le_of_ble_eq_true rfl⟩ (As := [.int (1 : Int32)]) (rest := []) rfl (by first | exact Nat.le_of_ble_eq_true rfl | simp [cat_rf, cat_i, cat_j, cat_f, cat_d]) dX4_setNeed_42 (ac_v ?_)
      cases hF
      exact g_iret X hr dX4_setNeed_45
    · have hF := (if_neg c9).symm.trans hF
      refine g_iload_n X dX4_setNeed_19 rfl rfl ?_
      refine g_iconst (v := (0 : Int32)) X dX4_setNeed_20 (by decide) ?_
      refine g_bipush (v := (9 : Int32)) X dX4_setNeed_21 (by decide) ?_
      refine g_callS X (w_X4_in l hl D dA h2 a3 (0 : Int32) (9 : Int32)) q1873 q1874 q103 q1875 okn_X4_in ⟨by rw [hRf]; exact Nat.le_of_ble_eq_true rfl, by rw [hRl]; exact Nat.le_of_ble_eq_true rfl⟩ (As := [.int a3, .int (0 : Int32), .int (9 : Int32)]) (rest := []) rfl (by first | exact Nat.le_of_ble_eq_true rfl | simp [cat_rf, cat_i, cat_j, cat_f, cat_d]) dX4_setNeed_23 (ac_v ?_)
      refine g_if_eq X 40 dX4_setNeed_26 (by decide) (fun c13 => ?_) (fun c13 => ?_)
      · have hF := (if_pos c13).symm.trans hF
        refine g_aload_n X dX4_setNeed_40 rfl rfl ?_
        refine g_iconst (v := (1 : Int32)) X dX4_setNeed_41 (by decide) ?_
        obtain ⟨ob14, eob14, hF⟩ := bnd hF
        obtain ⟨v16, h15, eh15, hF⟩ := b2_some hF
        refine g_callV X eob14 rfl rfl (w_X4_fails l hl D dA h2 ob14 (1 : Int32) v16 h15 eh15) q1900 q1902 qs36 q103 q1903 okn_X4_fails ⟨by rw [hRf]; exact Nat.le_of_ble_eq_true rfl, by rw [hRl]; exact Nat.le_of_ble_eq_true rfl⟩ (As := [.int (1 : Int32)]) (rest := []) rfl (by first | exact Nat.le_of_ble_eq_true rfl | simp [cat_rf, cat_i, cat_j, cat_f, cat_d]) dX4_setNeed_42 (ac_v ?_)
        cases hF
        exact g_iret X hr dX4_setNeed_45
      · have hF := (if_neg c13).symm.trans hF
        refine g_iload X dX4_setNeed_29 rfl ?_
        refine g_iload_n X dX4_setNeed_31 rfl rfl ?_
        refine g_bipush (v := (10 : Int32)) X dX4_setNeed_32 (by decide) ?_
        refine g_callS X (w_X4_in l hl D dA h2 a4 a3 (10 : Int32)) q1873 q1874 q103 q1875 okn_X4_in ⟨by rw [hRf]; exact Nat.le_of_ble_eq_true rfl, by rw [hRl]; exact Nat.le_of_ble_eq_true rfl⟩ (As := [.int a4, .int a3, .int (10 : Int32)]) (rest := []) rfl (by first | exact Nat.le_of_ble_eq_true rfl | simp [cat_rf, cat_i, cat_j, cat_f, cat_d]) dX4_setNeed_34 (ac_v ?_)
        refine g_if_ne X 46 dX4_setNeed_37 (by decide) (fun c17 => ?_) (fun c17 => ?_)
        · have hF := (if_neg c17).symm.trans hF
          refine g_aload_n X dX4_setNeed_46 rfl rfl ?_
          refine g_iload_n X dX4_setNeed_47 rfl rfl ?_
          refine g_iconst (v := (2 : Int32)) X dX4_setNeed_48 (by decide) ?_
          refine g_iload_n X dX4_setNeed_49 rfl rfl ?_
          refine g_iadd X dX4_setNeed_50 ?_
          obtain ⟨ob18, eob18, hF⟩ := bnd hF
          obtain ⟨v19, ev19, hF⟩ := bnd hF
          refine g_callV X eob18 rfl rfl (w_X4_line l hl D dA h2 ob18 a1 ((2 : Int32) + a2) v19 ev19) q2064 q2066 qs59 q103 q2067 okn_X4_line ⟨by rw [hRf]; exact Nat.le_of_ble_eq_true rfl, by rw [hRl]; exact Nat.le_of_ble_eq_true rfl⟩ (As := [.int a1, .int ((2 : Int32) + a2)]) (rest := []) rfl (by first | exact Nat.le_of_ble_eq_true rfl | simp [cat_rf, cat_i, cat_j, cat_f, cat_d]) dX4_setNeed_51 (ac_v ?_)
          refine g_istore (L' := [some (va_rf (some this)), some (.int a1), some (.int a2), some (.int a3), some (.int a4), some (.int v19)]) X dX4_setNeed_54 (Nat.le_of_ble_eq_true rfl) (by first | rfl | simp [stL, rm1, clr2, cat_rf, cat_i, cat_j, cat_f, cat_d]) ?_
          refine g_aload_n X dX4_setNeed_56 rfl rfl ?_
          refine g_iload_n X dX4_setNeed_57 rfl rfl ?_
          refine g_iconst (v := (2 : Int32)) X dX4_setNeed_58 (by decide) ?_
          refine g_iload_n X dX4_setNeed_59 rfl rfl ?_
          refine g_iadd X dX4_setNeed_60 ?_
          refine g_iload_n X dX4_setNeed_61 rfl rfl ?_
          obtain ⟨ob20, eob20, hF⟩ := bnd hF
          obtain ⟨h21, eh21, hF⟩ := bnd hF
          refine g_callV X eob20 rfl rfl (w_X4_lays l hl D dA h2 ob20 a1 ((2 : Int32) + a2) a3 h21 eh21) q2052 q2054 qs57 q103 q2055 okn_X4_lays ⟨by rw [hRf]; exact Nat.le_of_ble_eq_true rfl, by rw [hRl]; exact Nat.le_of_ble_eq_true rfl⟩ (As := [.int a1, .int ((2 : Int32) + a2), .int a3]) (rest := []) rfl (by first | exact Nat.le_of_ble_eq_true rfl | simp [cat_rf, cat_i, cat_j, cat_f, cat_d]) dX4_setNeed_62 (ac_0 ?_)
          refine g_aload_n X dX4_setNeed_65 rfl rfl ?_
          refine g_iload_n X dX4_setNeed_66 rfl rfl ?_
          refine g_iconst (v := (5 : Int32)) X dX4_setNeed_67 (by decide) ?_
          refine g_iload_n X dX4_setNeed_68 rfl rfl ?_
          refine g_iadd X dX4_setNeed_69 ?_
          refine g_iload X dX4_setNeed_70 rfl ?_
          obtain ⟨ob22, eob22, hF⟩ := bnd hF
          obtain ⟨h23, eh23, hF⟩ := bnd hF
          refine g_callV X eob22 rfl rfl (w_X4_lays l hl D dA h21 ob22 a1 ((5 : Int32) + a2) a4 h23 eh23) q2052 q2054 qs57 q103 q2055 okn_X4_lays ⟨by rw [hRf]; exact Nat.le_of_ble_eq_true rfl, by rw [hRl]; exact Nat.le_of_ble_eq_true rfl⟩ (As := [.int a1, .int ((5 : Int32) + a2), .int a4]) (rest := []) rfl (by first | exact Nat.le_of_ble_eq_true rfl | simp [cat_rf, cat_i, cat_j, cat_f, cat_d]) dX4_setNeed_72 (ac_0 ?_)
          refine g_aload_n X dX4_setNeed_75 rfl rfl ?_
          refine g_iload X dX4_setNeed_76 rfl ?_
          obtain ⟨ob24, eob24, hF⟩ := bnd hF
          obtain ⟨v26, h25, eh25, hF⟩ := b2_some hF
          refine g_callV X eob24 rfl rfl (w_X4_ends l hl D dA h23 ob24 v19 v26 h25 eh25) q1896 q1898 qs35 q103 q1899 okn_X4_ends ⟨by rw [hRf]; exact Nat.le_of_ble_eq_true rfl, by rw [hRl]; exact Nat.le_of_ble_eq_true rfl⟩ (As := [.int v19]) (rest := []) rfl (by first | exact Nat.le_of_ble_eq_true rfl | simp [cat_rf, cat_i, cat_j, cat_f, cat_d]) dX4_setNeed_78 (ac_v ?_)
          cases hF
          exact g_iret X hr dX4_setNeed_81
        · have hF := (if_pos c17).symm.trans hF
          refine g_aload_n X dX4_setNeed_40 rfl rfl ?_
          refine g_iconst (v := (1 : Int32)) X dX4_setNeed_41 (by decide) ?_
          obtain ⟨ob27, eob27, hF⟩ := bnd hF
          obtain ⟨v29, h28, eh28, hF⟩ := b2_some hF
          refine g_callV X eob27 rfl rfl (w_X4_fails l hl D dA h2 ob27 (1 : Int32) v29 h28 eh28) q1900 q1902 qs36 q103 q1903 okn_X4_fails ⟨by rw [hRf]; exact Nat.le_of_ble_eq_true rfl, by rw [hRl]; exact Nat.le_of_ble_eq_true rfl⟩ (As := [.int (1 : Int32)]) (rest := []) rfl (by first | exact Nat.le_of_ble_eq_true rfl | simp [cat_rf, cat_i, cat_j, cat_f, cat_d]) dX4_setNeed_42 (ac_v ?_)
          cases hF
          exact g_iret X hr dX4_setNeed_45
def F_X4_turnReset_T19 (this : Nat) (a1 : Int32) (a2 : Int32) (h_19 : HH) : Option (Int32 × HH) :=
  Option.bind (isO h_19 1 (some this)) fun ob5 =>
  b2 (F_X4_fails ob5 (1 : Int32) h_19) fun v7 h6 =>
  some ((if v7 = (1 : Int32) then (1 : Int32) else (0 : Int32)), h6)
def F_X4_turnReset (this : Nat) (a1 : Int32) (a2 : Int32) (h0 : HH) : Option (Int32 × HH) :=
  Option.bind (isO h0 1 (some this)) fun ob1 =>
  Option.bind (F_X4_begins ob1 h0) fun h2 =>
  Option.bind (isO h2 1 (some this)) fun ob3 =>
  Option.bind (F_X4_isLine ob3 a1 h2) fun v4 =>
  if v4 = 0 then (
    F_X4_turnReset_T19 this a1 a2  h2
  ) else (
    if (F_X4_isClock a2) = 0 then (
      F_X4_turnReset_T19 this a1 a2  h2
    ) else (
      Option.bind (isO h2 1 (some this)) fun ob11 =>
      Option.bind (F_X4_line ob11 a1 (8 : Int32) h2) fun v12 =>
      Option.bind (isO h2 1 (some this)) fun ob13 =>
      Option.bind (F_X4_lays ob13 a1 (8 : Int32) (v12 ^^^ ((1 : Int32) <<< (a2 &&& 31))) h2) fun h14 =>
      Option.bind (isO h14 1 (some this)) fun ob15 =>
      b2 (F_X4_ends ob15 (((v12 ^^^ ((1 : Int32) <<< (a2 &&& 31))) >>> (a2 &&& 31)) &&& (1 : Int32)) h14) fun v17 h16 =>
      some ((if v17 = (1 : Int32) then (1 : Int32) else (0 : Int32)), h16)
    )
  )
set_option maxHeartbeats 4000000 in
theorem w_X4_turnReset (l : Launch) (hl : l.stackTraces = false) (D : va_G) (dA : Nat → ClassId) (h0 : HH) (this : Nat) (a1 : Int32) (a2 : Int32) (rE : Int32) (hE : HH) (hF : F_X4_turnReset this a1 a2 h0 = some (rE, hE)) : MC D dA l yX4_turnReset cX4_turnReset 4 (Option.some Jvm.ClassFile.FieldType.boolean) [] 3 66 [va_rf (some this), .int a1, .int a2] h0 (.inr (some (.int rE)), hE) := by
  refine mc_of hl (plainFor_of_name pn_X4) (by simp [lg_sl, cat_rf, cat_i, cat_j, cat_f, cat_d]) ?_
  intro p e s m args below meth c R hRf hRl X hr hnm
  unfold F_X4_turnReset at hF
  rw [show argL [va_rf (some this), .int a1, .int a2] = [some (va_rf (some this)), some (.int a1), some (.int a2)] from by simp [argL, cat_rf, cat_i, cat_j, cat_f, cat_d]]
  refine G.pad 1 (L' := [some (va_rf (some this)), some (.int a1), some (.int a2), none]) rfl ?_
  refine g_aload_n X dX4_turnReset_0 rfl rfl ?_
  obtain ⟨ob1, eob1, hF⟩ := bnd hF
  obtain ⟨h2, eh2, hF⟩ := bnd hF
  refine g_callV X eob1 rfl rfl (w_X4_begins l hl D dA h0 ob1  h2 eh2) q1859 q1861 qs31 q103 q1862 okn_X4_begins ⟨by rw [hRf]; exact Nat.le_of_ble_eq_true rfl, by rw [hRl]; exact Nat.le_of_ble_eq_true rfl⟩ (As := []) (rest := []) rfl (by first | exact Nat.le_of_ble_eq_true rfl | simp [cat_rf, cat_i, cat_j, cat_f, cat_d]) dX4_turnReset_1 (ac_0 ?_)
  refine g_aload_n X dX4_turnReset_4 rfl rfl ?_
  refine g_iload_n X dX4_turnReset_5 rfl rfl ?_
  obtain ⟨ob3, eob3, hF⟩ := bnd hF
  obtain ⟨v4, ev4, hF⟩ := bnd hF
  refine g_callV X eob3 rfl rfl (w_X4_isLine l hl D dA h2 ob3 a1 v4 ev4) q2060 q2062 qs58 q103 q2063 okn_X4_isLine ⟨by rw [hRf]; exact Nat.le_of_ble_eq_true rfl, by rw [hRl]; exact Nat.le_of_ble_eq_true rfl⟩ (As := [.int a1]) (rest := []) rfl (by first | exact Nat.le_of_ble_eq_true rfl | simp [cat_rf, cat_i, cat_j, cat_f, cat_d]) dX4_turnReset_6 (ac_v ?_)
  have T19 : ∀  (h_19 : HH) , F_X4_turnReset_T19 this a1 a2  h_19 = some (rE, hE) → G p l e R s m args below meth c (RQ D dA h0 (.inr (some (.int rE)), hE) below s) D dA h0 4 h_19 19 [some (va_rf (some this)), none, none, none] [] := by
    intro  h_19  hF 
    unfold F_X4_turnReset_T19 at hF
    refine g_aload_n X dX4_turnReset_19 rfl rfl ?_
    refine g_iconst (v := (1 : Int32)) X dX4_turnReset_20 (by decide) ?_
    obtain ⟨ob5, eob5, hF⟩ := bnd hF
    obtain ⟨v7, h6, eh6, hF⟩ := b2_some hF
    refine g_callV X eob5 rfl rfl (w_X4_fails l hl D dA h_19 ob5 (1 : Int32) v7 h6 eh6) q1900 q1902 qs36 q103 q1903 okn_X4_fails ⟨by rw [hRf]; exact Nat.le_of_ble_eq_true rfl, by rw [hRl]; exact Nat.le_of_ble_eq_true rfl⟩ (As := [.int (1 : Int32)]) (rest := []) rfl (by first | exact Nat.le_of_ble_eq_true rfl | simp [cat_rf, cat_i, cat_j, cat_f, cat_d]) dX4_turnReset_21 (ac_v ?_)
    refine g_iconst (v := (1 : Int32)) X dX4_turnReset_24 (by decide) ?_
    suffices K : G p l e R s m args below meth c (RQ D dA h0 (.inr (some (.int rE)), hE) below s) D dA h0 4 h6 33 [none, none, none, none] [.int (if v7 = (1 : Int32) then (1 : Int32) else (0 : Int32))] by
      refine g_icmp_ne X 32 dX4_turnReset_25 (by decide) (fun c8 => ?_) (fun c8 => ?_)
      · (try simp only [if_neg c8] at K)
        refine g_iconst (v := (0 : Int32)) X dX4_turnReset_32 (by decide) ?_
        refine G.drop [false, false, false, false] rfl ?_
        first | exact K | (simp only [if_neg c8]; exact K)
      · (try simp only [if_pos c8] at K)
        refine g_iconst (v := (1 : Int32)) X dX4_turnReset_28 (by decide) ?_
        refine g_goto X 33 dX4_turnReset_29 (by decide) ?_
        refine G.drop [false, false, false, false] rfl ?_
        first | exact K | (simp only [if_pos c8]; exact K)
    cases hF
    exact g_zret X hr (by (repeat' split) <;> rfl) dX4_turnReset_33
  refine g_if_eq X 19 dX4_turnReset_9 (by decide) (fun c9 => ?_) (fun c9 => ?_)
  · have hF := (if_pos c9).symm.trans hF
    refine G.drop [true, false, false, false] rfl ?_
    exact T19 _ hF
  · have hF := (if_neg c9).symm.trans hF
    refine g_iload_n X dX4_turnReset_12 rfl rfl ?_
    refine g_callS X (w_X4_isClock l hl D dA h2 a2) q1948 q1949 q103 q1950 okn_X4_isClock ⟨by rw [hRf]; exact Nat.le_of_ble_eq_true rfl, by rw [hRl]; exact Nat.le_of_ble_eq_true rfl⟩ (As := [.int a2]) (rest := []) rfl (by first | exact Nat.le_of_ble_eq_true rfl | simp [cat_rf, cat_i, cat_j, cat_f, cat_d]) dX4_turnReset_13 (ac_v ?_)
    refine g_if_ne X 34 dX4_turnReset_16 (by decide) (fun c10 => ?_) (fun c10 => ?_)
    · have hF := (if_neg c10).symm.trans hF
      refine g_aload_n X dX4_turnReset_34 rfl rfl ?_
      refine g_iload_n X dX4_turnReset_35 rfl rfl ?_
      refine g_bipush (v := (8 : Int32)) X dX4_turnReset_36 (by decide) ?_
      obtain ⟨ob11, eob11, hF⟩ := bnd hF
      obtain ⟨v12, ev12, hF⟩ := bnd hF
      refine g_callV X eob11 rfl rfl (w_X4_line l hl D dA h2 ob11 a1 (8 : Int32) v12 ev12) q2064 q2066 qs59 q103 q2067 okn_X4_line ⟨by rw [hRf]; exact Nat.le_of_ble_eq_true rfl, by rw [hRl]; exact Nat.le_of_ble_eq_true rfl⟩ (As := [.int a1, .int (8 : Int32)]) (rest := []) rfl (by first | exact Nat.le_of_ble_eq_true rfl | simp [cat_rf, cat_i, cat_j, cat_f, cat_d]) dX4_turnReset_38 (ac_v ?_)
      refine g_iconst (v := (1 : Int32)) X dX4_turnReset_41 (by decide) ?_
      refine g_iload_n X dX4_turnReset_42 rfl rfl ?_
      refine g_ishl X dX4_turnReset_43 ?_
      refine g_ixor X dX4_turnReset_44 ?_
      refine g_istore_n (L' := [some (va_rf (some this)), some (.int a1), some (.int a2), some (.int (v12 ^^^ ((1 : Int32) <<< (a2 &&& 31))))]) X dX4_turnReset_45 rfl (Nat.le_of_ble_eq_true rfl) (by first | rfl | simp [stL, rm1, clr2, cat_rf, cat_i, cat_j, cat_f, cat_d]) ?_
      refine g_aload_n X dX4_turnReset_46 rfl rfl ?_
      refine g_iload_n X dX4_turnReset_47 rfl rfl ?_
      refine g_bipush (v := (8 : Int32)) X dX4_turnReset_48 (by decide) ?_
      refine g_iload_n X dX4_turnReset_50 rfl rfl ?_
      obtain ⟨ob13, eob13, hF⟩ := bnd hF
      obtain ⟨h14, eh14, hF⟩ := bnd hF
      refine g_callV X eob13 rfl rfl (w_X4_lays l hl D dA h2 ob13 a1 (8 : Int32) (v12 ^^^ ((1 : Int32) <<< (a2 &&& 31))) h14 eh14) q2052 q2054 qs57 q103 q2055 okn_X4_lays ⟨by rw [hRf]; exact Nat.le_of_ble_eq_true rfl, by rw [hRl]; exact Nat.le_of_ble_eq_true rfl⟩ (As := [.int a1, .int (8 : Int32), .int (v12 ^^^ ((1 : Int32) <<< (a2 &&& 31)))]) (rest := []) rfl (by first | exact Nat.le_of_ble_eq_true rfl | simp [cat_rf, cat_i, cat_j, cat_f, cat_d]) dX4_turnReset_51 (ac_0 ?_)
      refine g_aload_n X dX4_turnReset_54 rfl rfl ?_
      refine g_iload_n X dX4_turnReset_55 rfl rfl ?_
      refine g_iload_n X dX4_turnReset_56 rfl rfl ?_
      refine g_ishr X dX4_turnReset_57 ?_
      refine g_iconst (v := (1 : Int32)) X dX4_turnReset_58 (by decide) ?_
      refine g_iand X dX4_turnReset_59 ?_
      obtain ⟨ob15, eob15, hF⟩ := bnd hF
      obtain ⟨v17, h16, eh16, hF⟩ := b2_some hF
      refine g_callV X eob15 rfl rfl (w_X4_ends l hl D dA h14 ob15 (((v12 ^^^ ((1 : Int32) <<< (a2 &&& 31))) >>> (a2 &&& 31)) &&& (1 : Int32)) v17 h16 eh16) q1896 q1898 qs35 q103 q1899 okn_X4_ends ⟨by rw [hRf]; exact Nat.le_of_ble_eq_true rfl, by rw [hRl]; exact Nat.le_of_ble_eq_true rfl⟩ (As := [.int (((v12 ^^^ ((1 : Int32) <<< (a2 &&& 31))) >>> (a2 &&& 31)) &&& (1 : Int32))]) (rest := []) rfl (by first | exact Nat.le_of_ble_eq_true rfl | simp [cat_rf, cat_i, cat_j, cat_f, cat_d]) dX4_turnReset_60 (ac_v ?_)
      refine g_iconst (v := (1 : Int32)) X dX4_turnReset_63 (by decide) ?_
      suffices K : G p l e R s m args below meth c (RQ D dA h0 (.inr (some (.int rE)), hE) below s) D dA h0 4 h16 72 [none, none, none, none] [.int (if v17 = (1 : Int32) then (1 : Int32) else (0 : Int32))] by
        refine g_icmp_ne X 71 dX4_turnReset_64 (by decide) (fun c18 => ?_) (fun c18 => ?_)
        · (try simp only [if_neg c18] at K)
          refine g_iconst (v := (0 : Int32)) X dX4_turnReset_71 (by decide) ?_
          refine G.drop [false, false, false, false] rfl ?_
          first | exact K | (simp only [if_neg c18]; exact K)
        · (try simp only [if_pos c18] at K)
          refine g_iconst (v := (1 : Int32)) X dX4_turnReset_67 (by decide) ?_
          refine g_goto X 72 dX4_turnReset_68 (by decide) ?_
          refine G.drop [false, false, false, false] rfl ?_
          first | exact K | (simp only [if_pos c18]; exact K)
      cases hF
      exact g_zret X hr (by (repeat' split) <;> rfl) dX4_turnReset_72
    · have hF := (if_pos c10).symm.trans hF
      refine G.drop [true, false, false, false] rfl ?_
      exact T19 _ hF
def F_X4_asks (this : Nat) (a1 : Int32) (h0 : HH) : Option (Int32 × HH) :=
  Option.bind (putV h0 1 8 (some this) (.int (if a1 = 0 then (1 : Int32) else (0 : Int32)))) fun h2 =>
  Option.bind (okZ a1) fun _ =>
  some (a1, h2)
set_option maxHeartbeats 4000000 in
theorem w_X4_asks (l : Launch) (hl : l.stackTraces = false) (D : va_G) (dA : Nat → ClassId) (h0 : HH) (this : Nat) (a1 : Int32) (rE : Int32) (hE : HH) (hF : F_X4_asks this a1 h0 = some (rE, hE)) : MC D dA l yX4_asks cX4_asks 2 (Option.some Jvm.ClassFile.FieldType.boolean) [] 0 0 [va_rf (some this), .int a1] h0 (.inr (some (.int rE)), hE) := by
  refine mc_of hl (plainFor_of_name pn_X4) (by simp [lg_sl, cat_rf, cat_i, cat_j, cat_f, cat_d]) ?_
  intro p e s m args below meth c R hRf hRl X hr hnm
  unfold F_X4_asks at hF
  rw [show argL [va_rf (some this), .int a1] = [some (va_rf (some this)), some (.int a1)] from by simp [argL, cat_rf, cat_i, cat_j, cat_f, cat_d]]
  refine g_aload_n X dX4_asks_0 rfl rfl ?_
  refine g_iload_n X dX4_asks_1 rfl rfl ?_
  suffices K : G p l e R s m args below meth c (RQ D dA h0 (.inr (some (.int rE)), hE) below s) D dA h0 2 h0 10 [none, some (.int a1)] [.int (if a1 = 0 then (1 : Int32) else (0 : Int32)), va_rf (some this)] by
    refine g_if_eq X 9 dX4_asks_2 (by decide) (fun c1 => ?_) (fun c1 => ?_)
    · (try simp only [if_pos c1] at K)
      refine g_iconst (v := (1 : Int32)) X dX4_asks_9 (by decide) ?_
      refine G.drop [false, true] rfl ?_
      first | exact K | (simp only [if_pos c1]; exact K)
    · (try simp only [if_neg c1] at K)
      refine g_iconst (v := (0 : Int32)) X dX4_asks_5 (by decide) ?_
      refine g_goto X 10 dX4_asks_6 (by decide) ?_
      refine G.drop [false, true] rfl ?_
      first | exact K | (simp only [if_neg c1]; exact K)
  obtain ⟨h2, eh2, hF⟩ := bnd hF
  refine g_put (k := 8) X in_X4 tyX4 tyX4_ok nmX4 rfl (by decide) q1771 (Or.inl rfl) rfl (tyX4_ok 8 (by decide)) rfl rfl eh2 dX4_asks_10 ?_
  refine g_iload_n X dX4_asks_13 rfl rfl ?_
  obtain ⟨_, z3, hF⟩ := bnd hF
  cases hF
  exact g_zret X hr (narZ z3) dX4_asks_14
def F_X4_bound (this : Nat) (a1 : Option Nat) (a2 : Int32) (h0 : HH) : Option (Int32 × HH) :=
  Option.bind (aldI h0 0 a1 a2) fun v1 =>
  if v1 = (100000 : Int32) then (
    Option.bind (isO h0 1 (some this)) fun ob4 =>
    b2 (F_X4_fails ob4 (2 : Int32) h0) fun v6 h5 =>
    some (v6, h5)
  ) else (
    Option.bind (aldI h0 0 a1 a2) fun v3 =>
    some (v3, h0)
  )
set_option maxHeartbeats 4000000 in
theorem w_X4_bound (l : Launch) (hl : l.stackTraces = false) (D : va_G) (dA : Nat → ClassId) (h0 : HH) (this : Nat) (a1 : Option Nat) (a2 : Int32) (rE : Int32) (hE : HH) (hF : F_X4_bound this a1 a2 h0 = some (rE, hE)) : MC D dA l yX4_bound cX4_bound 3 (Option.some Jvm.ClassFile.FieldType.int) [] 1 21 [va_rf (some this), va_rf a1, .int a2] h0 (.inr (some (.int rE)), hE) := by
  refine mc_of hl (plainFor_of_name pn_X4) (by simp [lg_sl, cat_rf, cat_i, cat_j, cat_f, cat_d]) ?_
  intro p e s m args below meth c R hRf hRl X hr hnm
  unfold F_X4_bound at hF
  rw [show argL [va_rf (some this), va_rf a1, .int a2] = [some (va_rf (some this)), some (va_rf a1), some (.int a2)] from by simp [argL, cat_rf, cat_i, cat_j, cat_f, cat_d]]
  refine g_aload_n X dX4_bound_0 rfl rfl ?_
  refine g_iload_n X dX4_bound_1 rfl rfl ?_
  obtain ⟨v1, ev1, hF⟩ := bnd hF
  refine g_iald X ev1 dX4_bound_2 ?_
  refine g_ldc (v := (100000 : Int32)) X q1762 dX4_bound_3 ?_
  refine g_icmp_ne X 16 dX4_bound_5 (by decide) (fun c2 => ?_) (fun c2 => ?_)
  · have hF := (if_neg c2).symm.trans hF
    refine g_aload_n X dX4_bound_16 rfl rfl ?_
    refine g_iload_n X dX4_bound_17 rfl rfl ?_
    obtain ⟨v3, ev3, hF⟩ := bnd hF
    refine g_iald X ev3 dX4_bound_18 ?_
    cases hF
    exact g_iret X hr dX4_bound_19
  · have hF := (if_pos c2).symm.trans hF
    refine g_aload_n X dX4_bound_8 rfl rfl ?_
    refine g_iconst (v := (2 : Int32)) X dX4_bound_9 (by decide) ?_
    obtain ⟨ob4, eob4, hF⟩ := bnd hF
    obtain ⟨v6, h5, eh5, hF⟩ := b2_some hF
    refine g_callV X eob4 rfl rfl (w_X4_fails l hl D dA h0 ob4 (2 : Int32) v6 h5 eh5) q1900 q1902 qs36 q103 q1903 okn_X4_fails ⟨by rw [hRf]; exact Nat.le_of_ble_eq_true rfl, by rw [hRl]; exact Nat.le_of_ble_eq_true rfl⟩ (As := [.int (2 : Int32)]) (rest := []) rfl (by first | exact Nat.le_of_ble_eq_true rfl | simp [cat_rf, cat_i, cat_j, cat_f, cat_d]) dX4_bound_10 (ac_v ?_)
    refine g_goto X 19 dX4_bound_13 (by decide) ?_
    cases hF
    exact g_iret X hr dX4_bound_19
def F_X4_told (this : Nat) (a1 : Int32) (a2 : Int32) (h0 : HH) : Option (Int32 × HH) :=
  Option.bind (isO h0 1 (some this)) fun ob1 =>
  b2 (F_X4_asks ob1 (F_X4_arePair a1 a2) h0) fun v3 h2 =>
  if v3 = 0 then (
    some ((0 : Int32), h2)
  ) else (
    Option.bind (getR h2 1 0 (some this)) fun v5 =>
    Option.bind (isO h2 1 (some this)) fun ob6 =>
    b2 (F_X4_bound ob6 v5 (((0 : Int32) + ((4 : Int32) * a1)) + a2) h2) fun v8 h7 =>
    some (v8, h7)
  )
set_option maxHeartbeats 4000000 in
theorem w_X4_told (l : Launch) (hl : l.stackTraces = false) (D : va_G) (dA : Nat → ClassId) (h0 : HH) (this : Nat) (a1 : Int32) (a2 : Int32) (rE : Int32) (hE : HH) (hF : F_X4_told this a1 a2 h0 = some (rE, hE)) : MC D dA l yX4_told cX4_told 3 (Option.some Jvm.ClassFile.FieldType.int) [] 2 43 [va_rf (some this), .int a1, .int a2] h0 (.inr (some (.int rE)), hE) := by
  refine mc_of hl (plainFor_of_name pn_X4) (by simp [lg_sl, cat_rf, cat_i, cat_j, cat_f, cat_d]) ?_
  intro p e s m args below meth c R hRf hRl X hr hnm
  unfold F_X4_told at hF
  rw [show argL [va_rf (some this), .int a1, .int a2] = [some (va_rf (some this)), some (.int a1), some (.int a2)] from by simp [argL, cat_rf, cat_i, cat_j, cat_f, cat_d]]
  refine g_aload_n X dX4_told_0 rfl rfl ?_
  refine g_iload_n X dX4_told_1 rfl rfl ?_
  refine g_iload_n X dX4_told_2 rfl rfl ?_
  refine g_callS X (w_X4_arePair l hl D dA h0 a1 a2) q1870 q1871 q103 q1872 okn_X4_arePair ⟨by rw [hRf]; exact Nat.le_of_ble_eq_true rfl, by rw [hRl]; exact Nat.le_of_ble_eq_true rfl⟩ (As := [.int a1, .int a2]) (rest := [va_rf (some this)]) rfl (by first | exact Nat.le_of_ble_eq_true rfl | simp [cat_rf, cat_i, cat_j, cat_f, cat_d]) dX4_told_3 (ac_v ?_)
  obtain ⟨ob1, eob1, hF⟩ := bnd hF
  obtain ⟨v3, h2, eh2, hF⟩ := b2_some hF
  refine g_callV X eob1 rfl rfl (w_X4_asks l hl D dA h0 ob1 (F_X4_arePair a1 a2) v3 h2 eh2) q2076 q2078 qs60 q103 q2079 okn_X4_asks ⟨by rw [hRf]; exact Nat.le_of_ble_eq_true rfl, by rw [hRl]; exact Nat.le_of_ble_eq_true rfl⟩ (As := [.int (F_X4_arePair a1 a2)]) (rest := []) rfl (by first | exact Nat.le_of_ble_eq_true rfl | simp [cat_rf, cat_i, cat_j, cat_f, cat_d]) dX4_told_6 (ac_v ?_)
  refine g_if_eq X 30 dX4_told_9 (by decide) (fun c4 => ?_) (fun c4 => ?_)
  · have hF := (if_pos c4).symm.trans hF
    refine g_iconst (v := (0 : Int32)) X dX4_told_30 (by decide) ?_
    cases hF
    exact g_iret X hr dX4_told_31
  · have hF := (if_neg c4).symm.trans hF
    refine g_aload_n X dX4_told_12 rfl rfl ?_
    refine g_aload_n X dX4_told_13 rfl rfl ?_
    obtain ⟨v5, ev5, hF⟩ := bnd hF
    refine g_get (k := 0) X in_X4 rfl (by decide) q1763 (Or.inl rfl) (getR_V ev5) dX4_told_14 ?_
    refine g_iconst (v := (0 : Int32)) X dX4_told_17 (by decide) ?_
    refine g_iconst (v := (4 : Int32)) X dX4_told_18 (by decide) ?_
    refine g_iload_n X dX4_told_19 rfl rfl ?_
    refine g_imul X dX4_told_20 ?_
    refine g_iadd X dX4_told_21 ?_
    refine g_iload_n X dX4_told_22 rfl rfl ?_
    refine g_iadd X dX4_told_23 ?_
    obtain ⟨ob6, eob6, hF⟩ := bnd hF
    obtain ⟨v8, h7, eh7, hF⟩ := b2_some hF
    refine g_callV X eob6 rfl rfl (w_X4_bound l hl D dA h2 ob6 v5 (((0 : Int32) + ((4 : Int32) * a1)) + a2) v8 h7 eh7) q2080 q2082 qs61 q103 q2083 okn_X4_bound ⟨by rw [hRf]; exact Nat.le_of_ble_eq_true rfl, by rw [hRl]; exact Nat.le_of_ble_eq_true rfl⟩ (As := [va_rf v5, .int (((0 : Int32) + ((4 : Int32) * a1)) + a2)]) (rest := []) rfl (by first | exact Nat.le_of_ble_eq_true rfl | simp [cat_rf, cat_i, cat_j, cat_f, cat_d]) dX4_told_24 (ac_v ?_)
    refine g_goto X 31 dX4_told_27 (by decide) ?_
    cases hF
    exact g_iret X hr dX4_told_31
def F_X4_tightened (this : Nat) (a1 : Int32) (a2 : Int32) (h0 : HH) : Option (Int32 × HH) :=
  Option.bind (isO h0 1 (some this)) fun ob1 =>
  b2 (F_X4_asks ob1 (F_X4_arePair a1 a2) h0) fun v3 h2 =>
  if v3 = 0 then (
    some ((0 : Int32), h2)
  ) else (
    Option.bind (isO h2 1 (some this)) fun ob5 =>
    b2 (F_X4_looks ob5 h2) fun v7 h6 =>
    if v7 = 0 then (
      Option.bind (isO h6 1 (some this)) fun ob9 =>
      b2 (F_X4_fails ob9 (2 : Int32) h6) fun v11 h10 =>
      some (v11, h10)
    ) else (
      Option.bind (getR h6 1 9 (some this)) fun v12 =>
      Option.bind (isO h6 1 (some this)) fun ob13 =>
      b2 (F_X4_bound ob13 v12 (((4 : Int32) * a1) + a2) h6) fun v15 h14 =>
      some (v15, h14)
    )
  )
set_option maxHeartbeats 4000000 in
theorem w_X4_tightened (l : Launch) (hl : l.stackTraces = false) (D : va_G) (dA : Nat → ClassId) (h0 : HH) (this : Nat) (a1 : Int32) (a2 : Int32) (rE : Int32) (hE : HH) (hF : F_X4_tightened this a1 a2 h0 = some (rE, hE)) : MC D dA l yX4_tightened cX4_tightened 3 (Option.some Jvm.ClassFile.FieldType.int) [] 3 66 [va_rf (some this), .int a1, .int a2] h0 (.inr (some (.int rE)), hE) := by
  refine mc_of hl (plainFor_of_name pn_X4) (by simp [lg_sl, cat_rf, cat_i, cat_j, cat_f, cat_d]) ?_
  intro p e s m args below meth c R hRf hRl X hr hnm
  unfold F_X4_tightened at hF
  rw [show argL [va_rf (some this), .int a1, .int a2] = [some (va_rf (some this)), some (.int a1), some (.int a2)] from by simp [argL, cat_rf, cat_i, cat_j, cat_f, cat_d]]
  refine g_aload_n X dX4_tightened_0 rfl rfl ?_
  refine g_iload_n X dX4_tightened_1 rfl rfl ?_
  refine g_iload_n X dX4_tightened_2 rfl rfl ?_
  refine g_callS X (w_X4_arePair l hl D dA h0 a1 a2) q1870 q1871 q103 q1872 okn_X4_arePair ⟨by rw [hRf]; exact Nat.le_of_ble_eq_true rfl, by rw [hRl]; exact Nat.le_of_ble_eq_true rfl⟩ (As := [.int a1, .int a2]) (rest := [va_rf (some this)]) rfl (by first | exact Nat.le_of_ble_eq_true rfl | simp [cat_rf, cat_i, cat_j, cat_f, cat_d]) dX4_tightened_3 (ac_v ?_)
  obtain ⟨ob1, eob1, hF⟩ := bnd hF
  obtain ⟨v3, h2, eh2, hF⟩ := b2_some hF
  refine g_callV X eob1 rfl rfl (w_X4_asks l hl D dA h0 ob1 (F_X4_arePair a1 a2) v3 h2 eh2) q2076 q2078 qs60 q103 q2079 okn_X4_asks ⟨by rw [hRf]; exact Nat.le_of_ble_eq_true rfl, by rw [hRl]; exact Nat.le_of_ble_eq_true rfl⟩ (As := [.int (F_X4_arePair a1 a2)]) (rest := []) rfl (by first | exact Nat.le_of_ble_eq_true rfl | simp [cat_rf, cat_i, cat_j, cat_f, cat_d]) dX4_tightened_6 (ac_v ?_)
  refine g_if_ne X 14 dX4_tightened_9 (by decide) (fun c4 => ?_) (fun c4 => ?_)
  · have hF := (if_neg c4).symm.trans hF
    refine g_aload_n X dX4_tightened_14 rfl rfl ?_
    obtain ⟨ob5, eob5, hF⟩ := bnd hF
    obtain ⟨v7, h6, eh6, hF⟩ := b2_some hF
    refine g_callV X eob5 rfl rfl (w_X4_looks l hl D dA h2 ob5  v7 h6 eh6) q1880 q1882 qs34 q103 q1883 okn_X4_looks ⟨by rw [hRf]; exact Nat.le_of_ble_eq_true rfl, by rw [hRl]; exact Nat.le_of_ble_eq_true rfl⟩ (As := []) (rest := []) rfl (by first | exact Nat.le_of_ble_eq_true rfl | simp [cat_rf, cat_i, cat_j, cat_f, cat_d]) dX4_tightened_15 (ac_v ?_)
    refine g_if_eq X 37 dX4_tightened_18 (by decide) (fun c8 => ?_) (fun c8 => ?_)
    · have hF := (if_pos c8).symm.trans hF
      refine g_aload_n X dX4_tightened_37 rfl rfl ?_
      refine g_iconst (v := (2 : Int32)) X dX4_tightened_38 (by decide) ?_
      obtain ⟨ob9, eob9, hF⟩ := bnd hF
      obtain ⟨v11, h10, eh10, hF⟩ := b2_some hF
      refine g_callV X eob9 rfl rfl (w_X4_fails l hl D dA h6 ob9 (2 : Int32) v11 h10 eh10) q1900 q1902 qs36 q103 q1903 okn_X4_fails ⟨by rw [hRf]; exact Nat.le_of_ble_eq_true rfl, by rw [hRl]; exact Nat.le_of_ble_eq_true rfl⟩ (As := [.int (2 : Int32)]) (rest := []) rfl (by first | exact Nat.le_of_ble_eq_true rfl | simp [cat_rf, cat_i, cat_j, cat_f, cat_d]) dX4_tightened_39 (ac_v ?_)
      cases hF
      exact g_iret X hr dX4_tightened_42
    · have hF := (if_neg c8).symm.trans hF
      refine g_aload_n X dX4_tightened_21 rfl rfl ?_
      refine g_aload_n X dX4_tightened_22 rfl rfl ?_
      obtain ⟨v12, ev12, hF⟩ := bnd hF
      refine g_get (k := 9) X in_X4 rfl (by decide) q1772 (Or.inl rfl) (getR_V ev12) dX4_tightened_23 ?_
      refine g_iconst (v := (4 : Int32)) X dX4_tightened_26 (by decide) ?_
      refine g_iload_n X dX4_tightened_27 rfl rfl ?_
      refine g_imul X dX4_tightened_28 ?_
      refine g_iload_n X dX4_tightened_29 rfl rfl ?_
      refine g_iadd X dX4_tightened_30 ?_
      obtain ⟨ob13, eob13, hF⟩ := bnd hF
      obtain ⟨v15, h14, eh14, hF⟩ := b2_some hF
      refine g_callV X eob13 rfl rfl (w_X4_bound l hl D dA h6 ob13 v12 (((4 : Int32) * a1) + a2) v15 h14 eh14) q2080 q2082 qs61 q103 q2083 okn_X4_bound ⟨by rw [hRf]; exact Nat.le_of_ble_eq_true rfl, by rw [hRl]; exact Nat.le_of_ble_eq_true rfl⟩ (As := [va_rf v12, .int (((4 : Int32) * a1) + a2)]) (rest := []) rfl (by first | exact Nat.le_of_ble_eq_true rfl | simp [cat_rf, cat_i, cat_j, cat_f, cat_d]) dX4_tightened_31 (ac_v ?_)
      refine g_goto X 42 dX4_tightened_34 (by decide) ?_
      cases hF
      exact g_iret X hr dX4_tightened_42
  · have hF := (if_pos c4).symm.trans hF
    refine g_iconst (v := (0 : Int32)) X dX4_tightened_12 (by decide) ?_
    cases hF
    exact g_iret X hr dX4_tightened_13
def F_X4_isTight_B12 (this : Nat) (x1_5 : Int32) (x2_5 : Int32) (h3 : HH) : Option ((Int32 × Int32) ⊕ Int32) :=
  if (16 : Int32) ≤ x2_5 then (
    some (.inr x1_5)
  ) else (
    if x1_5 = 0 then (
      some (.inl ((0 : Int32), (x2_5 + (1 : Int32))))
    ) else (
      Option.bind (getR h3 1 0 (some this)) fun v8 =>
      Option.bind (aldI h3 0 v8 ((0 : Int32) + x2_5)) fun v9 =>
      Option.bind (getR h3 1 9 (some this)) fun v10 =>
      Option.bind (aldI h3 0 v10 x2_5) fun v11 =>
      some (.inl ((if v9 = v11 then (1 : Int32) else (0 : Int32)), (x2_5 + (1 : Int32))))
    )
  )
def F_X4_isTight (this : Nat) (h0 : HH) : Option (Int32 × HH) :=
  Option.bind (putV h0 1 8 (some this) (.int (0 : Int32))) fun h1 =>
  Option.bind (isO h1 1 (some this)) fun ob2 =>
  b2 (F_X4_looks ob2 h1) fun v4 h3 =>
  Option.bind (lp (fun z => F_X4_isTight_B12 this z.1 z.2 h3) 100000 (v4, (0 : Int32))) fun v13 =>
  Option.bind (okZ v13) fun _ =>
  some (v13, h3)
set_option maxHeartbeats 4000000 in
theorem w_X4_isTight (l : Launch) (hl : l.stackTraces = false) (D : va_G) (dA : Nat → ClassId) (h0 : HH) (this : Nat) (rE : Int32) (hE : HH) (hF : F_X4_isTight this h0 = some (rE, hE)) : MC D dA l yX4_isTight cX4_isTight 3 (Option.some Jvm.ClassFile.FieldType.boolean) [] 3 66 [va_rf (some this)] h0 (.inr (some (.int rE)), hE) := by
  refine mc_of hl (plainFor_of_name pn_X4) (by simp [lg_sl, cat_rf, cat_i, cat_j, cat_f, cat_d]) ?_
  intro p e s m args below meth c R hRf hRl X hr hnm
  unfold F_X4_isTight at hF
  rw [show argL [va_rf (some this)] = [some (va_rf (some this))] from by simp [argL, cat_rf, cat_i, cat_j, cat_f, cat_d]]
  refine G.pad 2 (L' := [some (va_rf (some this)), none, none]) rfl ?_
  refine g_aload_n X dX4_isTight_0 rfl rfl ?_
  refine g_iconst (v := (0 : Int32)) X dX4_isTight_1 (by decide) ?_
  obtain ⟨h1, eh1, hF⟩ := bnd hF
  refine g_put (k := 8) X in_X4 tyX4 tyX4_ok nmX4 rfl (by decide) q1771 (Or.inl rfl) rfl (tyX4_ok 8 (by decide)) rfl rfl eh1 dX4_isTight_2 ?_
  refine g_aload_n X dX4_isTight_5 rfl rfl ?_
  obtain ⟨ob2, eob2, hF⟩ := bnd hF
  obtain ⟨v4, h3, eh3, hF⟩ := b2_some hF
  refine g_callV X eob2 rfl rfl (w_X4_looks l hl D dA h1 ob2  v4 h3 eh3) q1880 q1882 qs34 q103 q1883 okn_X4_looks ⟨by rw [hRf]; exact Nat.le_of_ble_eq_true rfl, by rw [hRl]; exact Nat.le_of_ble_eq_true rfl⟩ (As := []) (rest := []) rfl (by first | exact Nat.le_of_ble_eq_true rfl | simp [cat_rf, cat_i, cat_j, cat_f, cat_d]) dX4_isTight_6 (ac_v ?_)
  refine g_istore_n (L' := [some (va_rf (some this)), some (.int v4), none]) X dX4_isTight_9 rfl (Nat.le_of_ble_eq_true rfl) (by first | rfl | simp [stL, rm1, clr2, cat_rf, cat_i, cat_j, cat_f, cat_d]) ?_
  refine g_iconst (v := (0 : Int32)) X dX4_isTight_10 (by decide) ?_
  refine g_istore_n (L' := [some (va_rf (some this)), some (.int v4), some (.int (0 : Int32))]) X dX4_isTight_11 rfl (Nat.le_of_ble_eq_true rfl) (by first | rfl | simp [stL, rm1, clr2, cat_rf, cat_i, cat_j, cat_f, cat_d]) ?_
  obtain ⟨v13, e15, hF⟩ := bnd hF
  refine lp_ind (Gs := (fun z => G p l e R s m args below meth c (RQ D dA h0 (.inr (some (.int rE)), hE) below s) D dA h0 3 h3 12 [some (va_rf (some this)), some (.int z.1), some (.int z.2)] [])) (Ge := (fun z => G p l e R s m args below meth c (RQ D dA h0 (.inr (some (.int rE)), hE) below s) D dA h0 3 h3 51 [none, some (.int z), none] [])) ?_ _ _ _ e15 ?_
  · rintro ⟨x1_5, x2_5⟩ o hF hgo hr
    change F_X4_isTight_B12 this x1_5 x2_5 h3 = some o at hF
    unfold F_X4_isTight_B12 at hF
    show G p l e R s m args below meth c (RQ D dA h0 (.inr (some (.int rE)), hE) below s) D dA h0 3 h3 12 [some (va_rf (some this)), some (.int x1_5), some (.int x2_5)] []
    refine g_iload_n X dX4_isTight_12 rfl rfl ?_
    refine g_bipush (v := (16 : Int32)) X dX4_isTight_13 (by decide) ?_
    refine g_icmp_ge X 51 dX4_isTight_15 (by decide) (fun c6 => ?_) (fun c6 => ?_)
    · have hF := (if_pos c6).symm.trans hF
      refine G.drop [false, true, false] rfl ?_
      cases hF
      exact hr _ rfl
    · have hF := (if_neg c6).symm.trans hF
      refine g_iload_n X dX4_isTight_18 rfl rfl ?_
      refine g_if_eq X 43 dX4_isTight_19 (by decide) (fun c7 => ?_) (fun c7 => ?_)
      · have hF := (if_pos c7).symm.trans hF
        refine g_iconst (v := (0 : Int32)) X dX4_isTight_43 (by decide) ?_
        refine g_istore_n (L' := [some (va_rf (some this)), some (.int (0 : Int32)), some (.int x2_5)]) X dX4_isTight_44 rfl (Nat.le_of_ble_eq_true rfl) (by first | rfl | simp [stL, rm1, clr2, cat_rf, cat_i, cat_j, cat_f, cat_d]) ?_
        refine g_iinc (v := (x2_5 + (1 : Int32))) (L' := [some (va_rf (some this)), some (.int (0 : Int32)), some (.int (x2_5 + (1 : Int32)))]) X dX4_isTight_45 (Nat.le_of_ble_eq_true rfl) rfl rfl (by first | rfl | simp [stL, rm1, clr2, cat_rf, cat_i, cat_j, cat_f, cat_d]) ?_
        refine g_goto X 12 dX4_isTight_48 (by decide) ?_
        cases hF
        exact hgo _ rfl
      · have hF := (if_neg c7).symm.trans hF
        refine g_aload_n X dX4_isTight_22 rfl rfl ?_
        obtain ⟨v8, ev8, hF⟩ := bnd hF
        refine g_get (k := 0) X in_X4 rfl (by decide) q1763 (Or.inl rfl) (getR_V ev8) dX4_isTight_23 ?_
        refine g_iconst (v := (0 : Int32)) X dX4_isTight_26 (by decide) ?_
        refine g_iload_n X dX4_isTight_27 rfl rfl ?_
        refine g_iadd X dX4_isTight_28 ?_
        obtain ⟨v9, ev9, hF⟩ := bnd hF
        refine g_iald X ev9 dX4_isTight_29 ?_
        refine g_aload_n X dX4_isTight_30 rfl rfl ?_
        obtain ⟨v10, ev10, hF⟩ := bnd hF
        refine g_get (k := 9) X in_X4 rfl (by decide) q1772 (Or.inl rfl) (getR_V ev10) dX4_isTight_31 ?_
        refine g_iload_n X dX4_isTight_34 rfl rfl ?_
        obtain ⟨v11, ev11, hF⟩ := bnd hF
        refine g_iald X ev11 dX4_isTight_35 ?_
        suffices K : G p l e R s m args below meth c (RQ D dA h0 (.inr (some (.int rE)), hE) below s) D dA h0 3 h3 44 [some (va_rf (some this)), none, some (.int x2_5)] [.int (if v9 = v11 then (1 : Int32) else (0 : Int32))] by
          refine g_icmp_ne X 43 dX4_isTight_36 (by decide) (fun c12 => ?_) (fun c12 => ?_)
          · (try simp only [if_neg c12] at K)
            refine g_iconst (v := (0 : Int32)) X dX4_isTight_43 (by decide) ?_
            refine G.drop [true, false, true] rfl ?_
            first | exact K | (simp only [if_neg c12]; exact K)
          · (try simp only [if_pos c12] at K)
            refine g_iconst (v := (1 : Int32)) X dX4_isTight_39 (by decide) ?_
            refine g_goto X 44 dX4_isTight_40 (by decide) ?_
            refine G.drop [true, false, true] rfl ?_
            first | exact K | (simp only [if_pos c12]; exact K)
        refine g_istore_n (L' := [some (va_rf (some this)), some (.int (if v9 = v11 then (1 : Int32) else (0 : Int32))), some (.int x2_5)]) X dX4_isTight_44 rfl (Nat.le_of_ble_eq_true rfl) (by first | rfl | simp [stL, rm1, clr2, cat_rf, cat_i, cat_j, cat_f, cat_d]) ?_
        refine g_iinc (v := (x2_5 + (1 : Int32))) (L' := [some (va_rf (some this)), some (.int (if v9 = v11 then (1 : Int32) else (0 : Int32))), some (.int (x2_5 + (1 : Int32)))]) X dX4_isTight_45 (Nat.le_of_ble_eq_true rfl) rfl rfl (by first | rfl | simp [stL, rm1, clr2, cat_rf, cat_i, cat_j, cat_f, cat_d]) ?_
        refine g_goto X 12 dX4_isTight_48 (by decide) ?_
        cases hF
        exact hgo _ rfl
  show G p l e R s m args below meth c (RQ D dA h0 (.inr (some (.int rE)), hE) below s) D dA h0 3 h3 51 [none, some (.int v13), none] []
  refine g_iload_n X dX4_isTight_51 rfl rfl ?_
  obtain ⟨_, z14, hF⟩ := bnd hF
  cases hF
  exact g_zret X hr (narZ z14) dX4_isTight_52
def F_X4_hasNone (this : Nat) (h0 : HH) : Option (Int32 × HH) :=
  Option.bind (putV h0 1 8 (some this) (.int (0 : Int32))) fun h1 =>
  Option.bind (isO h1 1 (some this)) fun ob2 =>
  b2 (F_X4_looks ob2 h1) fun v4 h3 =>
  some ((if v4 = 0 then (1 : Int32) else (0 : Int32)), h3)
set_option maxHeartbeats 4000000 in
theorem w_X4_hasNone (l : Launch) (hl : l.stackTraces = false) (D : va_G) (dA : Nat → ClassId) (h0 : HH) (this : Nat) (rE : Int32) (hE : HH) (hF : F_X4_hasNone this h0 = some (rE, hE)) : MC D dA l yX4_hasNone cX4_hasNone 1 (Option.some Jvm.ClassFile.FieldType.boolean) [] 3 66 [va_rf (some this)] h0 (.inr (some (.int rE)), hE) := by
  refine mc_of hl (plainFor_of_name pn_X4) (by simp [lg_sl, cat_rf, cat_i, cat_j, cat_f, cat_d]) ?_
  intro p e s m args below meth c R hRf hRl X hr hnm
  unfold F_X4_hasNone at hF
  rw [show argL [va_rf (some this)] = [some (va_rf (some this))] from by simp [argL, cat_rf, cat_i, cat_j, cat_f, cat_d]]
  refine g_aload_n X dX4_hasNone_0 rfl rfl ?_
  refine g_iconst (v := (0 : Int32)) X dX4_hasNone_1 (by decide) ?_
  obtain ⟨h1, eh1, hF⟩ := bnd hF
  refine g_put (k := 8) X in_X4 tyX4 tyX4_ok nmX4 rfl (by decide) q1771 (Or.inl rfl) rfl (tyX4_ok 8 (by decide)) rfl rfl eh1 dX4_hasNone_2 ?_
  refine g_aload_n X dX4_hasNone_5 rfl rfl ?_
  obtain ⟨ob2, eob2, hF⟩ := bnd hF
  obtain ⟨v4, h3, eh3, hF⟩ := b2_some hF
  refine g_callV X eob2 rfl rfl (w_X4_looks l hl D dA h1 ob2  v4 h3 eh3) q1880 q1882 qs34 q103 q1883 okn_X4_looks ⟨by rw [hRf]; exact Nat.le_of_ble_eq_true rfl, by rw [hRl]; exact Nat.le_of_ble_eq_true rfl⟩ (As := []) (rest := []) rfl (by first | exact Nat.le_of_ble_eq_true rfl | simp [cat_rf, cat_i, cat_j, cat_f, cat_d]) dX4_hasNone_6 (ac_v ?_)
  suffices K : G p l e R s m args below meth c (RQ D dA h0 (.inr (some (.int rE)), hE) below s) D dA h0 1 h3 17 [none] [.int (if v4 = 0 then (1 : Int32) else (0 : Int32))] by
    refine g_if_ne X 16 dX4_hasNone_9 (by decide) (fun c5 => ?_) (fun c5 => ?_)
    · (try simp only [if_neg c5] at K)
      refine g_iconst (v := (0 : Int32)) X dX4_hasNone_16 (by decide) ?_
      refine G.drop [false] rfl ?_
      first | exact K | (simp only [if_neg c5]; exact K)
    · (try simp only [if_pos c5] at K)
      refine g_iconst (v := (1 : Int32)) X dX4_hasNone_12 (by decide) ?_
      refine g_goto X 17 dX4_hasNone_13 (by decide) ?_
      refine G.drop [false] rfl ?_
      first | exact K | (simp only [if_pos c5]; exact K)
  cases hF
  exact g_zret X hr (by (repeat' split) <;> rfl) dX4_hasNone_17
def F_X4_isEmpty (this : Nat) (h0 : HH) : Option (Int32 × HH) :=
  Option.bind (isO h0 1 (some this)) fun ob1 =>
  b2 (F_X4_hasNone ob1 h0) fun v3 h2 =>
  Option.bind (okZ v3) fun _ =>
  some (v3, h2)
set_option maxHeartbeats 4000000 in
theorem w_X4_isEmpty (l : Launch) (hl : l.stackTraces = false) (D : va_G) (dA : Nat → ClassId) (h0 : HH) (this : Nat) (rE : Int32) (hE : HH) (hF : F_X4_isEmpty this h0 = some (rE, hE)) : MC D dA l yX4_isEmpty cX4_isEmpty 1 (Option.some Jvm.ClassFile.FieldType.boolean) [] 4 86 [va_rf (some this)] h0 (.inr (some (.int rE)), hE) := by
  refine mc_of hl (plainFor_of_name pn_X4) (by simp [lg_sl, cat_rf, cat_i, cat_j, cat_f, cat_d]) ?_
  intro p e s m args below meth c R hRf hRl X hr hnm
  unfold F_X4_isEmpty at hF
  rw [show argL [va_rf (some this)] = [some (va_rf (some this))] from by simp [argL, cat_rf, cat_i, cat_j, cat_f, cat_d]]
  refine g_aload_n X dX4_isEmpty_0 rfl rfl ?_
  obtain ⟨ob1, eob1, hF⟩ := bnd hF
  obtain ⟨v3, h2, eh2, hF⟩ := b2_some hF
  refine g_callV X eob1 rfl rfl (w_X4_hasNone l hl D dA h0 ob1  v3 h2 eh2) q2096 q2098 qs62 q103 q2099 okn_X4_hasNone ⟨by rw [hRf]; exact Nat.le_of_ble_eq_true rfl, by rw [hRl]; exact Nat.le_of_ble_eq_true rfl⟩ (As := []) (rest := []) rfl (by first | exact Nat.le_of_ble_eq_true rfl | simp [cat_rf, cat_i, cat_j, cat_f, cat_d]) dX4_isEmpty_1 (ac_v ?_)
  obtain ⟨_, z4, hF⟩ := bnd hF
  cases hF
  exact g_zret X hr (narZ z4) dX4_isEmpty_4
def F_X4_isEmptyByMoments (this : Nat) (h0 : HH) : Option (Int32 × HH) :=
  Option.bind (isO h0 1 (some this)) fun ob1 =>
  b2 (F_X4_hasNone ob1 h0) fun v3 h2 =>
  Option.bind (okZ v3) fun _ =>
  some (v3, h2)
set_option maxHeartbeats 4000000 in
theorem w_X4_isEmptyByMoments (l : Launch) (hl : l.stackTraces = false) (D : va_G) (dA : Nat → ClassId) (h0 : HH) (this : Nat) (rE : Int32) (hE : HH) (hF : F_X4_isEmptyByMoments this h0 = some (rE, hE)) : MC D dA l yX4_isEmptyByMoments cX4_isEmptyByMoments 1 (Option.some Jvm.ClassFile.FieldType.boolean) [] 4 86 [va_rf (some this)] h0 (.inr (some (.int rE)), hE) := by
  refine mc_of hl (plainFor_of_name pn_X4) (by simp [lg_sl, cat_rf, cat_i, cat_j, cat_f, cat_d]) ?_
  intro p e s m args below meth c R hRf hRl X hr hnm
  unfold F_X4_isEmptyByMoments at hF
  rw [show argL [va_rf (some this)] = [some (va_rf (some this))] from by simp [argL, cat_rf, cat_i, cat_j, cat_f, cat_d]]
  refine g_aload_n X dX4_isEmptyByMoments_0 rfl rfl ?_
  obtain ⟨ob1, eob1, hF⟩ := bnd hF
  obtain ⟨v3, h2, eh2, hF⟩ := b2_some hF
  refine g_callV X eob1 rfl rfl (w_X4_hasNone l hl D dA h0 ob1  v3 h2 eh2) q2096 q2098 qs62 q103 q2099 okn_X4_hasNone ⟨by rw [hRf]; exact Nat.le_of_ble_eq_true rfl, by rw [hRl]; exact Nat.le_of_ble_eq_true rfl⟩ (As := []) (rest := []) rfl (by first | exact Nat.le_of_ble_eq_true rfl | simp [cat_rf, cat_i, cat_j, cat_f, cat_d]) dX4_isEmptyByMoments_1 (ac_v ?_)
  obtain ⟨_, z4, hF⟩ := bnd hF
  cases hF
  exact g_zret X hr (narZ z4) dX4_isEmptyByMoments_4
def F_X4_allows_B6 (a1 : Option Nat) (a2 : Int32) (a3 : Int32) (a4 : Int32) (a5 : Int32) (x5_1 : Int32) (x6_1 : Int32) (h0 : HH) : Option ((Int32 × Int32) ⊕ Int32) :=
  if (16 : Int32) ≤ x6_1 then (
    some (.inr x5_1)
  ) else (
    if x5_1 = 0 then (
      some (.inl ((0 : Int32), (x6_1 + (1 : Int32))))
    ) else (
      Option.bind (aldI h0 0 a1 (a2 + x6_1)) fun v10 =>
      if v10 = (100000 : Int32) then (
        some (.inl ((1 : Int32), (x6_1 + (1 : Int32))))
      ) else (
        Option.bind (aldI h0 0 a1 (a2 + x6_1)) fun v12 =>
        some (.inl ((if v12 < ((if (x6_1 / (4 : Int32)) = 0 then a3 else (if (x6_1 / (4 : Int32)) = (1 : Int32) then a4 else (if (x6_1 / (4 : Int32)) = (2 : Int32) then a5 else (0 : Int32)))) - (if (x6_1 - x6_1 / (4 : Int32) * (4 : Int32)) = 0 then a3 else (if (x6_1 - x6_1 / (4 : Int32) * (4 : Int32)) = (1 : Int32) then a4 else (if (x6_1 - x6_1 / (4 : Int32) * (4 : Int32)) = (2 : Int32) then a5 else (0 : Int32))))) then (0 : Int32) else (1 : Int32)), (x6_1 + (1 : Int32))))
      )
    )
  )
def F_X4_allows (a1 : Option Nat) (a2 : Int32) (a3 : Int32) (a4 : Int32) (a5 : Int32) (h0 : HH) : Option Int32 :=
  Option.bind (lp (fun z => F_X4_allows_B6 a1 a2 a3 a4 a5 z.1 z.2 h0) 100000 ((1 : Int32), (0 : Int32))) fun v14 =>
  Option.bind (okZ v14) fun _ =>
  some v14
set_option maxHeartbeats 4000000 in
theorem w_X4_allows (l : Launch) (hl : l.stackTraces = false) (D : va_G) (dA : Nat → ClassId) (h0 : HH) (a1 : Option Nat) (a2 : Int32) (a3 : Int32) (a4 : Int32) (a5 : Int32) (rE : Int32) (hF : F_X4_allows a1 a2 a3 a4 a5 h0 = some rE) : MC D dA l yX4_allows cX4_allows 11 (Option.some Jvm.ClassFile.FieldType.boolean) [] 0 0 [va_rf a1, .int a2, .int a3, .int a4, .int a5] h0 (.inr (some (.int rE)), h0) := by
  refine mc_of hl (plainFor_of_name pn_X4) (by simp [lg_sl, cat_rf, cat_i, cat_j, cat_f, cat_d]) ?_
  intro p e s m args below meth c R hRf hRl X hr hnm
  unfold F_X4_allows at hF
  rw [show argL [va_rf a1, .int a2, .int a3, .int a4, .int a5] = [some (va_rf a1), some (.int a2), some (.int a3), some (.int a4), some (.int a5)] from by simp [argL, cat_rf, cat_i, cat_j, cat_f, cat_d]]
  refine G.pad 6 (L' := [some (va_rf a1), some (.int a2), some (.int a3), some (.int a4), some (.int a5), none, none, none, none, none, none]) rfl ?_
  refine g_iconst (v := (1 : Int32)) X dX4_allows_0 (by decide) ?_
  refine g_istore (L' := [some (va_rf a1), some (.int a2), some (.int a3), some (.int a4), some (.int a5), some (.int (1 : Int32)), none, none, none, none, none]) X dX4_allows_1 (Nat.le_of_ble_eq_true rfl) (by first | rfl | simp [stL, rm1, clr2, cat_rf, cat_i, cat_j, cat_f, cat_d]) ?_
  refine g_iconst (v := (0 : Int32)) X dX4_allows_3 (by decide) ?_
  refine g_istore (L' := [some (va_rf a1), some (.int a2), some (.int a3), some (.int a4), some (.int a5), some (.int (1 : Int32)), some (.int (0 : Int32)), none, none, none, none]) X dX4_allows_4 (Nat.le_of_ble_eq_true rfl) (by first | rfl | simp [stL, rm1, clr2, cat_rf, cat_i, cat_j, cat_f, cat_d]) ?_
  obtain ⟨v14, e16, hF⟩ := bnd hF
  refine lp_ind (Gs := (fun z => G p l e R s m args below meth c (RQ D dA h0 (.inr (some (.int rE)), h0) below s) D dA h0 11 h0 6 [some (va_rf a1), some (.int a2), some (.int a3), some (.int a4), some (.int a5), some (.int z.1), some (.int z.2), none, none, none, none] [])) (Ge := (fun z => G p l e R s m args below meth c (RQ D dA h0 (.inr (some (.int rE)), h0) below s) D dA h0 11 h0 134 [none, none, none, none, none, some (.int z), none, none, none, none, none] [])) ?_ _ _ _ e16 ?_
  · rintro ⟨x5_1, x6_1⟩ o hF hgo hr
    change F_X4_allows_B6 a1 a2 a3 a4 a5 x5_1 x6_1 h0 = some o at hF
    unfold F_X4_allows_B6 at hF
    show G p l e R s m args below meth c (RQ D dA h0 (.inr (some (.int rE)), h0) below s) D dA h0 11 h0 6 [some (va_rf a1), some (.int a2), some (.int a3), some (.int a4), some (.int a5), some (.int x5_1), some (.int x6_1), none, none, none, none] []
    refine g_iload X dX4_allows_6 rfl ?_
    refine g_bipush (v := (16 : Int32)) X dX4_allows_8 (by decide) ?_
    refine g_icmp_ge X 134 dX4_allows_10 (by decide) (fun c2 => ?_) (fun c2 => ?_)
    · have hF := (if_pos c2).symm.trans hF
      refine G.drop [false, false, false, false, false, true, false, false, false, false, false] rfl ?_
      cases hF
      exact hr _ rfl
    · have hF := (if_neg c2).symm.trans hF
      refine g_iload X dX4_allows_13 rfl ?_
      refine g_iconst (v := (4 : Int32)) X dX4_allows_15 (by decide) ?_
      refine g_idiv X dX4_allows_16 (by decide) ?_
      refine g_istore (L' := [some (va_rf a1), some (.int a2), some (.int a3), some (.int a4), some (.int a5), some (.int x5_1), some (.int x6_1), some (.int (x6_1 / (4 : Int32))), none, none, none]) X dX4_allows_17 (Nat.le_of_ble_eq_true rfl) (by first | rfl | simp [stL, rm1, clr2, cat_rf, cat_i, cat_j, cat_f, cat_d]) ?_
      refine g_iload X dX4_allows_19 rfl ?_
      refine g_iconst (v := (4 : Int32)) X dX4_allows_21 (by decide) ?_
      refine g_irem X dX4_allows_22 (by decide) ?_
      refine g_istore (L' := [some (va_rf a1), some (.int a2), some (.int a3), some (.int a4), some (.int a5), some (.int x5_1), some (.int x6_1), some (.int (x6_1 / (4 : Int32))), some (.int (x6_1 - x6_1 / (4 : Int32) * (4 : Int32))), none, none]) X dX4_allows_23 (Nat.le_of_ble_eq_true rfl) (by first | rfl | simp [stL, rm1, clr2, cat_rf, cat_i, cat_j, cat_f, cat_d]) ?_
      refine g_iload X dX4_allows_25 rfl ?_
      suffices K : G p l e R s m args below meth c (RQ D dA h0 (.inr (some (.int rE)), h0) below s) D dA h0 11 h0 56 [some (va_rf a1), some (.int a2), some (.int a3), some (.int a4), some (.int a5), some (.int x5_1), some (.int x6_1), none, some (.int (x6_1 - x6_1 / (4 : Int32) * (4 : Int32))), none, none] [.int (if (x6_1 / (4 : Int32)) = 0 then a3 else (if (x6_1 / (4 : Int32)) = (1 : Int32) then a4 else (if (x6_1 / (4 : Int32)) = (2 : Int32) then a5 else (0 : Int32))))] by
        refine g_if_ne X 34 dX4_allows_27 (by decide) (fun c3 => ?_) (fun c3 => ?_)
        · (try simp only [if_neg c3] at K)
          refine g_iload X dX4_allows_34 rfl ?_
          refine g_iconst (v := (1 : Int32)) X dX4_allows_36 (by decide) ?_
          refine g_icmp_ne X 44 dX4_allows_37 (by decide) (fun c4 => ?_) (fun c4 => ?_)
          · (try simp only [if_neg c4] at K)
            refine g_iload X dX4_allows_44 rfl ?_
            refine g_iconst (v := (2 : Int32)) X dX4_allows_46 (by decide) ?_
            refine g_icmp_ne X 55 dX4_allows_47 (by decide) (fun c5 => ?_) (fun c5 => ?_)
            · (try simp only [if_neg c5] at K)
              refine g_iconst (v := (0 : Int32)) X dX4_allows_55 (by decide) ?_
              refine G.drop [true, true, true, true, true, true, true, false, true, false, false] rfl ?_
              first | exact K | (simp only [if_neg c3, if_neg c4, if_neg c5]; exact K)
            · (try simp only [if_pos c5] at K)
              refine g_iload X dX4_allows_50 rfl ?_
              refine g_goto X 56 dX4_allows_52 (by decide) ?_
              refine G.drop [true, true, true, true, true, true, true, false, true, false, false] rfl ?_
              first | exact K | (simp only [if_neg c3, if_neg c4, if_pos c5]; exact K)
          · (try simp only [if_pos c4] at K)
            refine g_iload_n X dX4_allows_40 rfl rfl ?_
            refine g_goto X 56 dX4_allows_41 (by decide) ?_
            refine G.drop [true, true, true, true, true, true, true, false, true, false, false] rfl ?_
            first | exact K | (simp only [if_neg c3, if_pos c4]; exact K)
        · (try simp only [if_pos c3] at K)
          refine g_iload_n X dX4_allows_30 rfl rfl ?_
          refine g_goto X 56 dX4_allows_31 (by decide) ?_
          refine G.drop [true, true, true, true, true, true, true, false, true, false, false] rfl ?_
          first | exact K | (simp only [if_pos c3]; exact K)
      refine g_istore (L' := [some (va_rf a1), some (.int a2), some (.int a3), some (.int a4), some (.int a5), some (.int x5_1), some (.int x6_1), none, some (.int (x6_1 - x6_1 / (4 : Int32) * (4 : Int32))), some (.int (if (x6_1 / (4 : Int32)) = 0 then a3 else (if (x6_1 / (4 : Int32)) = (1 : Int32) then a4 else (if (x6_1 / (4 : Int32)) = (2 : Int32) then a5 else (0 : Int32))))), none]) X dX4_allows_56 (Nat.le_of_ble_eq_true rfl) (by first | rfl | simp [stL, rm1, clr2, cat_rf, cat_i, cat_j, cat_f, cat_d]) ?_
      refine g_iload X dX4_allows_58 rfl ?_
      suffices K : G p l e R s m args below meth c (RQ D dA h0 (.inr (some (.int rE)), h0) below s) D dA h0 11 h0 89 [some (va_rf a1), some (.int a2), some (.int a3), some (.int a4), some (.int a5), some (.int x5_1), some (.int x6_1), none, none, some (.int (if (x6_1 / (4 : Int32)) = 0 then a3 else (if (x6_1 / (4 : Int32)) = (1 : Int32) then a4 else (if (x6_1 / (4 : Int32)) = (2 : Int32) then a5 else (0 : Int32))))), none] [.int (if (x6_1 - x6_1 / (4 : Int32) * (4 : Int32)) = 0 then a3 else (if (x6_1 - x6_1 / (4 : Int32) * (4 : Int32)) = (1 : Int32) then a4 else (if (x6_1 - x6_1 / (4 : Int32) * (4 : Int32)) = (2 : Int32) then a5 else (0 : Int32))))] by
        refine g_if_ne X 67 dX4_allows_60 (by decide) (fun c6 => ?_) (fun c6 => ?_)
        · (try simp only [if_neg c6] at K)
          refine g_iload X dX4_allows_67 rfl ?_
          refine g_iconst (v := (1 : Int32)) X dX4_allows_69 (by decide) ?_
          refine g_icmp_ne X 77 dX4_allows_70 (by decide) (fun c7 => ?_) (fun c7 => ?_)
          · (try simp only [if_neg c7] at K)
            refine g_iload X dX4_allows_77 rfl ?_
            refine g_iconst (v := (2 : Int32)) X dX4_allows_79 (by decide) ?_
            refine g_icmp_ne X 88 dX4_allows_80 (by decide) (fun c8 => ?_) (fun c8 => ?_)
            · (try simp only [if_neg c8] at K)
              refine g_iconst (v := (0 : Int32)) X dX4_allows_88 (by decide) ?_
              refine G.drop [true, true, true, true, true, true, true, false, false, true, false] rfl ?_
              first | exact K | (simp only [if_neg c6, if_neg c7, if_neg c8]; exact K)
            · (try simp only [if_pos c8] at K)
              refine g_iload X dX4_allows_83 rfl ?_
              refine g_goto X 89 dX4_allows_85 (by decide) ?_
              refine G.drop [true, true, true, true, true, true, true, false, false, true, false] rfl ?_
              first | exact K | (simp only [if_neg c6, if_neg c7, if_pos c8]; exact K)
          · (try simp only [if_pos c7] at K)
            refine g_iload_n X dX4_allows_73 rfl rfl ?_
            refine g_goto X 89 dX4_allows_74 (by decide) ?_
            refine G.drop [true, true, true, true, true, true, true, false, false, true, false] rfl ?_
            first | exact K | (simp only [if_neg c6, if_pos c7]; exact K)
        · (try simp only [if_pos c6] at K)
          refine g_iload_n X dX4_allows_63 rfl rfl ?_
          refine g_goto X 89 dX4_allows_64 (by decide) ?_
          refine G.drop [true, true, true, true, true, true, true, false, false, true, false] rfl ?_
          first | exact K | (simp only [if_pos c6]; exact K)
      refine g_istore (L' := [some (va_rf a1), some (.int a2), some (.int a3), some (.int a4), some (.int a5), some (.int x5_1), some (.int x6_1), none, none, some (.int (if (x6_1 / (4 : Int32)) = 0 then a3 else (if (x6_1 / (4 : Int32)) = (1 : Int32) then a4 else (if (x6_1 / (4 : Int32)) = (2 : Int32) then a5 else (0 : Int32))))), some (.int (if (x6_1 - x6_1 / (4 : Int32) * (4 : Int32)) = 0 then a3 else (if (x6_1 - x6_1 / (4 : Int32) * (4 : Int32)) = (1 : Int32) then a4 else (if (x6_1 - x6_1 / (4 : Int32) * (4 : Int32)) = (2 : Int32) then a5 else (0 : Int32)))))]) X dX4_allows_89 (Nat.le_of_ble_eq_true rfl) (by first | rfl | simp [stL, rm1, clr2, cat_rf, cat_i, cat_j, cat_f, cat_d]) ?_
      refine g_iload X dX4_allows_91 rfl ?_
      refine g_if_eq X 125 dX4_allows_93 (by decide) (fun c9 => ?_) (fun c9 => ?_)
      · have hF := (if_pos c9).symm.trans hF
        refine g_iconst (v := (0 : Int32)) X dX4_allows_125 (by decide) ?_
        refine g_istore (L' := [some (va_rf a1), some (.int a2), some (.int a3), some (.int a4), some (.int a5), some (.int (0 : Int32)), some (.int x6_1), none, none, some (.int (if (x6_1 / (4 : Int32)) = 0 then a3 else (if (x6_1 / (4 : Int32)) = (1 : Int32) then a4 else (if (x6_1 / (4 : Int32)) = (2 : Int32) then a5 else (0 : Int32))))), some (.int (if (x6_1 - x6_1 / (4 : Int32) * (4 : Int32)) = 0 then a3 else (if (x6_1 - x6_1 / (4 : Int32) * (4 : Int32)) = (1 : Int32) then a4 else (if (x6_1 - x6_1 / (4 : Int32) * (4 : Int32)) = (2 : Int32) then a5 else (0 : Int32)))))]) X dX4_allows_126 (Nat.le_of_ble_eq_true rfl) (by first | rfl | simp [stL, rm1, clr2, cat_rf, cat_i, cat_j, cat_f, cat_d]) ?_
        refine g_iinc (v := (x6_1 + (1 : Int32))) (L' := [some (va_rf a1), some (.int a2), some (.int a3), some (.int a4), some (.int a5), some (.int (0 : Int32)), some (.int (x6_1 + (1 : Int32))), none, none, some (.int (if (x6_1 / (4 : Int32)) = 0 then a3 else (if (x6_1 / (4 : Int32)) = (1 : Int32) then a4 else (if (x6_1 / (4 : Int32)) = (2 : Int32) then a5 else (0 : Int32))))), some (.int (if (x6_1 - x6_1 / (4 : Int32) * (4 : Int32)) = 0 then a3 else (if (x6_1 - x6_1 / (4 : Int32) * (4 : Int32)) = (1 : Int32) then a4 else (if (x6_1 - x6_1 / (4 : Int32) * (4 : Int32)) = (2 : Int32) then a5 else (0 : Int32)))))]) X dX4_allows_128 (Nat.le_of_ble_eq_true rfl) rfl rfl (by first | rfl | simp [stL, rm1, clr2, cat_rf, cat_i, cat_j, cat_f, cat_d]) ?_
        refine g_goto X 6 dX4_allows_131 (by decide) ?_
        refine G.drop [true, true, true, true, true, true, true, false, false, false, false] rfl ?_
        cases hF
        exact hgo _ rfl
      · have hF := (if_neg c9).symm.trans hF
        refine g_aload_n X dX4_allows_96 rfl rfl ?_
        refine g_iload_n X dX4_allows_97 rfl rfl ?_
        refine g_iload X dX4_allows_98 rfl ?_
        refine g_iadd X dX4_allows_100 ?_
        obtain ⟨v10, ev10, hF⟩ := bnd hF
        refine g_iald X ev10 dX4_allows_101 ?_
        refine g_ldc (v := (100000 : Int32)) X q1762 dX4_allows_102 ?_
        refine g_icmp_eq X 121 dX4_allows_104 (by decide) (fun c11 => ?_) (fun c11 => ?_)
        · have hF := (if_pos c11).symm.trans hF
          refine g_iconst (v := (1 : Int32)) X dX4_allows_121 (by decide) ?_
          refine g_goto X 126 dX4_allows_122 (by decide) ?_
          refine g_istore (L' := [some (va_rf a1), some (.int a2), some (.int a3), some (.int a4), some (.int a5), some (.int (1 : Int32)), some (.int x6_1), none, none, some (.int (if (x6_1 / (4 : Int32)) = 0 then a3 else (if (x6_1 / (4 : Int32)) = (1 : Int32) then a4 else (if (x6_1 / (4 : Int32)) = (2 : Int32) then a5 else (0 : Int32))))), some (.int (if (x6_1 - x6_1 / (4 : Int32) * (4 : Int32)) = 0 then a3 else (if (x6_1 - x6_1 / (4 : Int32) * (4 : Int32)) = (1 : Int32) then a4 else (if (x6_1 - x6_1 / (4 : Int32) * (4 : Int32)) = (2 : Int32) then a5 else (0 : Int32)))))]) X dX4_allows_126 (Nat.le_of_ble_eq_true rfl) (by first | rfl | simp [stL, rm1, clr2, cat_rf, cat_i, cat_j, cat_f, cat_d]) ?_
          refine g_iinc (v := (x6_1 + (1 : Int32))) (L' := [some (va_rf a1), some (.int a2), some (.int a3), some (.int a4), some (.int a5), some (.int (1 : Int32)), some (.int (x6_1 + (1 : Int32))), none, none, some (.int (if (x6_1 / (4 : Int32)) = 0 then a3 else (if (x6_1 / (4 : Int32)) = (1 : Int32) then a4 else (if (x6_1 / (4 : Int32)) = (2 : Int32) then a5 else (0 : Int32))))), some (.int (if (x6_1 - x6_1 / (4 : Int32) * (4 : Int32)) = 0 then a3 else (if (x6_1 - x6_1 / (4 : Int32) * (4 : Int32)) = (1 : Int32) then a4 else (if (x6_1 - x6_1 / (4 : Int32) * (4 : Int32)) = (2 : Int32) then a5 else (0 : Int32)))))]) X dX4_allows_128 (Nat.le_of_ble_eq_true rfl) rfl rfl (by first | rfl | simp [stL, rm1, clr2, cat_rf, cat_i, cat_j, cat_f, cat_d]) ?_
          refine g_goto X 6 dX4_allows_131 (by decide) ?_
          refine G.drop [true, true, true, true, true, true, true, false, false, false, false] rfl ?_
          cases hF
          exact hgo _ rfl
        · have hF := (if_neg c11).symm.trans hF
          refine g_iload X dX4_allows_107 rfl ?_
          refine g_iload X dX4_allows_109 rfl ?_
          refine g_isub X dX4_allows_111 ?_
          refine g_aload_n X dX4_allows_112 rfl rfl ?_
          refine g_iload_n X dX4_allows_113 rfl rfl ?_
          refine g_iload X dX4_allows_114 rfl ?_
          refine g_iadd X dX4_allows_116 ?_
          obtain ⟨v12, ev12, hF⟩ := bnd hF
          refine g_iald X ev12 dX4_allows_117 ?_
          suffices K : G p l e R s m args below meth c (RQ D dA h0 (.inr (some (.int rE)), h0) below s) D dA h0 11 h0 126 [some (va_rf a1), some (.int a2), some (.int a3), some (.int a4), some (.int a5), none, some (.int x6_1), none, none, none, none] [.int (if v12 < ((if (x6_1 / (4 : Int32)) = 0 then a3 else (if (x6_1 / (4 : Int32)) = (1 : Int32) then a4 else (if (x6_1 / (4 : Int32)) = (2 : Int32) then a5 else (0 : Int32)))) - (if (x6_1 - x6_1 / (4 : Int32) * (4 : Int32)) = 0 then a3 else (if (x6_1 - x6_1 / (4 : Int32) * (4 : Int32)) = (1 : Int32) then a4 else (if (x6_1 - x6_1 / (4 : Int32) * (4 : Int32)) = (2 : Int32) then a5 else (0 : Int32))))) then (0 : Int32) else (1 : Int32))] by
            refine g_icmp_gt X 125 dX4_allows_118 (by decide) (fun c13 => ?_) (fun c13 => ?_)
            · (try simp only [if_pos c13] at K)
              refine g_iconst (v := (0 : Int32)) X dX4_allows_125 (by decide) ?_
              refine G.drop [true, true, true, true, true, false, true, false, false, false, false] rfl ?_
              first | exact K | (simp only [if_pos c13]; exact K)
            · (try simp only [if_neg c13] at K)
              refine g_iconst (v := (1 : Int32)) X dX4_allows_121 (by decide) ?_
              refine g_goto X 126 dX4_allows_122 (by decide) ?_
              refine G.drop [true, true, true, true, true, false, true, false, false, false, false] rfl ?_
              first | exact K | (simp only [if_neg c13]; exact K)
          refine g_istore (L' := [some (va_rf a1), some (.int a2), some (.int a3), some (.int a4), some (.int a5), some (.int (if v12 < ((if (x6_1 / (4 : Int32)) = 0 then a3 else (if (x6_1 / (4 : Int32)) = (1 : Int32) then a4 else (if (x6_1 / (4 : Int32)) = (2 : Int32) then a5 else (0 : Int32)))) - (if (x6_1 - x6_1 / (4 : Int32) * (4 : Int32)) = 0 then a3 else (if (x6_1 - x6_1 / (4 : Int32) * (4 : Int32)) = (1 : Int32) then a4 else (if (x6_1 - x6_1 / (4 : Int32) * (4 : Int32)) = (2 : Int32) then a5 else (0 : Int32))))) then (0 : Int32) else (1 : Int32))), some (.int x6_1), none, none, none, none]) X dX4_allows_126 (Nat.le_of_ble_eq_true rfl) (by first | rfl | simp [stL, rm1, clr2, cat_rf, cat_i, cat_j, cat_f, cat_d]) ?_
          refine g_iinc (v := (x6_1 + (1 : Int32))) (L' := [some (va_rf a1), some (.int a2), some (.int a3), some (.int a4), some (.int a5), some (.int (if v12 < ((if (x6_1 / (4 : Int32)) = 0 then a3 else (if (x6_1 / (4 : Int32)) = (1 : Int32) then a4 else (if (x6_1 / (4 : Int32)) = (2 : Int32) then a5 else (0 : Int32)))) - (if (x6_1 - x6_1 / (4 : Int32) * (4 : Int32)) = 0 then a3 else (if (x6_1 - x6_1 / (4 : Int32) * (4 : Int32)) = (1 : Int32) then a4 else (if (x6_1 - x6_1 / (4 : Int32) * (4 : Int32)) = (2 : Int32) then a5 else (0 : Int32))))) then (0 : Int32) else (1 : Int32))), some (.int (x6_1 + (1 : Int32))), none, none, none, none]) X dX4_allows_128 (Nat.le_of_ble_eq_true rfl) rfl rfl (by first | rfl | simp [stL, rm1, clr2, cat_rf, cat_i, cat_j, cat_f, cat_d]) ?_
          refine g_goto X 6 dX4_allows_131 (by decide) ?_
          cases hF
          exact hgo _ rfl
  show G p l e R s m args below meth c (RQ D dA h0 (.inr (some (.int rE)), h0) below s) D dA h0 11 h0 134 [none, none, none, none, none, some (.int v14), none, none, none, none, none] []
  refine g_iload X dX4_allows_134 rfl ?_
  obtain ⟨_, z15, hF⟩ := bnd hF
  cases hF
  exact g_zret X hr (narZ z15) dX4_allows_136
def F_X4_isMoment (a1 : Int32) (a2 : Int32) (a3 : Int32) : Int32 :=
  (if (F_X4_in a1 (0 : Int32) (999 : Int32)) = 0 then (0 : Int32) else (if (F_X4_in a2 (0 : Int32) (999 : Int32)) = 0 then (0 : Int32) else (if (F_X4_in a3 (0 : Int32) (999 : Int32)) = 0 then (0 : Int32) else (1 : Int32))))
set_option maxHeartbeats 4000000 in
theorem w_X4_isMoment (l : Launch) (hl : l.stackTraces = false) (D : va_G) (dA : Nat → ClassId) (h0 : HH) (a1 : Int32) (a2 : Int32) (a3 : Int32) : MC D dA l yX4_isMoment cX4_isMoment 3 (Option.some Jvm.ClassFile.FieldType.boolean) [] 1 22 [.int a1, .int a2, .int a3] h0 (.inr (some (.int (F_X4_isMoment a1 a2 a3))), h0) := by
  refine mc_of hl (plainFor_of_name pn_X4) (by simp [lg_sl, cat_rf, cat_i, cat_j, cat_f, cat_d]) ?_
  intro p e s m args below meth c R hRf hRl X hr hnm
  generalize hF : F_X4_isMoment a1 a2 a3 = rE
  unfold F_X4_isMoment at hF
  rw [show argL [.int a1, .int a2, .int a3] = [some (.int a1), some (.int a2), some (.int a3)] from by simp [argL, cat_rf, cat_i, cat_j, cat_f, cat_d]]
  refine g_iload_n X dX4_isMoment_0 rfl rfl ?_
  refine g_iconst (v := (0 : Int32)) X dX4_isMoment_1 (by decide) ?_
  refine g_sipush (v := (999 : Int32)) X dX4_isMoment_2 (by decide) ?_
  refine g_callS X (w_X4_in l hl D dA h0 a1 (0 : Int32) (999 : Int32)) q1873 q1874 q103 q1875 okn_X4_in ⟨by rw [hRf]; exact Nat.le_of_ble_eq_true rfl, by rw [hRl]; exact Nat.le_of_ble_eq_true rfl⟩ (As := [.int a1, .int (0 : Int32), .int (999 : Int32)]) (rest := []) rfl (by first | exact Nat.le_of_ble_eq_true rfl | simp [cat_rf, cat_i, cat_j, cat_f, cat_d]) dX4_isMoment_5 (ac_v ?_)
  suffices K : G p l e R s m args below meth c (RQ D dA h0 (.inr (some (.int rE)), h0) below s) D dA h0 3 h0 38 [none, none, none] [.int (if (F_X4_in a1 (0 : Int32) (999 : Int32)) = 0 then (0 : Int32) else (if (F_X4_in a2 (0 : Int32) (999 : Int32)) = 0 then (0 : Int32) else (if (F_X4_in a3 (0 : Int32) (999 : Int32)) = 0 then (0 : Int32) else (1 : Int32))))] by
    refine g_if_eq X 37 dX4_isMoment_8 (by decide) (fun c1 => ?_) (fun c1 => ?_)
    · (try simp only [if_pos c1] at K)
      refine g_iconst (v := (0 : Int32)) X dX4_isMoment_37 (by decide) ?_
      refine G.drop [false, false, false] rfl ?_
      first | exact K | (simp only [if_pos c1]; exact K)
    · (try simp only [if_neg c1] at K)
      refine g_iload_n X dX4_isMoment_11 rfl rfl ?_
      refine g_iconst (v := (0 : Int32)) X dX4_isMoment_12 (by decide) ?_
      refine g_sipush (v := (999 : Int32)) X dX4_isMoment_13 (by decide) ?_
      refine g_callS X (w_X4_in l hl D dA h0 a2 (0 : Int32) (999 : Int32)) q1873 q1874 q103 q1875 okn_X4_in ⟨by rw [hRf]; exact Nat.le_of_ble_eq_true rfl, by rw [hRl]; exact Nat.le_of_ble_eq_true rfl⟩ (As := [.int a2, .int (0 : Int32), .int (999 : Int32)]) (rest := []) rfl (by first | exact Nat.le_of_ble_eq_true rfl | simp [cat_rf, cat_i, cat_j, cat_f, cat_d]) dX4_isMoment_16 (ac_v ?_)
      refine g_if_eq X 37 dX4_isMoment_19 (by decide) (fun c2 => ?_) (fun c2 => ?_)
      · (try simp only [if_pos c2] at K)
        refine g_iconst (v := (0 : Int32)) X dX4_isMoment_37 (by decide) ?_
        refine G.drop [false, false, false] rfl ?_
        first | exact K | (simp only [if_neg c1, if_pos c2]; exact K)
      · (try simp only [if_neg c2] at K)
        refine g_iload_n X dX4_isMoment_22 rfl rfl ?_
        refine g_iconst (v := (0 : Int32)) X dX4_isMoment_23 (by decide) ?_
        refine g_sipush (v := (999 : Int32)) X dX4_isMoment_24 (by decide) ?_
        refine g_callS X (w_X4_in l hl D dA h0 a3 (0 : Int32) (999 : Int32)) q1873 q1874 q103 q1875 okn_X4_in ⟨by rw [hRf]; exact Nat.le_of_ble_eq_true rfl, by rw [hRl]; exact Nat.le_of_ble_eq_true rfl⟩ (As := [.int a3, .int (0 : Int32), .int (999 : Int32)]) (rest := []) rfl (by first | exact Nat.le_of_ble_eq_true rfl | simp [cat_rf, cat_i, cat_j, cat_f, cat_d]) dX4_isMoment_27 (ac_v ?_)
        refine g_if_eq X 37 dX4_isMoment_30 (by decide) (fun c3 => ?_) (fun c3 => ?_)
        · (try simp only [if_pos c3] at K)
          refine g_iconst (v := (0 : Int32)) X dX4_isMoment_37 (by decide) ?_
          refine G.drop [false, false, false] rfl ?_
          first | exact K | (simp only [if_neg c1, if_neg c2, if_pos c3]; exact K)
        · (try simp only [if_neg c3] at K)
          refine g_iconst (v := (1 : Int32)) X dX4_isMoment_33 (by decide) ?_
          refine g_goto X 38 dX4_isMoment_34 (by decide) ?_
          refine G.drop [false, false, false] rfl ?_
          first | exact K | (simp only [if_neg c1, if_neg c2, if_neg c3]; exact K)
  cases hF
  exact g_zret X hr (by (repeat' split) <;> rfl) dX4_isMoment_38
def F_X4_hasMoment (this : Nat) (a1 : Int32) (a2 : Int32) (a3 : Int32) (h0 : HH) : Option (Int32 × HH) :=
  Option.bind (isO h0 1 (some this)) fun ob1 =>
  b2 (F_X4_asks ob1 (F_X4_isMoment a1 a2 a3) h0) fun v3 h2 =>
  if v3 = 0 then (
    some ((0 : Int32), h2)
  ) else (
    Option.bind (getR h2 1 0 (some this)) fun v5 =>
    Option.bind (F_X4_allows v5 (0 : Int32) a1 a2 a3 h2) fun v6 =>
    some ((if v6 = 0 then (0 : Int32) else (1 : Int32)), h2)
  )
set_option maxHeartbeats 4000000 in
theorem w_X4_hasMoment (l : Launch) (hl : l.stackTraces = false) (D : va_G) (dA : Nat → ClassId) (h0 : HH) (this : Nat) (a1 : Int32) (a2 : Int32) (a3 : Int32) (rE : Int32) (hE : HH) (hF : F_X4_hasMoment this a1 a2 a3 h0 = some (rE, hE)) : MC D dA l yX4_hasMoment cX4_hasMoment 4 (Option.some Jvm.ClassFile.FieldType.boolean) [] 2 44 [va_rf (some this), .int a1, .int a2, .int a3] h0 (.inr (some (.int rE)), hE) := by
  refine mc_of hl (plainFor_of_name pn_X4) (by simp [lg_sl, cat_rf, cat_i, cat_j, cat_f, cat_d]) ?_
  intro p e s m args below meth c R hRf hRl X hr hnm
  unfold F_X4_hasMoment at hF
  rw [show argL [va_rf (some this), .int a1, .int a2, .int a3] = [some (va_rf (some this)), some (.int a1), some (.int a2), some (.int a3)] from by simp [argL, cat_rf, cat_i, cat_j, cat_f, cat_d]]
  refine g_aload_n X dX4_hasMoment_0 rfl rfl ?_
  refine g_iload_n X dX4_hasMoment_1 rfl rfl ?_
  refine g_iload_n X dX4_hasMoment_2 rfl rfl ?_
  refine g_iload_n X dX4_hasMoment_3 rfl rfl ?_
  refine g_callS X (w_X4_isMoment l hl D dA h0 a1 a2 a3) q2108 q2109 q103 q2110 okn_X4_isMoment ⟨by rw [hRf]; exact Nat.le_of_ble_eq_true rfl, by rw [hRl]; exact Nat.le_of_ble_eq_true rfl⟩ (As := [.int a1, .int a2, .int a3]) (rest := [va_rf (some this)]) rfl (by first | exact Nat.le_of_ble_eq_true rfl | simp [cat_rf, cat_i, cat_j, cat_f, cat_d]) dX4_hasMoment_4 (ac_v ?_)
  obtain ⟨ob1, eob1, hF⟩ := bnd hF
  obtain ⟨v3, h2, eh2, hF⟩ := b2_some hF
  refine g_callV X eob1 rfl rfl (w_X4_asks l hl D dA h0 ob1 (F_X4_isMoment a1 a2 a3) v3 h2 eh2) q2076 q2078 qs60 q103 q2079 okn_X4_asks ⟨by rw [hRf]; exact Nat.le_of_ble_eq_true rfl, by rw [hRl]; exact Nat.le_of_ble_eq_true rfl⟩ (As := [.int (F_X4_isMoment a1 a2 a3)]) (rest := []) rfl (by first | exact Nat.le_of_ble_eq_true rfl | simp [cat_rf, cat_i, cat_j, cat_f, cat_d]) dX4_hasMoment_7 (ac_v ?_)
  refine g_if_eq X 31 dX4_hasMoment_10 (by decide) (fun c4 => ?_) (fun c4 => ?_)
  · have hF := (if_pos c4).symm.trans hF
    refine g_iconst (v := (0 : Int32)) X dX4_hasMoment_31 (by decide) ?_
    cases hF
    exact g_zret X hr rfl dX4_hasMoment_32
  · have hF := (if_neg c4).symm.trans hF
    refine g_aload_n X dX4_hasMoment_13 rfl rfl ?_
    obtain ⟨v5, ev5, hF⟩ := bnd hF
    refine g_get (k := 0) X in_X4 rfl (by decide) q1763 (Or.inl rfl) (getR_V ev5) dX4_hasMoment_14 ?_
    refine g_iconst (v := (0 : Int32)) X dX4_hasMoment_17 (by decide) ?_
    refine g_iload_n X dX4_hasMoment_18 rfl rfl ?_
    refine g_iload_n X dX4_hasMoment_19 rfl rfl ?_
    refine g_iload_n X dX4_hasMoment_20 rfl rfl ?_
    obtain ⟨v6, ev6, hF⟩ := bnd hF
    refine g_callS X (w_X4_allows l hl D dA h2 v5 (0 : Int32) a1 a2 a3 v6 ev6) q2111 q2112 q103 q2113 okn_X4_allows ⟨by rw [hRf]; exact Nat.le_of_ble_eq_true rfl, by rw [hRl]; exact Nat.le_of_ble_eq_true rfl⟩ (As := [va_rf v5, .int (0 : Int32), .int a1, .int a2, .int a3]) (rest := []) rfl (by first | exact Nat.le_of_ble_eq_true rfl | simp [cat_rf, cat_i, cat_j, cat_f, cat_d]) dX4_hasMoment_21 (ac_v ?_)
    suffices K : G p l e R s m args below meth c (RQ D dA h0 (.inr (some (.int rE)), hE) below s) D dA h0 4 h2 32 [none, none, none, none] [.int (if v6 = 0 then (0 : Int32) else (1 : Int32))] by
      refine g_if_eq X 31 dX4_hasMoment_24 (by decide) (fun c7 => ?_) (fun c7 => ?_)
      · (try simp only [if_pos c7] at K)
        refine g_iconst (v := (0 : Int32)) X dX4_hasMoment_31 (by decide) ?_
        refine G.drop [false, false, false, false] rfl ?_
        first | exact K | (simp only [if_pos c7]; exact K)
      · (try simp only [if_neg c7] at K)
        refine g_iconst (v := (1 : Int32)) X dX4_hasMoment_27 (by decide) ?_
        refine g_goto X 32 dX4_hasMoment_28 (by decide) ?_
        refine G.drop [false, false, false, false] rfl ?_
        first | exact K | (simp only [if_neg c7]; exact K)
    cases hF
    exact g_zret X hr (by (repeat' split) <;> rfl) dX4_hasMoment_32
