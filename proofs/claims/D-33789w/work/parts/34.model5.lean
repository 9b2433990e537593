def F_X4_type (this : Nat) (a1 : Int32) (h0 : HH) : Option (Int32 × HH) :=
  Option.bind (putV h0 1 8 (some this) (.int (0 : Int32))) fun h1 =>
  if (F_X4_in a1 (32 : Int32) (126 : Int32)) = 0 then (
    Option.bind (isO h1 1 (some this)) fun ob14 =>
    b2 (F_X4_fails ob14 (1 : Int32) h1) fun v16 h15 =>
    some (v16, h15)
  ) else (
    Option.bind (getI h1 1 7 (some this)) fun v3 =>
    if v3 = (60 : Int32) then (
      Option.bind (isO h1 1 (some this)) fun ob11 =>
      b2 (F_X4_fails ob11 (2 : Int32) h1) fun v13 h12 =>
      some (v13, h12)
    ) else (
      Option.bind (getR h1 1 6 (some this)) fun v5 =>
      Option.bind (getI h1 1 7 (some this)) fun v6 =>
      Option.bind (astI h1 v5 v6 a1) fun h7 =>
      Option.bind (getI h7 1 7 (some this)) fun v8 =>
      Option.bind (putV h7 1 7 (some this) (.int (v8 + (1 : Int32)))) fun h9 =>
      Option.bind (getI h9 1 7 (some this)) fun v10 =>
      some (v10, h9)
    )
  )
set_option maxHeartbeats 4000000 in
theorem w_X4_type (l : Launch) (hl : l.stackTraces = false) (D : va_G) (dA : Nat → ClassId) (h0 : HH) (this : Nat) (a1 : Int32) (rE : Int32) (hE : HH) (hF : F_X4_type this a1 h0 = some (rE, hE)) : MC D dA l yX4_type cX4_type 2 (Option.some Jvm.ClassFile.FieldType.int) [] 1 22 [va_rf (some this), .int a1] h0 (.inr (some (.int rE)), hE) := by
  refine mc_of hl (plainFor_of_name pn_X4) (by simp [lg_sl, cat_rf, cat_i, cat_j, cat_f, cat_d]) ?_
  intro p e s m args below meth c R hRf hRl X hr hnm
  unfold F_X4_type at hF
  rw [show argL [va_rf (some this), .int a1] = [some (va_rf (some this)), some (.int a1)] from by simp [argL, cat_rf, cat_i, cat_j, cat_f, cat_d]]
  refine g_aload_n X dX4_type_0 rfl rfl ?_
  refine g_iconst (v := (0 : Int32)) X dX4_type_1 (by decide) ?_
  obtain ⟨h1, eh1, hF⟩ := bnd hF
  refine g_put (k := 8) X in_X4 tyX4 tyX4_ok nmX4 rfl (by decide) q1771 (Or.inl rfl) rfl (tyX4_ok 8 (by decide)) rfl rfl eh1 dX4_type_2 ?_
  refine g_iload_n X dX4_type_5 rfl rfl ?_
  refine g_bipush (v := (32 : Int32)) X dX4_type_6 (by decide) ?_
  refine g_bipush (v := (126 : Int32)) X dX4_type_8 (by decide) ?_
  refine g_callS X (w_X4_in l hl D dA h1 a1 (32 : Int32) (126 : Int32)) q1873 q1874 q103 q1875 okn_X4_in ⟨by rw [hRf]; exact Nat.le_of_ble_eq_true rfl, by rw [hRl]; exact Nat.le_of_ble_eq_true rfl⟩ (As := [.int a1, .int (32 : Int32), .int (126 : Int32)]) (rest := []) rfl (by first | exact Nat.le_of_ble_eq_true rfl | simp [cat_rf, cat_i, cat_j, cat_f, cat_d]) dX4_type_10 (ac_v ?_)
  refine g_if_ne X 22 dX4_type_13 (by decide) (fun c2 => ?_) (fun c2 => ?_)
  · have hF := (if_neg c2).symm.trans hF
    refine g_aload_n X dX4_type_22 rfl rfl ?_
    obtain ⟨v3, ev3, hF⟩ := bnd hF
    refine g_get (k := 7) X in_X4 rfl (by decide) q1770 (Or.inl rfl) (getI_V ev3) dX4_type_23 ?_
    refine g_bipush (v := (60 : Int32)) X dX4_type_26 (by decide) ?_
    refine g_icmp_ne X 37 dX4_type_28 (by decide) (fun c4 => ?_) (fun c4 => ?_)
    · have hF := (if_neg c4).symm.trans hF
      refine g_aload_n X dX4_type_37 rfl rfl ?_
      obtain ⟨v5, ev5, hF⟩ := bnd hF
      refine g_get (k := 6) X in_X4 rfl (by decide) q1769 (Or.inl rfl) (getR_V ev5) dX4_type_38 ?_
      refine g_aload_n X dX4_type_41 rfl rfl ?_
      obtain ⟨v6, ev6, hF⟩ := bnd hF
      refine g_get (k := 7) X in_X4 rfl (by decide) q1770 (Or.inl rfl) (getI_V ev6) dX4_type_42 ?_
      refine g_iload_n X dX4_type_45 rfl rfl ?_
      obtain ⟨h7, eh7, hF⟩ := bnd hF
      refine g_iast X eh7 dX4_type_46 ?_
      refine g_aload_n X dX4_type_47 rfl rfl ?_
      refine g_dup X dX4_type_48 (cat_rf _) ?_
      obtain ⟨v8, ev8, hF⟩ := bnd hF
      refine g_get (k := 7) X in_X4 rfl (by decide) q1770 (Or.inl rfl) (getI_V ev8) dX4_type_49 ?_
      refine g_iconst (v := (1 : Int32)) X dX4_type_52 (by decide) ?_
      refine g_iadd X dX4_type_53 ?_
      obtain ⟨h9, eh9, hF⟩ := bnd hF
      refine g_put (k := 7) X in_X4 tyX4 tyX4_ok nmX4 rfl (by decide) q1770 (Or.inl rfl) rfl (tyX4_ok 7 (by decide)) rfl rfl eh9 dX4_type_54 ?_
      refine g_aload_n X dX4_type_57 rfl rfl ?_
      obtain ⟨v10, ev10, hF⟩ := bnd hF
      refine g_get (k := 7) X in_X4 rfl (by decide) q1770 (Or.inl rfl) (getI_V ev10) dX4_type_58 ?_
      cases hF
      exact g_iret X hr dX4_type_61
    · have hF := (if_pos c4).symm.trans hF
      refine g_aload_n X dX4_type_31 rfl rfl ?_
      refine g_iconst (v := (2 : Int32)) X dX4_type_32 (by decide) ?_
      obtain ⟨ob11, eob11, hF⟩ := bnd hF
      obtain ⟨v13, h12, eh12, hF⟩ := b2_some hF
      refine g_callV X eob11 rfl rfl (w_X4_fails l hl D dA h1 ob11 (2 : Int32) v13 h12 eh12) q1900 q1902 qs36 q103 q1903 okn_X4_fails ⟨by rw [hRf]; exact Nat.le_of_ble_eq_true rfl, by rw [hRl]; exact Nat.le_of_ble_eq_true rfl⟩ (As := [.int (2 : Int32)]) (rest := []) rfl (by first | exact Nat.le_of_ble_eq_true rfl | simp [cat_rf, cat_i, cat_j, cat_f, cat_d]) dX4_type_33 (ac_v ?_)
      cases hF
      exact g_iret X hr dX4_type_36
  · have hF := (if_pos c2).symm.trans hF
    refine g_aload_n X dX4_type_16 rfl rfl ?_
    refine g_iconst (v := (1 : Int32)) X dX4_type_17 (by decide) ?_
    obtain ⟨ob14, eob14, hF⟩ := bnd hF
    obtain ⟨v16, h15, eh15, hF⟩ := b2_some hF
    refine g_callV X eob14 rfl rfl (w_X4_fails l hl D dA h1 ob14 (1 : Int32) v16 h15 eh15) q1900 q1902 qs36 q103 q1903 okn_X4_fails ⟨by rw [hRf]; exact Nat.le_of_ble_eq_true rfl, by rw [hRl]; exact Nat.le_of_ble_eq_true rfl⟩ (As := [.int (1 : Int32)]) (rest := []) rfl (by first | exact Nat.le_of_ble_eq_true rfl | simp [cat_rf, cat_i, cat_j, cat_f, cat_d]) dX4_type_18 (ac_v ?_)
    cases hF
    exact g_iret X hr dX4_type_21
def F_X4_clearText (this : Nat) (h0 : HH) : Option (Int32 × HH) :=
  Option.bind (putV h0 1 8 (some this) (.int (0 : Int32))) fun h1 =>
  Option.bind (getI h1 1 7 (some this)) fun v2 =>
  Option.bind (putV h1 1 7 (some this) (.int (0 : Int32))) fun h3 =>
  some (v2, h3)
set_option maxHeartbeats 4000000 in
theorem w_X4_clearText (l : Launch) (hl : l.stackTraces = false) (D : va_G) (dA : Nat → ClassId) (h0 : HH) (this : Nat) (rE : Int32) (hE : HH) (hF : F_X4_clearText this h0 = some (rE, hE)) : MC D dA l yX4_clearText cX4_clearText 2 (Option.some Jvm.ClassFile.FieldType.int) [] 0 0 [va_rf (some this)] h0 (.inr (some (.int rE)), hE) := by
  refine mc_of hl (plainFor_of_name pn_X4) (by simp [lg_sl, cat_rf, cat_i, cat_j, cat_f, cat_d]) ?_
  intro p e s m args below meth c R hRf hRl X hr hnm
  unfold F_X4_clearText at hF
  rw [show argL [va_rf (some this)] = [some (va_rf (some this))] from by simp [argL, cat_rf, cat_i, cat_j, cat_f, cat_d]]
  refine G.pad 1 (L' := [some (va_rf (some this)), none]) rfl ?_
  refine g_aload_n X dX4_clearText_0 rfl rfl ?_
  refine g_iconst (v := (0 : Int32)) X dX4_clearText_1 (by decide) ?_
  obtain ⟨h1, eh1, hF⟩ := bnd hF
  refine g_put (k := 8) X in_X4 tyX4 tyX4_ok nmX4 rfl (by decide) q1771 (Or.inl rfl) rfl (tyX4_ok 8 (by decide)) rfl rfl eh1 dX4_clearText_2 ?_
  refine g_aload_n X dX4_clearText_5 rfl rfl ?_
  obtain ⟨v2, ev2, hF⟩ := bnd hF
  refine g_get (k := 7) X in_X4 rfl (by decide) q1770 (Or.inl rfl) (getI_V ev2) dX4_clearText_6 ?_
  refine g_istore_n (L' := [some (va_rf (some this)), some (.int v2)]) X dX4_clearText_9 rfl (Nat.le_of_ble_eq_true rfl) (by first | rfl | simp [stL, rm1, clr2, cat_rf, cat_i, cat_j, cat_f, cat_d]) ?_
  refine g_aload_n X dX4_clearText_10 rfl rfl ?_
  refine g_iconst (v := (0 : Int32)) X dX4_clearText_11 (by decide) ?_
  obtain ⟨h3, eh3, hF⟩ := bnd hF
  refine g_put (k := 7) X in_X4 tyX4 tyX4_ok nmX4 rfl (by decide) q1770 (Or.inl rfl) rfl (tyX4_ok 7 (by decide)) rfl rfl eh3 dX4_clearText_12 ?_
  refine g_iload_n X dX4_clearText_15 rfl rfl ?_
  cases hF
  exact g_iret X hr dX4_clearText_16
def F_X4_doesOrder (this : Nat) (h0 : HH) : Option (Int32 × HH) :=
  Option.bind (getI h0 1 23 (some this)) fun v1 =>
  if v1 = (100 : Int32) then (
    Option.bind (getI h0 1 24 (some this)) fun v2 =>
    Option.bind (getI h0 1 25 (some this)) fun v3 =>
    Option.bind (getI h0 1 26 (some this)) fun v4 =>
    Option.bind (isO h0 1 (some this)) fun ob5 =>
    b2 (F_X4_goTell ob5 v2 v3 v4 h0) fun v7 h6 =>
    some (v7, h6)
  ) else (
    if v1 = (102 : Int32) then (
      Option.bind (getI h0 1 24 (some this)) fun v8 =>
      Option.bind (isO h0 1 (some this)) fun ob9 =>
      b2 (F_X4_goFree ob9 v8 h0) fun v11 h10 =>
      some (v11, h10)
    ) else (
      if v1 = (108 : Int32) then (
        Option.bind (getI h0 1 24 (some this)) fun v12 =>
        Option.bind (getI h0 1 25 (some this)) fun v13 =>
        Option.bind (isO h0 1 (some this)) fun ob14 =>
        b2 (F_X4_goTell ob14 (3 : Int32) v12 (-v13) h0) fun v16 h15 =>
        some (v16, h15)
      ) else (
        if v1 = (109 : Int32) then (
          Option.bind (getI h0 1 24 (some this)) fun v17 =>
          Option.bind (getI h0 1 25 (some this)) fun v18 =>
          Option.bind (isO h0 1 (some this)) fun ob19 =>
          b2 (F_X4_goTell ob19 v17 (3 : Int32) v18 h0) fun v21 h20 =>
          some (v21, h20)
        ) else (
          if v1 = (114 : Int32) then (
            Option.bind (getI h0 1 24 (some this)) fun v22 =>
            Option.bind (getI h0 1 25 (some this)) fun v23 =>
            Option.bind (isO h0 1 (some this)) fun ob24 =>
            b2 (F_X4_goReset ob24 v22 v23 h0) fun v26 h25 =>
            some (v26, h25)
          ) else (
            if v1 = (119 : Int32) then (
              Option.bind (isO h0 1 (some this)) fun ob27 =>
              b2 (F_X4_goDelay ob27 h0) fun v29 h28 =>
              some (v29, h28)
            ) else (
              Option.bind (isO h0 1 (some this)) fun ob30 =>
              b2 (F_X4_goTighten ob30 h0) fun v32 h31 =>
              some (v32, h31)
            )
          )
        )
      )
    )
  )
set_option maxHeartbeats 4000000 in
theorem w_X4_doesOrder (l : Launch) (hl : l.stackTraces = false) (D : va_G) (dA : Nat → ClassId) (h0 : HH) (this : Nat) (rE : Int32) (hE : HH) (hF : F_X4_doesOrder this h0 = some (rE, hE)) : MC D dA l yX4_doesOrder cX4_doesOrder 1 (Option.some Jvm.ClassFile.FieldType.int) [] 7 153 [va_rf (some this)] h0 (.inr (some (.int rE)), hE) := by
  refine mc_of hl (plainFor_of_name pn_X4) (by simp [lg_sl, cat_rf, cat_i, cat_j, cat_f, cat_d]) ?_
  intro p e s m args below meth c R hRf hRl X hr hnm
  unfold F_X4_doesOrder at hF
  rw [show argL [va_rf (some this)] = [some (va_rf (some this))] from by simp [argL, cat_rf, cat_i, cat_j, cat_f, cat_d]]
  refine g_aload_n X dX4_doesOrder_0 rfl rfl ?_
  obtain ⟨v1, ev1, hF⟩ := bnd hF
  refine g_get (k := 23) X in_X4 rfl (by decide) q1786 (Or.inl rfl) (getI_V ev1) dX4_doesOrder_1 ?_
  by_cases sc4_100 : v1 = (100 : Int32)
  · have hF := (if_pos sc4_100).symm.trans hF
    refine g_tableIn X 129 dX4_doesOrder_4 (by rw [sc4_100]; decide) (by rw [sc4_100]; decide) (off := 125) (by rw [sc4_100]; rfl) (by decide) ?_
    refine g_aload_n X dX4_doesOrder_129 rfl rfl ?_
    refine g_aload_n X dX4_doesOrder_130 rfl rfl ?_
    obtain ⟨v2, ev2, hF⟩ := bnd hF
    refine g_get (k := 24) X in_X4 rfl (by decide) q1787 (Or.inl rfl) (getI_V ev2) dX4_doesOrder_131 ?_
    refine g_aload_n X dX4_doesOrder_134 rfl rfl ?_
    obtain ⟨v3, ev3, hF⟩ := bnd hF
    refine g_get (k := 25) X in_X4 rfl (by decide) q1788 (Or.inl rfl) (getI_V ev3) dX4_doesOrder_135 ?_
    refine g_aload_n X dX4_doesOrder_138 rfl rfl ?_
    obtain ⟨v4, ev4, hF⟩ := bnd hF
    refine g_get (k := 26) X in_X4 rfl (by decide) q1789 (Or.inl rfl) (getI_V ev4) dX4_doesOrder_139 ?_
    obtain ⟨ob5, eob5, hF⟩ := bnd hF
    obtain ⟨v7, h6, eh6, hF⟩ := b2_some hF
    refine g_callV X eob5 rfl rfl (w_X4_goTell l hl D dA h0 ob5 v2 v3 v4 v7 h6 eh6) q1866 q1868 qs32 q103 q1869 okn_X4_goTell ⟨by rw [hRf]; exact Nat.le_of_ble_eq_true rfl, by rw [hRl]; exact Nat.le_of_ble_eq_true rfl⟩ (As := [.int v2, .int v3, .int v4]) (rest := []) rfl (by first | exact Nat.le_of_ble_eq_true rfl | simp [cat_rf, cat_i, cat_j, cat_f, cat_d]) dX4_doesOrder_142 (ac_v ?_)
    cases hF
    exact g_iret X hr dX4_doesOrder_145
  · have hF := (if_neg sc4_100).symm.trans hF
    by_cases sc4_102 : v1 = (102 : Int32)
    · have hF := (if_pos sc4_102).symm.trans hF
      refine g_tableIn X 164 dX4_doesOrder_4 (by rw [sc4_102]; decide) (by rw [sc4_102]; decide) (off := 160) (by rw [sc4_102]; rfl) (by decide) ?_
      refine g_aload_n X dX4_doesOrder_164 rfl rfl ?_
      refine g_aload_n X dX4_doesOrder_165 rfl rfl ?_
      obtain ⟨v8, ev8, hF⟩ := bnd hF
      refine g_get (k := 24) X in_X4 rfl (by decide) q1787 (Or.inl rfl) (getI_V ev8) dX4_doesOrder_166 ?_
      obtain ⟨ob9, eob9, hF⟩ := bnd hF
      obtain ⟨v11, h10, eh10, hF⟩ := b2_some hF
      refine g_callV X eob9 rfl rfl (w_X4_goFree l hl D dA h0 ob9 v8 v11 h10 eh10) q1991 q1993 qs51 q103 q1994 okn_X4_goFree ⟨by rw [hRf]; exact Nat.le_of_ble_eq_true rfl, by rw [hRl]; exact Nat.le_of_ble_eq_true rfl⟩ (As := [.int v8]) (rest := []) rfl (by first | exact Nat.le_of_ble_eq_true rfl | simp [cat_rf, cat_i, cat_j, cat_f, cat_d]) dX4_doesOrder_169 (ac_v ?_)
      cases hF
      exact g_iret X hr dX4_doesOrder_172
    · have hF := (if_neg sc4_102).symm.trans hF
      by_cases sc4_108 : v1 = (108 : Int32)
      · have hF := (if_pos sc4_108).symm.trans hF
        refine g_tableIn X 114 dX4_doesOrder_4 (by rw [sc4_108]; decide) (by rw [sc4_108]; decide) (off := 110) (by rw [sc4_108]; rfl) (by decide) ?_
        refine g_aload_n X dX4_doesOrder_114 rfl rfl ?_
        refine g_iconst (v := (3 : Int32)) X dX4_doesOrder_115 (by decide) ?_
        refine g_aload_n X dX4_doesOrder_116 rfl rfl ?_
        obtain ⟨v12, ev12, hF⟩ := bnd hF
        refine g_get (k := 24) X in_X4 rfl (by decide) q1787 (Or.inl rfl) (getI_V ev12) dX4_doesOrder_117 ?_
        refine g_aload_n X dX4_doesOrder_120 rfl rfl ?_
        obtain ⟨v13, ev13, hF⟩ := bnd hF
        refine g_get (k := 25) X in_X4 rfl (by decide) q1788 (Or.inl rfl) (getI_V ev13) dX4_doesOrder_121 ?_
        refine g_ineg X dX4_doesOrder_124 ?_
        obtain ⟨ob14, eob14, hF⟩ := bnd hF
        obtain ⟨v16, h15, eh15, hF⟩ := b2_some hF
        refine g_callV X eob14 rfl rfl (w_X4_goTell l hl D dA h0 ob14 (3 : Int32) v12 (-v13) v16 h15 eh15) q1866 q1868 qs32 q103 q1869 okn_X4_goTell ⟨by rw [hRf]; exact Nat.le_of_ble_eq_true rfl, by rw [hRl]; exact Nat.le_of_ble_eq_true rfl⟩ (As := [.int (3 : Int32), .int v12, .int (-v13)]) (rest := []) rfl (by first | exact Nat.le_of_ble_eq_true rfl | simp [cat_rf, cat_i, cat_j, cat_f, cat_d]) dX4_doesOrder_125 (ac_v ?_)
        cases hF
        exact g_iret X hr dX4_doesOrder_128
      · have hF := (if_neg sc4_108).symm.trans hF
        by_cases sc4_109 : v1 = (109 : Int32)
        · have hF := (if_pos sc4_109).symm.trans hF
          refine g_tableIn X 100 dX4_doesOrder_4 (by rw [sc4_109]; decide) (by rw [sc4_109]; decide) (off := 96) (by rw [sc4_109]; rfl) (by decide) ?_
          refine g_aload_n X dX4_doesOrder_100 rfl rfl ?_
          refine g_aload_n X dX4_doesOrder_101 rfl rfl ?_
          obtain ⟨v17, ev17, hF⟩ := bnd hF
          refine g_get (k := 24) X in_X4 rfl (by decide) q1787 (Or.inl rfl) (getI_V ev17) dX4_doesOrder_102 ?_
          refine g_iconst (v := (3 : Int32)) X dX4_doesOrder_105 (by decide) ?_
          refine g_aload_n X dX4_doesOrder_106 rfl rfl ?_
          obtain ⟨v18, ev18, hF⟩ := bnd hF
          refine g_get (k := 25) X in_X4 rfl (by decide) q1788 (Or.inl rfl) (getI_V ev18) dX4_doesOrder_107 ?_
          obtain ⟨ob19, eob19, hF⟩ := bnd hF
          obtain ⟨v21, h20, eh20, hF⟩ := b2_some hF
          refine g_callV X eob19 rfl rfl (w_X4_goTell l hl D dA h0 ob19 v17 (3 : Int32) v18 v21 h20 eh20) q1866 q1868 qs32 q103 q1869 okn_X4_goTell ⟨by rw [hRf]; exact Nat.le_of_ble_eq_true rfl, by rw [hRl]; exact Nat.le_of_ble_eq_true rfl⟩ (As := [.int v17, .int (3 : Int32), .int v18]) (rest := []) rfl (by first | exact Nat.le_of_ble_eq_true rfl | simp [cat_rf, cat_i, cat_j, cat_f, cat_d]) dX4_doesOrder_110 (ac_v ?_)
          cases hF
          exact g_iret X hr dX4_doesOrder_113
        · have hF := (if_neg sc4_109).symm.trans hF
          by_cases sc4_114 : v1 = (114 : Int32)
          · have hF := (if_pos sc4_114).symm.trans hF
            refine g_tableIn X 146 dX4_doesOrder_4 (by rw [sc4_114]; decide) (by rw [sc4_114]; decide) (off := 142) (by rw [sc4_114]; rfl) (by decide) ?_
            refine g_aload_n X dX4_doesOrder_146 rfl rfl ?_
            refine g_aload_n X dX4_doesOrder_147 rfl rfl ?_
            obtain ⟨v22, ev22, hF⟩ := bnd hF
            refine g_get (k := 24) X in_X4 rfl (by decide) q1787 (Or.inl rfl) (getI_V ev22) dX4_doesOrder_148 ?_
            refine g_aload_n X dX4_doesOrder_151 rfl rfl ?_
            obtain ⟨v23, ev23, hF⟩ := bnd hF
            refine g_get (k := 25) X in_X4 rfl (by decide) q1788 (Or.inl rfl) (getI_V ev23) dX4_doesOrder_152 ?_
            obtain ⟨ob24, eob24, hF⟩ := bnd hF
            obtain ⟨v26, h25, eh25, hF⟩ := b2_some hF
            refine g_callV X eob24 rfl rfl (w_X4_goReset l hl D dA h0 ob24 v22 v23 v26 h25 eh25) q1944 q1946 qs43 q103 q1947 okn_X4_goReset ⟨by rw [hRf]; exact Nat.le_of_ble_eq_true rfl, by rw [hRl]; exact Nat.le_of_ble_eq_true rfl⟩ (As := [.int v22, .int v23]) (rest := []) rfl (by first | exact Nat.le_of_ble_eq_true rfl | simp [cat_rf, cat_i, cat_j, cat_f, cat_d]) dX4_doesOrder_155 (ac_v ?_)
            cases hF
            exact g_iret X hr dX4_doesOrder_158
          · have hF := (if_neg sc4_114).symm.trans hF
            by_cases sc4_119 : v1 = (119 : Int32)
            · have hF := (if_pos sc4_119).symm.trans hF
              refine g_tableIn X 159 dX4_doesOrder_4 (by rw [sc4_119]; decide) (by rw [sc4_119]; decide) (off := 155) (by rw [sc4_119]; rfl) (by decide) ?_
              refine g_aload_n X dX4_doesOrder_159 rfl rfl ?_
              obtain ⟨ob27, eob27, hF⟩ := bnd hF
              obtain ⟨v29, h28, eh28, hF⟩ := b2_some hF
              refine g_callV X eob27 rfl rfl (w_X4_goDelay l hl D dA h0 ob27  v29 h28 eh28) q1967 q1969 qs47 q103 q1970 okn_X4_goDelay ⟨by rw [hRf]; exact Nat.le_of_ble_eq_true rfl, by rw [hRl]; exact Nat.le_of_ble_eq_true rfl⟩ (As := []) (rest := []) rfl (by first | exact Nat.le_of_ble_eq_true rfl | simp [cat_rf, cat_i, cat_j, cat_f, cat_d]) dX4_doesOrder_160 (ac_v ?_)
              cases hF
              exact g_iret X hr dX4_doesOrder_163
            · have hF := (if_neg sc4_119).symm.trans hF
              have t_sc4_100 := sw_ne (k := 100) sc4_100 (by decide)
              have t_sc4_102 := sw_ne (k := 102) sc4_102 (by decide)
              have t_sc4_108 := sw_ne (k := 108) sc4_108 (by decide)
              have t_sc4_109 := sw_ne (k := 109) sc4_109 (by decide)
              have t_sc4_114 := sw_ne (k := 114) sc4_114 (by decide)
              have t_sc4_119 := sw_ne (k := 119) sc4_119 (by decide)
              rcases sw_range v1 100 119 with hx | hx
              · refine g_tableOut X 173 dX4_doesOrder_4 hx (by decide) ?_
                refine g_aload_n X dX4_doesOrder_173 rfl rfl ?_
                obtain ⟨ob30, eob30, hF⟩ := bnd hF
                obtain ⟨v32, h31, eh31, hF⟩ := b2_some hF
                refine g_callV X eob30 rfl rfl (w_X4_goTighten l hl D dA h0 ob30  v32 h31 eh31) q1928 q1930 qs40 q103 q1931 okn_X4_goTighten ⟨by rw [hRf]; exact Nat.le_of_ble_eq_true rfl, by rw [hRl]; exact Nat.le_of_ble_eq_true rfl⟩ (As := []) (rest := []) rfl (by first | exact Nat.le_of_ble_eq_true rfl | simp [cat_rf, cat_i, cat_j, cat_f, cat_d]) dX4_doesOrder_174 (ac_v ?_)
                cases hF
                exact g_iret X hr dX4_doesOrder_177
              · obtain ⟨hx1, hx2⟩ := hx
                obtain ⟨j, hj, hxj⟩ : ∃ j : Nat, j ≤ 19 ∧ v1.toInt = 100 + (j : Int) := ⟨(v1.toInt - 100).toNat, by omega, by omega⟩
                refine g_tableIn X 173 dX4_doesOrder_4 (by omega) (by omega) (off := 169) ?_ (by decide) ?_
                · rw [hxj, show ((100 : Int) + (j : Int) - 100).toNat = j by omega]
                  have hd : j ∈ [1, 3, 4, 5, 6, 7, 10, 11, 12, 13, 15, 16, 17, 18] := by
                    simp only [List.mem_cons, List.not_mem_nil, or_false]; omega
                  revert hd; generalize j = jj; simp only [List.mem_cons, List.not_mem_nil, or_false]; rintro (rfl | rfl | rfl | rfl | rfl | rfl | rfl | rfl | rfl | rfl | rfl | rfl | rfl | rfl) <;> rfl
                · skip
                  refine g_aload_n X dX4_doesOrder_173 rfl rfl ?_
                  obtain ⟨ob30, eob30, hF⟩ := bnd hF
                  obtain ⟨v32, h31, eh31, hF⟩ := b2_some hF
                  refine g_callV X eob30 rfl rfl (w_X4_goTighten l hl D dA h0 ob30  v32 h31 eh31) q1928 q1930 qs40 q103 q1931 okn_X4_goTighten ⟨by rw [hRf]; exact Nat.le_of_ble_eq_true rfl, by rw [hRl]; exact Nat.le_of_ble_eq_true rfl⟩ (As := []) (rest := []) rfl (by first | exact Nat.le_of_ble_eq_true rfl | simp [cat_rf, cat_i, cat_j, cat_f, cat_d]) dX4_doesOrder_174 (ac_v ?_)
                  cases hF
                  exact g_iret X hr dX4_doesOrder_177
def F_X4_here (this : Nat) (h0 : HH) : Option Int32 :=
  Option.bind (getI h0 1 20 (some this)) fun v1 =>
  Option.bind (getI h0 1 7 (some this)) fun v2 =>
  if v2 ≤ v1 then (
    some (0 : Int32)
  ) else (
    Option.bind (getR h0 1 6 (some this)) fun v4 =>
    Option.bind (getI h0 1 20 (some this)) fun v5 =>
    Option.bind (aldI h0 0 v4 v5) fun v6 =>
    some v6
  )
set_option maxHeartbeats 4000000 in
theorem w_X4_here (l : Launch) (hl : l.stackTraces = false) (D : va_G) (dA : Nat → ClassId) (h0 : HH) (this : Nat) (rE : Int32) (hF : F_X4_here this h0 = some rE) : MC D dA l yX4_here cX4_here 1 (Option.some Jvm.ClassFile.FieldType.int) [] 0 0 [va_rf (some this)] h0 (.inr (some (.int rE)), h0) := by
  refine mc_of hl (plainFor_of_name pn_X4) (by simp [lg_sl, cat_rf, cat_i, cat_j, cat_f, cat_d]) ?_
  intro p e s m args below meth c R hRf hRl X hr hnm
  unfold F_X4_here at hF
  rw [show argL [va_rf (some this)] = [some (va_rf (some this))] from by simp [argL, cat_rf, cat_i, cat_j, cat_f, cat_d]]
  refine g_aload_n X dX4_here_0 rfl rfl ?_
  obtain ⟨v1, ev1, hF⟩ := bnd hF
  refine g_get (k := 20) X in_X4 rfl (by decide) q1783 (Or.inl rfl) (getI_V ev1) dX4_here_1 ?_
  refine g_aload_n X dX4_here_4 rfl rfl ?_
  obtain ⟨v2, ev2, hF⟩ := bnd hF
  refine g_get (k := 7) X in_X4 rfl (by decide) q1770 (Or.inl rfl) (getI_V ev2) dX4_here_5 ?_
  refine g_icmp_ge X 23 dX4_here_8 (by decide) (fun c3 => ?_) (fun c3 => ?_)
  · have hF := (if_pos c3).symm.trans hF
    refine g_iconst (v := (0 : Int32)) X dX4_here_23 (by decide) ?_
    cases hF
    exact g_iret X hr dX4_here_24
  · have hF := (if_neg c3).symm.trans hF
    refine g_aload_n X dX4_here_11 rfl rfl ?_
    obtain ⟨v4, ev4, hF⟩ := bnd hF
    refine g_get (k := 6) X in_X4 rfl (by decide) q1769 (Or.inl rfl) (getR_V ev4) dX4_here_12 ?_
    refine g_aload_n X dX4_here_15 rfl rfl ?_
    obtain ⟨v5, ev5, hF⟩ := bnd hF
    refine g_get (k := 20) X in_X4 rfl (by decide) q1783 (Or.inl rfl) (getI_V ev5) dX4_here_16 ?_
    obtain ⟨v6, ev6, hF⟩ := bnd hF
    refine g_iald X ev6 dX4_here_19 ?_
    refine g_goto X 24 dX4_here_20 (by decide) ?_
    cases hF
    exact g_iret X hr dX4_here_24
def F_X4_takes (this : Nat) (a1 : Int32) (h0 : HH) : Option HH :=
  Option.bind (getI h0 1 22 (some this)) fun v1 =>
  Option.bind (okZ (if v1 = 0 then (0 : Int32) else (if a1 = 0 then (0 : Int32) else (1 : Int32)))) fun _ =>
  Option.bind (putV h0 1 22 (some this) (.int (if v1 = 0 then (0 : Int32) else (if a1 = 0 then (0 : Int32) else (1 : Int32))))) fun h4 =>
  Option.bind (getI h4 1 20 (some this)) fun v6 =>
  Option.bind (getI h4 1 22 (some this)) fun v7 =>
  Option.bind (putV h4 1 20 (some this) (.int (v6 + (if v7 = 0 then (0 : Int32) else (1 : Int32))))) fun h9 =>
  some h9
set_option maxHeartbeats 4000000 in
theorem w_X4_takes (l : Launch) (hl : l.stackTraces = false) (D : va_G) (dA : Nat → ClassId) (h0 : HH) (this : Nat) (a1 : Int32) (hE : HH) (hF : F_X4_takes this a1 h0 = some hE) : MC D dA l yX4_takes cX4_takes 2 (Option.none : Option Jvm.ClassFile.FieldType) [] 0 0 [va_rf (some this), .int a1] h0 (.inr none, hE) := by
  refine mc_of hl (plainFor_of_name pn_X4) (by simp [lg_sl, cat_rf, cat_i, cat_j, cat_f, cat_d]) ?_
  intro p e s m args below meth c R hRf hRl X hr hnm
  unfold F_X4_takes at hF
  rw [show argL [va_rf (some this), .int a1] = [some (va_rf (some this)), some (.int a1)] from by simp [argL, cat_rf, cat_i, cat_j, cat_f, cat_d]]
  refine g_aload_n X dX4_takes_0 rfl rfl ?_
  refine g_aload_n X dX4_takes_1 rfl rfl ?_
  obtain ⟨v1, ev1, hF⟩ := bnd hF
  refine g_get (k := 22) X in_X4 rfl (by decide) q1785 (Or.inl rfl) (getI_V ev1) dX4_takes_2 ?_
  suffices K : G p l e R s m args below meth c (RQ D dA h0 (.inr none, hE) below s) D dA h0 2 h0 17 [some (va_rf (some this)), none] [.int (if v1 = 0 then (0 : Int32) else (if a1 = 0 then (0 : Int32) else (1 : Int32))), va_rf (some this)] by
    refine g_if_eq X 16 dX4_takes_5 (by decide) (fun c2 => ?_) (fun c2 => ?_)
    · (try simp only [if_pos c2] at K)
      refine g_iconst (v := (0 : Int32)) X dX4_takes_16 (by decide) ?_
      refine G.drop [true, false] rfl ?_
      first | exact K | (simp only [if_pos c2]; exact K)
    · (try simp only [if_neg c2] at K)
      refine g_iload_n X dX4_takes_8 rfl rfl ?_
      refine g_if_eq X 16 dX4_takes_9 (by decide) (fun c3 => ?_) (fun c3 => ?_)
      · (try simp only [if_pos c3] at K)
        refine g_iconst (v := (0 : Int32)) X dX4_takes_16 (by decide) ?_
        refine G.drop [true, false] rfl ?_
        first | exact K | (simp only [if_neg c2, if_pos c3]; exact K)
      · (try simp only [if_neg c3] at K)
        refine g_iconst (v := (1 : Int32)) X dX4_takes_12 (by decide) ?_
        refine g_goto X 17 dX4_takes_13 (by decide) ?_
        refine G.drop [true, false] rfl ?_
        first | exact K | (simp only [if_neg c2, if_neg c3]; exact K)
  obtain ⟨_, z5, hF⟩ := bnd hF
  obtain ⟨h4, eh4, hF⟩ := bnd hF
  refine g_put (k := 22) X in_X4 tyX4 tyX4_ok nmX4 rfl (by decide) q1785 (Or.inl rfl) rfl (tyX4_ok 22 (by decide)) (narZ z5) (fitZ z5) eh4 dX4_takes_17 ?_
  refine g_aload_n X dX4_takes_20 rfl rfl ?_
  refine g_dup X dX4_takes_21 (cat_rf _) ?_
  obtain ⟨v6, ev6, hF⟩ := bnd hF
  refine g_get (k := 20) X in_X4 rfl (by decide) q1783 (Or.inl rfl) (getI_V ev6) dX4_takes_22 ?_
  refine g_aload_n X dX4_takes_25 rfl rfl ?_
  obtain ⟨v7, ev7, hF⟩ := bnd hF
  refine g_get (k := 22) X in_X4 rfl (by decide) q1785 (Or.inl rfl) (getI_V ev7) dX4_takes_26 ?_
  suffices K : G p l e R s m args below meth c (RQ D dA h0 (.inr none, hE) below s) D dA h0 2 h4 37 [none, none] [.int (if v7 = 0 then (0 : Int32) else (1 : Int32)), .int v6, va_rf (some this)] by
    refine g_if_eq X 36 dX4_takes_29 (by decide) (fun c8 => ?_) (fun c8 => ?_)
    · (try simp only [if_pos c8] at K)
      refine g_iconst (v := (0 : Int32)) X dX4_takes_36 (by decide) ?_
      refine G.drop [false, false] rfl ?_
      first | exact K | (simp only [if_pos c8]; exact K)
    · (try simp only [if_neg c8] at K)
      refine g_iconst (v := (1 : Int32)) X dX4_takes_32 (by decide) ?_
      refine g_goto X 37 dX4_takes_33 (by decide) ?_
      refine G.drop [false, false] rfl ?_
      first | exact K | (simp only [if_neg c8]; exact K)
  refine g_iadd X dX4_takes_37 ?_
  obtain ⟨h9, eh9, hF⟩ := bnd hF
  refine g_put (k := 20) X in_X4 tyX4 tyX4_ok nmX4 rfl (by decide) q1783 (Or.inl rfl) rfl (tyX4_ok 20 (by decide)) rfl rfl eh9 dX4_takes_38 ?_
  cases hF
  exact g_vret X hr dX4_takes_41
def F_X4_takesDigit (this : Nat) (h0 : HH) : Option (Int32 × HH) :=
  Option.bind (isO h0 1 (some this)) fun ob1 =>
  Option.bind (F_X4_here ob1 h0) fun v2 =>
  Option.bind (isO h0 1 (some this)) fun ob3 =>
  Option.bind (F_X4_takes ob3 (F_X4_in (v2 - (48 : Int32)) (0 : Int32) (9 : Int32)) h0) fun h4 =>
  some ((v2 - (48 : Int32)), h4)
set_option maxHeartbeats 4000000 in
theorem w_X4_takesDigit (l : Launch) (hl : l.stackTraces = false) (D : va_G) (dA : Nat → ClassId) (h0 : HH) (this : Nat) (rE : Int32) (hE : HH) (hF : F_X4_takesDigit this h0 = some (rE, hE)) : MC D dA l yX4_takesDigit cX4_takesDigit 2 (Option.some Jvm.ClassFile.FieldType.int) [] 1 22 [va_rf (some this)] h0 (.inr (some (.int rE)), hE) := by
  refine mc_of hl (plainFor_of_name pn_X4) (by simp [lg_sl, cat_rf, cat_i, cat_j, cat_f, cat_d]) ?_
  intro p e s m args below meth c R hRf hRl X hr hnm
  unfold F_X4_takesDigit at hF
  rw [show argL [va_rf (some this)] = [some (va_rf (some this))] from by simp [argL, cat_rf, cat_i, cat_j, cat_f, cat_d]]
  refine G.pad 1 (L' := [some (va_rf (some this)), none]) rfl ?_
  refine g_aload_n X dX4_takesDigit_0 rfl rfl ?_
  obtain ⟨ob1, eob1, hF⟩ := bnd hF
  obtain ⟨v2, ev2, hF⟩ := bnd hF
  refine g_callV X eob1 rfl rfl (w_X4_here l hl D dA h0 ob1  v2 ev2) q2359 q2361 qs87 q103 q2362 okn_X4_here ⟨by rw [hRf]; exact Nat.le_of_ble_eq_true rfl, by rw [hRl]; exact Nat.le_of_ble_eq_true rfl⟩ (As := []) (rest := []) rfl (by first | exact Nat.le_of_ble_eq_true rfl | simp [cat_rf, cat_i, cat_j, cat_f, cat_d]) dX4_takesDigit_1 (ac_v ?_)
  refine g_bipush (v := (48 : Int32)) X dX4_takesDigit_4 (by decide) ?_
  refine g_isub X dX4_takesDigit_6 ?_
  refine g_istore_n (L' := [some (va_rf (some this)), some (.int (v2 - (48 : Int32)))]) X dX4_takesDigit_7 rfl (Nat.le_of_ble_eq_true rfl) (by first | rfl | simp [stL, rm1, clr2, cat_rf, cat_i, cat_j, cat_f, cat_d]) ?_
  refine g_aload_n X dX4_takesDigit_8 rfl rfl ?_
  refine g_iload_n X dX4_takesDigit_9 rfl rfl ?_
  refine g_iconst (v := (0 : Int32)) X dX4_takesDigit_10 (by decide) ?_
  refine g_bipush (v := (9 : Int32)) X dX4_takesDigit_11 (by decide) ?_
  refine g_callS X (w_X4_in l hl D dA h0 (v2 - (48 : Int32)) (0 : Int32) (9 : Int32)) q1873 q1874 q103 q1875 okn_X4_in ⟨by rw [hRf]; exact Nat.le_of_ble_eq_true rfl, by rw [hRl]; exact Nat.le_of_ble_eq_true rfl⟩ (As := [.int (v2 - (48 : Int32)), .int (0 : Int32), .int (9 : Int32)]) (rest := [va_rf (some this)]) rfl (by first | exact Nat.le_of_ble_eq_true rfl | simp [cat_rf, cat_i, cat_j, cat_f, cat_d]) dX4_takesDigit_13 (ac_v ?_)
  obtain ⟨ob3, eob3, hF⟩ := bnd hF
  obtain ⟨h4, eh4, hF⟩ := bnd hF
  refine g_callV X eob3 rfl rfl (w_X4_takes l hl D dA h0 ob3 (F_X4_in (v2 - (48 : Int32)) (0 : Int32) (9 : Int32)) h4 eh4) q2363 q2365 qs88 q103 q2366 okn_X4_takes ⟨by rw [hRf]; exact Nat.le_of_ble_eq_true rfl, by rw [hRl]; exact Nat.le_of_ble_eq_true rfl⟩ (As := [.int (F_X4_in (v2 - (48 : Int32)) (0 : Int32) (9 : Int32))]) (rest := []) rfl (by first | exact Nat.le_of_ble_eq_true rfl | simp [cat_rf, cat_i, cat_j, cat_f, cat_d]) dX4_takesDigit_16 (ac_0 ?_)
  refine g_iload_n X dX4_takesDigit_19 rfl rfl ?_
  cases hF
  exact g_iret X hr dX4_takesDigit_20
def F_X4_takesOrder_T199 (this : Nat) (y0_44 : Int32) (y0_77 : Int32) (y0_110 : Int32) (y1_110 : Option Nat) (h_199 : HH) : Option HH :=
  Option.bind (isO h_199 1 (some this)) fun ob12 =>
  Option.bind (F_X4_here ob12 h_199) fun v13 =>
  Option.bind (isO h_199 1 (some this)) fun ob15 =>
  Option.bind (F_X4_takes ob15 (if v13 = (59 : Int32) then (1 : Int32) else (0 : Int32)) h_199) fun h16 =>
  some h16
def F_X4_takesOrder_T164 (this : Nat) (y0_44 : Int32) (y0_77 : Int32) (y0_110 : Int32) (y1_110 : Option Nat) (h_164 : HH) : Option HH :=
  Option.bind (getI h_164 1 23 (some this)) fun v11 =>
  if v11 = (100 : Int32) then (
    Option.bind (isO h_164 1 (some this)) fun ob18 =>
    Option.bind (F_X4_here ob18 h_164) fun v19 =>
    Option.bind (isO h_164 1 (some this)) fun ob21 =>
    Option.bind (F_X4_takes ob21 (if v19 = (44 : Int32) then (1 : Int32) else (0 : Int32)) h_164) fun h22 =>
    Option.bind (isO h22 1 (some this)) fun ob23 =>
    b2 (F_X4_takesDigit ob23 h22) fun v25 h24 =>
    Option.bind (putV h24 1 26 (some this) (.int v25)) fun h26 =>
    F_X4_takesOrder_T199 this y0_44 y0_77 y0_110 y1_110  h26
  ) else (
    F_X4_takesOrder_T199 this y0_44 y0_77 y0_110 y1_110  h_164
  )
def F_X4_takesOrder_T125 (this : Nat) (y0_44 : Int32) (y0_77 : Int32) (y0_110 : Int32) (y1_110 : Option Nat) (h_125 : HH) : Option HH :=
  if y0_77 = 0 then (
    Option.bind (getI h_125 1 23 (some this)) fun v37 =>
    if v37 = (100 : Int32) then (
      Option.bind (isO h_125 1 (some this)) fun ob39 =>
      Option.bind (F_X4_here ob39 h_125) fun v40 =>
      Option.bind (isO h_125 1 (some this)) fun ob42 =>
      Option.bind (F_X4_takes ob42 (if v40 = (44 : Int32) then (1 : Int32) else (0 : Int32)) h_125) fun h43 =>
      Option.bind (isO h43 1 (some this)) fun ob44 =>
      b2 (F_X4_takesDigit ob44 h43) fun v46 h45 =>
      Option.bind (putV h45 1 25 (some this) (.int v46)) fun h47 =>
      F_X4_takesOrder_T164 this y0_44 y0_77 y0_110 y1_110  h47
    ) else (
      F_X4_takesOrder_T164 this y0_44 y0_77 y0_110 y1_110  h_125
    )
  ) else (
    Option.bind (isO h_125 1 (some this)) fun ob28 =>
    Option.bind (F_X4_here ob28 h_125) fun v29 =>
    Option.bind (isO h_125 1 (some this)) fun ob31 =>
    Option.bind (F_X4_takes ob31 (if v29 = (44 : Int32) then (1 : Int32) else (0 : Int32)) h_125) fun h32 =>
    Option.bind (isO h32 1 (some this)) fun ob33 =>
    b2 (F_X4_takesDigit ob33 h32) fun v35 h34 =>
    Option.bind (putV h34 1 25 (some this) (.int v35)) fun h36 =>
    F_X4_takesOrder_T164 this y0_44 y0_77 y0_110 y1_110  h36
  )
def F_X4_takesOrder_T110 (this : Nat) (y0_44 : Int32) (y0_77 : Int32) (y0_110 : Int32) (y1_110 : Option Nat) (h_110 : HH) : Option HH :=
  Option.bind (isO h_110 1 y1_110) fun ob9 =>
  Option.bind (F_X4_takes ob9 y0_110 h_110) fun h10 =>
  if y0_44 = 0 then (
    Option.bind (isO h10 1 (some this)) fun ob49 =>
    b2 (F_X4_takesDigit ob49 h10) fun v51 h50 =>
    Option.bind (putV h50 1 24 (some this) (.int v51)) fun h52 =>
    F_X4_takesOrder_T125 this y0_44 y0_77 y0_110 y1_110  h52
  ) else (
    F_X4_takesOrder_T125 this y0_44 y0_77 y0_110 y1_110  h10
  )
def F_X4_takesOrder_T77 (this : Nat) (y0_44 : Int32) (y0_77 : Int32) (h_77 : HH) : Option HH :=
  if y0_44 = 0 then (
    if y0_77 = 0 then (
      Option.bind (getI h_77 1 23 (some this)) fun v55 =>
      if v55 = (100 : Int32) then (
        F_X4_takesOrder_T110 this y0_44 y0_77 (1 : Int32) (some this) h_77
      ) else (
        Option.bind (getI h_77 1 23 (some this)) fun v57 =>
        if v57 = (102 : Int32) then (
          F_X4_takesOrder_T110 this y0_44 y0_77 (1 : Int32) (some this) h_77
        ) else (
          F_X4_takesOrder_T110 this y0_44 y0_77 (0 : Int32) (some this) h_77
        )
      )
    ) else (
      F_X4_takesOrder_T110 this y0_44 y0_77 (1 : Int32) (some this) h_77
    )
  ) else (
    F_X4_takesOrder_T110 this y0_44 y0_77 (1 : Int32) (some this) h_77
  )
def F_X4_takesOrder_T44 (this : Nat) (y0_44 : Int32) (h_44 : HH) : Option HH :=
  Option.bind (getI h_44 1 23 (some this)) fun v8 =>
  if v8 = (109 : Int32) then (
    F_X4_takesOrder_T77 this y0_44 (1 : Int32) h_44
  ) else (
    Option.bind (getI h_44 1 23 (some this)) fun v60 =>
    if v60 = (108 : Int32) then (
      F_X4_takesOrder_T77 this y0_44 (1 : Int32) h_44
    ) else (
      Option.bind (getI h_44 1 23 (some this)) fun v62 =>
      if v62 = (114 : Int32) then (
        F_X4_takesOrder_T77 this y0_44 (1 : Int32) h_44
      ) else (
        F_X4_takesOrder_T77 this y0_44 (0 : Int32) h_44
      )
    )
  )
def F_X4_takesOrder (this : Nat) (h0 : HH) : Option HH :=
  Option.bind (getI h0 1 20 (some this)) fun v1 =>
  Option.bind (putV h0 1 21 (some this) (.int v1)) fun h2 =>
  Option.bind (putV h2 1 22 (some this) (.int (1 : Int32))) fun h3 =>
  Option.bind (isO h3 1 (some this)) fun ob4 =>
  Option.bind (F_X4_here ob4 h3) fun v5 =>
  Option.bind (putV h3 1 23 (some this) (.int v5)) fun h6 =>
  Option.bind (getI h6 1 23 (some this)) fun v7 =>
  if v7 = (119 : Int32) then (
    F_X4_takesOrder_T44 this (1 : Int32) h6
  ) else (
    Option.bind (getI h6 1 23 (some this)) fun v65 =>
    if v65 = (116 : Int32) then (
      F_X4_takesOrder_T44 this (1 : Int32) h6
    ) else (
      F_X4_takesOrder_T44 this (0 : Int32) h6
    )
  )
set_option maxHeartbeats 4000000 in
theorem w_X4_takesOrder (l : Launch) (hl : l.stackTraces = false) (D : va_G) (dA : Nat → ClassId) (h0 : HH) (this : Nat) (hE : HH) (hF : F_X4_takesOrder this h0 = some hE) : MC D dA l yX4_takesOrder cX4_takesOrder 3 (Option.none : Option Jvm.ClassFile.FieldType) [] 2 43 [va_rf (some this)] h0 (.inr none, hE) := by
  refine mc_of hl (plainFor_of_name pn_X4) (by simp [lg_sl, cat_rf, cat_i, cat_j, cat_f, cat_d]) ?_
  intro p e s m args below meth c R hRf hRl X hr hnm
  unfold F_X4_takesOrder at hF
  rw [show argL [va_rf (some this)] = [some (va_rf (some this))] from by simp [argL, cat_rf, cat_i, cat_j, cat_f, cat_d]]
  refine G.pad 2 (L' := [some (va_rf (some this)), none, none]) rfl ?_
  refine g_aload_n X dX4_takesOrder_0 rfl rfl ?_
  refine g_aload_n X dX4_takesOrder_1 rfl rfl ?_
  obtain ⟨v1, ev1, hF⟩ := bnd hF
  refine g_get (k := 20) X in_X4 rfl (by decide) q1783 (Or.inl rfl) (getI_V ev1) dX4_takesOrder_2 ?_
  obtain ⟨h2, eh2, hF⟩ := bnd hF
  refine g_put (k := 21) X in_X4 tyX4 tyX4_ok nmX4 rfl (by decide) q1784 (Or.inl rfl) rfl (tyX4_ok 21 (by decide)) rfl rfl eh2 dX4_takesOrder_5 ?_
  refine g_aload_n X dX4_takesOrder_8 rfl rfl ?_
  refine g_iconst (v := (1 : Int32)) X dX4_takesOrder_9 (by decide) ?_
  obtain ⟨h3, eh3, hF⟩ := bnd hF
  refine g_put (k := 22) X in_X4 tyX4 tyX4_ok nmX4 rfl (by decide) q1785 (Or.inl rfl) rfl (tyX4_ok 22 (by decide)) rfl rfl eh3 dX4_takesOrder_10 ?_
  refine g_aload_n X dX4_takesOrder_13 rfl rfl ?_
  refine g_aload_n X dX4_takesOrder_14 rfl rfl ?_
  obtain ⟨ob4, eob4, hF⟩ := bnd hF
  obtain ⟨v5, ev5, hF⟩ := bnd hF
  refine g_callV X eob4 rfl rfl (w_X4_here l hl D dA h3 ob4  v5 ev5) q2359 q2361 qs87 q103 q2362 okn_X4_here ⟨by rw [hRf]; exact Nat.le_of_ble_eq_true rfl, by rw [hRl]; exact Nat.le_of_ble_eq_true rfl⟩ (As := []) (rest := [va_rf (some this)]) rfl (by first | exact Nat.le_of_ble_eq_true rfl | simp [cat_rf, cat_i, cat_j, cat_f, cat_d]) dX4_takesOrder_15 (ac_v ?_)
  obtain ⟨h6, eh6, hF⟩ := bnd hF
  refine g_put (k := 23) X in_X4 tyX4 tyX4_ok nmX4 rfl (by decide) q1786 (Or.inl rfl) rfl (tyX4_ok 23 (by decide)) rfl rfl eh6 dX4_takesOrder_18 ?_
  refine g_aload_n X dX4_takesOrder_21 rfl rfl ?_
  obtain ⟨v7, ev7, hF⟩ := bnd hF
  refine g_get (k := 23) X in_X4 rfl (by decide) q1786 (Or.inl rfl) (getI_V ev7) dX4_takesOrder_22 ?_
  refine g_bipush (v := (119 : Int32)) X dX4_takesOrder_25 (by decide) ?_
  have T44 : ∀ (y0_44 : Int32) (h_44 : HH) , F_X4_takesOrder_T44 this y0_44 h_44 = some hE → G p l e R s m args below meth c (RQ D dA h0 (.inr none, hE) below s) D dA h0 3 h_44 44 [some (va_rf (some this)), none, none] [.int y0_44] := by
    intro y0_44 h_44  hF 
    unfold F_X4_takesOrder_T44 at hF
    refine g_istore_n (L' := [some (va_rf (some this)), some (.int y0_44), none]) X dX4_takesOrder_44 rfl (Nat.le_of_ble_eq_true rfl) (by first | rfl | simp [stL, rm1, clr2, cat_rf, cat_i, cat_j, cat_f, cat_d]) ?_
    refine g_aload_n X dX4_takesOrder_45 rfl rfl ?_
    obtain ⟨v8, ev8, hF⟩ := bnd hF
    refine g_get (k := 23) X in_X4 rfl (by decide) q1786 (Or.inl rfl) (getI_V ev8) dX4_takesOrder_46 ?_
    refine g_bipush (v := (109 : Int32)) X dX4_takesOrder_49 (by decide) ?_
    have T77 : ∀ (y0_77 : Int32) (h_77 : HH) , F_X4_takesOrder_T77 this y0_44 y0_77 h_77 = some hE → G p l e R s m args below meth c (RQ D dA h0 (.inr none, hE) below s) D dA h0 3 h_77 77 [some (va_rf (some this)), some (.int y0_44), none] [.int y0_77] := by
      intro y0_77 h_77  hF 
      unfold F_X4_takesOrder_T77 at hF
      refine g_istore_n (L' := [some (va_rf (some this)), some (.int y0_44), some (.int y0_77)]) X dX4_takesOrder_77 rfl (Nat.le_of_ble_eq_true rfl) (by first | rfl | simp [stL, rm1, clr2, cat_rf, cat_i, cat_j, cat_f, cat_d]) ?_
      refine g_aload_n X dX4_takesOrder_78 rfl rfl ?_
      refine g_iload_n X dX4_takesOrder_79 rfl rfl ?_
      have T110 : ∀ (y0_110 : Int32) (y1_110 : Option Nat) (h_110 : HH) , F_X4_takesOrder_T110 this y0_44 y0_77 y0_110 y1_110 h_110 = some hE → G p l e R s m args below meth c (RQ D dA h0 (.inr none, hE) below s) D dA h0 3 h_110 110 [some (va_rf (some this)), some (.int y0_44), some (.int y0_77)] [.int y0_110, va_rf y1_110] := by
        intro y0_110 y1_110 h_110  hF 
        unfold F_X4_takesOrder_T110 at hF
        obtain ⟨ob9, eob9, hF⟩ := bnd hF
        obtain ⟨h10, eh10, hF⟩ := bnd hF
        refine g_callV X eob9 rfl rfl (w_X4_takes l hl D dA h_110 ob9 y0_110 h10 eh10) q2363 q2365 qs88 q103 q2366 okn_X4_takes ⟨by rw [hRf]; exact Nat.le_of_ble_eq_true rfl, by rw [hRl]; exact Nat.le_of_ble_eq_true rfl⟩ (As := [.int y0_110]) (rest := []) rfl (by first | exact Nat.le_of_ble_eq_true rfl | simp [cat_rf, cat_i, cat_j, cat_f, cat_d]) dX4_takesOrder_110 (ac_0 ?_)
        refine g_iload_n X dX4_takesOrder_113 rfl rfl ?_
        have T125 : ∀  (h_125 : HH) , F_X4_takesOrder_T125 this y0_44 y0_77 y0_110 y1_110  h_125 = some hE → G p l e R s m args below meth c (RQ D dA h0 (.inr none, hE) below s) D dA h0 3 h_125 125 [some (va_rf (some this)), none, some (.int y0_77)] [] := by
          intro  h_125  hF 
          unfold F_X4_takesOrder_T125 at hF
          refine g_iload_n X dX4_takesOrder_125 rfl rfl ?_
          have T164 : ∀  (h_164 : HH) , F_X4_takesOrder_T164 this y0_44 y0_77 y0_110 y1_110  h_164 = some hE → G p l e R s m args below meth c (RQ D dA h0 (.inr none, hE) below s) D dA h0 3 h_164 164 [some (va_rf (some this)), none, none] [] := by
            intro  h_164  hF 
            unfold F_X4_takesOrder_T164 at hF
            refine g_aload_n X dX4_takesOrder_164 rfl rfl ?_
            obtain ⟨v11, ev11, hF⟩ := bnd hF
            refine g_get (k := 23) X in_X4 rfl (by decide) q1786 (Or.inl rfl) (getI_V ev11) dX4_takesOrder_165 ?_
            refine g_bipush (v := (100 : Int32)) X dX4_takesOrder_168 (by decide) ?_
            have T199 : ∀  (h_199 : HH) , F_X4_takesOrder_T199 this y0_44 y0_77 y0_110 y1_110  h_199 = some hE → G p l e R s m args below meth c (RQ D dA h0 (.inr none, hE) below s) D dA h0 3 h_199 199 [some (va_rf (some this)), none, none] [] := by
              intro  h_199  hF 
              unfold F_X4_takesOrder_T199 at hF
              refine g_aload_n X dX4_takesOrder_199 rfl rfl ?_
              refine g_aload_n X dX4_takesOrder_200 rfl rfl ?_
              obtain ⟨ob12, eob12, hF⟩ := bnd hF
              obtain ⟨v13, ev13, hF⟩ := bnd hF
              refine g_callV X eob12 rfl rfl (w_X4_here l hl D dA h_199 ob12  v13 ev13) q2359 q2361 qs87 q103 q2362 okn_X4_here ⟨by rw [hRf]; exact Nat.le_of_ble_eq_true rfl, by rw [hRl]; exact Nat.le_of_ble_eq_true rfl⟩ (As := []) (rest := [va_rf (some this)]) rfl (by first | exact Nat.le_of_ble_eq_true rfl | simp [cat_rf, cat_i, cat_j, cat_f, cat_d]) dX4_takesOrder_201 (ac_v ?_)
              refine g_bipush (v := (59 : Int32)) X dX4_takesOrder_204 (by decide) ?_
              suffices K : G p l e R s m args below meth c (RQ D dA h0 (.inr none, hE) below s) D dA h0 3 h_199 214 [none, none, none] [.int (if v13 = (59 : Int32) then (1 : Int32) else (0 : Int32)), va_rf (some this)] by
                refine g_icmp_ne X 213 dX4_takesOrder_206 (by decide) (fun c14 => ?_) (fun c14 => ?_)
                · (try simp only [if_neg c14] at K)
                  refine g_iconst (v := (0 : Int32)) X dX4_takesOrder_213 (by decide) ?_
                  refine G.drop [false, false, false] rfl ?_
                  first | exact K | (simp only [if_neg c14]; exact K)
                · (try simp only [if_pos c14] at K)
                  refine g_iconst (v := (1 : Int32)) X dX4_takesOrder_209 (by decide) ?_
                  refine g_goto X 214 dX4_takesOrder_210 (by decide) ?_
                  refine G.drop [false, false, false] rfl ?_
                  first | exact K | (simp only [if_pos c14]; exact K)
              obtain ⟨ob15, eob15, hF⟩ := bnd hF
              obtain ⟨h16, eh16, hF⟩ := bnd hF
              refine g_callV X eob15 rfl rfl (w_X4_takes l hl D dA h_199 ob15 (if v13 = (59 : Int32) then (1 : Int32) else (0 : Int32)) h16 eh16) q2363 q2365 qs88 q103 q2366 okn_X4_takes ⟨by rw [hRf]; exact Nat.le_of_ble_eq_true rfl, by rw [hRl]; exact Nat.le_of_ble_eq_true rfl⟩ (As := [.int (if v13 = (59 : Int32) then (1 : Int32) else (0 : Int32))]) (rest := []) rfl (by first | exact Nat.le_of_ble_eq_true rfl | simp [cat_rf, cat_i, cat_j, cat_f, cat_d]) dX4_takesOrder_214 (ac_0 ?_)
              cases hF
              exact g_vret X hr dX4_takesOrder_217
            refine g_icmp_ne X 199 dX4_takesOrder_170 (by decide) (fun c17 => ?_) (fun c17 => ?_)
            · have hF := (if_neg c17).symm.trans hF
              exact T199 _ hF
            · have hF := (if_pos c17).symm.trans hF
              refine g_aload_n X dX4_takesOrder_173 rfl rfl ?_
              refine g_aload_n X dX4_takesOrder_174 rfl rfl ?_
              obtain ⟨ob18, eob18, hF⟩ := bnd hF
              obtain ⟨v19, ev19, hF⟩ := bnd hF
              refine g_callV X eob18 rfl rfl (w_X4_here l hl D dA h_164 ob18  v19 ev19) q2359 q2361 qs87 q103 q2362 okn_X4_here ⟨by rw [hRf]; exact Nat.le_of_ble_eq_true rfl, by rw [hRl]; exact Nat.le_of_ble_eq_true rfl⟩ (As := []) (rest := [va_rf (some this)]) rfl (by first | exact Nat.le_of_ble_eq_true rfl | simp [cat_rf, cat_i, cat_j, cat_f, cat_d]) dX4_takesOrder_175 (ac_v ?_)
              refine g_bipush (v := (44 : Int32)) X dX4_takesOrder_178 (by decide) ?_
              suffices K : G p l e R s m args below meth c (RQ D dA h0 (.inr none, hE) below s) D dA h0 3 h_164 188 [some (va_rf (some this)), none, none] [.int (if v19 = (44 : Int32) then (1 : Int32) else (0 : Int32)), va_rf (some this)] by
                refine g_icmp_ne X 187 dX4_takesOrder_180 (by decide) (fun c20 => ?_) (fun c20 => ?_)
                · (try simp only [if_neg c20] at K)
                  refine g_iconst (v := (0 : Int32)) X dX4_takesOrder_187 (by decide) ?_
                  first | exact K | (simp only [if_neg c20]; exact K)
                · (try simp only [if_pos c20] at K)
                  refine g_iconst (v := (1 : Int32)) X dX4_takesOrder_183 (by decide) ?_
                  refine g_goto X 188 dX4_takesOrder_184 (by decide) ?_
                  first | exact K | (simp only [if_pos c20]; exact K)
              obtain ⟨ob21, eob21, hF⟩ := bnd hF
              obtain ⟨h22, eh22, hF⟩ := bnd hF
              refine g_callV X eob21 rfl rfl (w_X4_takes l hl D dA h_164 ob21 (if v19 = (44 : Int32) then (1 : Int32) else (0 : Int32)) h22 eh22) q2363 q2365 qs88 q103 q2366 okn_X4_takes ⟨by rw [hRf]; exact Nat.le_of_ble_eq_true rfl, by rw [hRl]; exact Nat.le_of_ble_eq_true rfl⟩ (As := [.int (if v19 = (44 : Int32) then (1 : Int32) else (0 : Int32))]) (rest := []) rfl (by first | exact Nat.le_of_ble_eq_true rfl | simp [cat_rf, cat_i, cat_j, cat_f, cat_d]) dX4_takesOrder_188 (ac_0 ?_)
              refine g_aload_n X dX4_takesOrder_191 rfl rfl ?_
              refine g_aload_n X dX4_takesOrder_192 rfl rfl ?_
              obtain ⟨ob23, eob23, hF⟩ := bnd hF
              obtain ⟨v25, h24, eh24, hF⟩ := b2_some hF
              refine g_callV X eob23 rfl rfl (w_X4_takesDigit l hl D dA h22 ob23  v25 h24 eh24) q2367 q2369 qs89 q103 q2370 okn_X4_takesDigit ⟨by rw [hRf]; exact Nat.le_of_ble_eq_true rfl, by rw [hRl]; exact Nat.le_of_ble_eq_true rfl⟩ (As := []) (rest := [va_rf (some this)]) rfl (by first | exact Nat.le_of_ble_eq_true rfl | simp [cat_rf, cat_i, cat_j, cat_f, cat_d]) dX4_takesOrder_193 (ac_v ?_)
              obtain ⟨h26, eh26, hF⟩ := bnd hF
              refine g_put (k := 26) X in_X4 tyX4 tyX4_ok nmX4 rfl (by decide) q1789 (Or.inl rfl) rfl (tyX4_ok 26 (by decide)) rfl rfl eh26 dX4_takesOrder_196 ?_
              exact T199 _ hF
          refine g_if_ne X 138 dX4_takesOrder_126 (by decide) (fun c27 => ?_) (fun c27 => ?_)
          · have hF := (if_neg c27).symm.trans hF
            refine g_aload_n X dX4_takesOrder_138 rfl rfl ?_
            refine g_aload_n X dX4_takesOrder_139 rfl rfl ?_
            obtain ⟨ob28, eob28, hF⟩ := bnd hF
            obtain ⟨v29, ev29, hF⟩ := bnd hF
            refine g_callV X eob28 rfl rfl (w_X4_here l hl D dA h_125 ob28  v29 ev29) q2359 q2361 qs87 q103 q2362 okn_X4_here ⟨by rw [hRf]; exact Nat.le_of_ble_eq_true rfl, by rw [hRl]; exact Nat.le_of_ble_eq_true rfl⟩ (As := []) (rest := [va_rf (some this)]) rfl (by first | exact Nat.le_of_ble_eq_true rfl | simp [cat_rf, cat_i, cat_j, cat_f, cat_d]) dX4_takesOrder_140 (ac_v ?_)
            refine g_bipush (v := (44 : Int32)) X dX4_takesOrder_143 (by decide) ?_
            suffices K : G p l e R s m args below meth c (RQ D dA h0 (.inr none, hE) below s) D dA h0 3 h_125 153 [some (va_rf (some this)), none, none] [.int (if v29 = (44 : Int32) then (1 : Int32) else (0 : Int32)), va_rf (some this)] by
              refine g_icmp_ne X 152 dX4_takesOrder_145 (by decide) (fun c30 => ?_) (fun c30 => ?_)
              · (try simp only [if_neg c30] at K)
                refine g_iconst (v := (0 : Int32)) X dX4_takesOrder_152 (by decide) ?_
                refine G.drop [true, false, false] rfl ?_
                first | exact K | (simp only [if_neg c30]; exact K)
              · (try simp only [if_pos c30] at K)
                refine g_iconst (v := (1 : Int32)) X dX4_takesOrder_148 (by decide) ?_
                refine g_goto X 153 dX4_takesOrder_149 (by decide) ?_
                refine G.drop [true, false, false] rfl ?_
                first | exact K | (simp only [if_pos c30]; exact K)
            obtain ⟨ob31, eob31, hF⟩ := bnd hF
            obtain ⟨h32, eh32, hF⟩ := bnd hF
            refine g_callV X eob31 rfl rfl (w_X4_takes l hl D dA h_125 ob31 (if v29 = (44 : Int32) then (1 : Int32) else (0 : Int32)) h32 eh32) q2363 q2365 qs88 q103 q2366 okn_X4_takes ⟨by rw [hRf]; exact Nat.le_of_ble_eq_true rfl, by rw [hRl]; exact Nat.le_of_ble_eq_true rfl⟩ (As := [.int (if v29 = (44 : Int32) then (1 : Int32) else (0 : Int32))]) (rest := []) rfl (by first | exact Nat.le_of_ble_eq_true rfl | simp [cat_rf, cat_i, cat_j, cat_f, cat_d]) dX4_takesOrder_153 (ac_0 ?_)
            refine g_aload_n X dX4_takesOrder_156 rfl rfl ?_
            refine g_aload_n X dX4_takesOrder_157 rfl rfl ?_
            obtain ⟨ob33, eob33, hF⟩ := bnd hF
            obtain ⟨v35, h34, eh34, hF⟩ := b2_some hF
            refine g_callV X eob33 rfl rfl (w_X4_takesDigit l hl D dA h32 ob33  v35 h34 eh34) q2367 q2369 qs89 q103 q2370 okn_X4_takesDigit ⟨by rw [hRf]; exact Nat.le_of_ble_eq_true rfl, by rw [hRl]; exact Nat.le_of_ble_eq_true rfl⟩ (As := []) (rest := [va_rf (some this)]) rfl (by first | exact Nat.le_of_ble_eq_true rfl | simp [cat_rf, cat_i, cat_j, cat_f, cat_d]) dX4_takesOrder_158 (ac_v ?_)
            obtain ⟨h36, eh36, hF⟩ := bnd hF
            refine g_put (k := 25) X in_X4 tyX4 tyX4_ok nmX4 rfl (by decide) q1788 (Or.inl rfl) rfl (tyX4_ok 25 (by decide)) rfl rfl eh36 dX4_takesOrder_161 ?_
            exact T164 _ hF
          · have hF := (if_pos c27).symm.trans hF
            refine g_aload_n X dX4_takesOrder_129 rfl rfl ?_
            obtain ⟨v37, ev37, hF⟩ := bnd hF
            refine g_get (k := 23) X in_X4 rfl (by decide) q1786 (Or.inl rfl) (getI_V ev37) dX4_takesOrder_130 ?_
            refine g_bipush (v := (100 : Int32)) X dX4_takesOrder_133 (by decide) ?_
            refine g_icmp_ne X 164 dX4_takesOrder_135 (by decide) (fun c38 => ?_) (fun c38 => ?_)
            · have hF := (if_neg c38).symm.trans hF
              refine G.drop [true, false, false] rfl ?_
              exact T164 _ hF
            · have hF := (if_pos c38).symm.trans hF
              refine g_aload_n X dX4_takesOrder_138 rfl rfl ?_
              refine g_aload_n X dX4_takesOrder_139 rfl rfl ?_
              obtain ⟨ob39, eob39, hF⟩ := bnd hF
              obtain ⟨v40, ev40, hF⟩ := bnd hF
              refine g_callV X eob39 rfl rfl (w_X4_here l hl D dA h_125 ob39  v40 ev40) q2359 q2361 qs87 q103 q2362 okn_X4_here ⟨by rw [hRf]; exact Nat.le_of_ble_eq_true rfl, by rw [hRl]; exact Nat.le_of_ble_eq_true rfl⟩ (As := []) (rest := [va_rf (some this)]) rfl (by first | exact Nat.le_of_ble_eq_true rfl | simp [cat_rf, cat_i, cat_j, cat_f, cat_d]) dX4_takesOrder_140 (ac_v ?_)
              refine g_bipush (v := (44 : Int32)) X dX4_takesOrder_143 (by decide) ?_
              suffices K : G p l e R s m args below meth c (RQ D dA h0 (.inr none, hE) below s) D dA h0 3 h_125 153 [some (va_rf (some this)), none, none] [.int (if v40 = (44 : Int32) then (1 : Int32) else (0 : Int32)), va_rf (some this)] by
                refine g_icmp_ne X 152 dX4_takesOrder_145 (by decide) (fun c41 => ?_) (fun c41 => ?_)
                · (try simp only [if_neg c41] at K)
                  refine g_iconst (v := (0 : Int32)) X dX4_takesOrder_152 (by decide) ?_
                  refine G.drop [true, false, false] rfl ?_
                  first | exact K | (simp only [if_neg c41]; exact K)
                · (try simp only [if_pos c41] at K)
                  refine g_iconst (v := (1 : Int32)) X dX4_takesOrder_148 (by decide) ?_
                  refine g_goto X 153 dX4_takesOrder_149 (by decide) ?_
                  refine G.drop [true, false, false] rfl ?_
                  first | exact K | (simp only [if_pos c41]; exact K)
              obtain ⟨ob42, eob42, hF⟩ := bnd hF
              obtain ⟨h43, eh43, hF⟩ := bnd hF
              refine g_callV X eob42 rfl rfl (w_X4_takes l hl D dA h_125 ob42 (if v40 = (44 : Int32) then (1 : Int32) else (0 : Int32)) h43 eh43) q2363 q2365 qs88 q103 q2366 okn_X4_takes ⟨by rw [hRf]; exact Nat.le_of_ble_eq_true rfl, by rw [hRl]; exact Nat.le_of_ble_eq_true rfl⟩ (As := [.int (if v40 = (44 : Int32) then (1 : Int32) else (0 : Int32))]) (rest := []) rfl (by first | exact Nat.le_of_ble_eq_true rfl | simp [cat_rf, cat_i, cat_j, cat_f, cat_d]) dX4_takesOrder_153 (ac_0 ?_)
              refine g_aload_n X dX4_takesOrder_156 rfl rfl ?_
              refine g_aload_n X dX4_takesOrder_157 rfl rfl ?_
              obtain ⟨ob44, eob44, hF⟩ := bnd hF
              obtain ⟨v46, h45, eh45, hF⟩ := b2_some hF
              refine g_callV X eob44 rfl rfl (w_X4_takesDigit l hl D dA h43 ob44  v46 h45 eh45) q2367 q2369 qs89 q103 q2370 okn_X4_takesDigit ⟨by rw [hRf]; exact Nat.le_of_ble_eq_true rfl, by rw [hRl]; exact Nat.le_of_ble_eq_true rfl⟩ (As := []) (rest := [va_rf (some this)]) rfl (by first | exact Nat.le_of_ble_eq_true rfl | simp [cat_rf, cat_i, cat_j, cat_f, cat_d]) dX4_takesOrder_158 (ac_v ?_)
              obtain ⟨h47, eh47, hF⟩ := bnd hF
              refine g_put (k := 25) X in_X4 tyX4 tyX4_ok nmX4 rfl (by decide) q1788 (Or.inl rfl) rfl (tyX4_ok 25 (by decide)) rfl rfl eh47 dX4_takesOrder_161 ?_
              exact T164 _ hF
        refine g_if_ne X 125 dX4_takesOrder_114 (by decide) (fun c48 => ?_) (fun c48 => ?_)
        · have hF := (if_neg c48).symm.trans hF
          refine G.drop [true, false, true] rfl ?_
          exact T125 _ hF
        · have hF := (if_pos c48).symm.trans hF
          refine g_aload_n X dX4_takesOrder_117 rfl rfl ?_
          refine g_aload_n X dX4_takesOrder_118 rfl rfl ?_
          obtain ⟨ob49, eob49, hF⟩ := bnd hF
          obtain ⟨v51, h50, eh50, hF⟩ := b2_some hF
          refine g_callV X eob49 rfl rfl (w_X4_takesDigit l hl D dA h10 ob49  v51 h50 eh50) q2367 q2369 qs89 q103 q2370 okn_X4_takesDigit ⟨by rw [hRf]; exact Nat.le_of_ble_eq_true rfl, by rw [hRl]; exact Nat.le_of_ble_eq_true rfl⟩ (As := []) (rest := [va_rf (some this)]) rfl (by first | exact Nat.le_of_ble_eq_true rfl | simp [cat_rf, cat_i, cat_j, cat_f, cat_d]) dX4_takesOrder_119 (ac_v ?_)
          obtain ⟨h52, eh52, hF⟩ := bnd hF
          refine g_put (k := 24) X in_X4 tyX4 tyX4_ok nmX4 rfl (by decide) q1787 (Or.inl rfl) rfl (tyX4_ok 24 (by decide)) rfl rfl eh52 dX4_takesOrder_122 ?_
          refine G.drop [true, false, true] rfl ?_
          exact T125 _ hF
      refine g_if_ne X 105 dX4_takesOrder_80 (by decide) (fun c53 => ?_) (fun c53 => ?_)
      · have hF := (if_neg c53).symm.trans hF
        refine g_iconst (v := (1 : Int32)) X dX4_takesOrder_105 (by decide) ?_
        refine g_goto X 110 dX4_takesOrder_106 (by decide) ?_
        exact T110 _ _ _ hF
      · have hF := (if_pos c53).symm.trans hF
        refine g_iload_n X dX4_takesOrder_83 rfl rfl ?_
        refine g_if_ne X 105 dX4_takesOrder_84 (by decide) (fun c54 => ?_) (fun c54 => ?_)
        · have hF := (if_neg c54).symm.trans hF
          refine g_iconst (v := (1 : Int32)) X dX4_takesOrder_105 (by decide) ?_
          refine g_goto X 110 dX4_takesOrder_106 (by decide) ?_
          exact T110 _ _ _ hF
        · have hF := (if_pos c54).symm.trans hF
          refine g_aload_n X dX4_takesOrder_87 rfl rfl ?_
          obtain ⟨v55, ev55, hF⟩ := bnd hF
          refine g_get (k := 23) X in_X4 rfl (by decide) q1786 (Or.inl rfl) (getI_V ev55) dX4_takesOrder_88 ?_
          refine g_bipush (v := (100 : Int32)) X dX4_takesOrder_91 (by decide) ?_
          refine g_icmp_eq X 105 dX4_takesOrder_93 (by decide) (fun c56 => ?_) (fun c56 => ?_)
          · have hF := (if_pos c56).symm.trans hF
            refine g_iconst (v := (1 : Int32)) X dX4_takesOrder_105 (by decide) ?_
            refine g_goto X 110 dX4_takesOrder_106 (by decide) ?_
            exact T110 _ _ _ hF
          · have hF := (if_neg c56).symm.trans hF
            refine g_aload_n X dX4_takesOrder_96 rfl rfl ?_
            obtain ⟨v57, ev57, hF⟩ := bnd hF
            refine g_get (k := 23) X in_X4 rfl (by decide) q1786 (Or.inl rfl) (getI_V ev57) dX4_takesOrder_97 ?_
            refine g_bipush (v := (102 : Int32)) X dX4_takesOrder_100 (by decide) ?_
            refine g_icmp_ne X 109 dX4_takesOrder_102 (by decide) (fun c58 => ?_) (fun c58 => ?_)
            · have hF := (if_neg c58).symm.trans hF
              refine g_iconst (v := (0 : Int32)) X dX4_takesOrder_109 (by decide) ?_
              exact T110 _ _ _ hF
            · have hF := (if_pos c58).symm.trans hF
              refine g_iconst (v := (1 : Int32)) X dX4_takesOrder_105 (by decide) ?_
              refine g_goto X 110 dX4_takesOrder_106 (by decide) ?_
              exact T110 _ _ _ hF
    refine g_icmp_eq X 72 dX4_takesOrder_51 (by decide) (fun c59 => ?_) (fun c59 => ?_)
    · have hF := (if_pos c59).symm.trans hF
      refine g_iconst (v := (1 : Int32)) X dX4_takesOrder_72 (by decide) ?_
      refine g_goto X 77 dX4_takesOrder_73 (by decide) ?_
      exact T77 _ _ hF
    · have hF := (if_neg c59).symm.trans hF
      refine g_aload_n X dX4_takesOrder_54 rfl rfl ?_
      obtain ⟨v60, ev60, hF⟩ := bnd hF
      refine g_get (k := 23) X in_X4 rfl (by decide) q1786 (Or.inl rfl) (getI_V ev60) dX4_takesOrder_55 ?_
      refine g_bipush (v := (108 : Int32)) X dX4_takesOrder_58 (by decide) ?_
      refine g_icmp_eq X 72 dX4_takesOrder_60 (by decide) (fun c61 => ?_) (fun c61 => ?_)
      · have hF := (if_pos c61).symm.trans hF
        refine g_iconst (v := (1 : Int32)) X dX4_takesOrder_72 (by decide) ?_
        refine g_goto X 77 dX4_takesOrder_73 (by decide) ?_
        exact T77 _ _ hF
      · have hF := (if_neg c61).symm.trans hF
        refine g_aload_n X dX4_takesOrder_63 rfl rfl ?_
        obtain ⟨v62, ev62, hF⟩ := bnd hF
        refine g_get (k := 23) X in_X4 rfl (by decide) q1786 (Or.inl rfl) (getI_V ev62) dX4_takesOrder_64 ?_
        refine g_bipush (v := (114 : Int32)) X dX4_takesOrder_67 (by decide) ?_
        refine g_icmp_ne X 76 dX4_takesOrder_69 (by decide) (fun c63 => ?_) (fun c63 => ?_)
        · have hF := (if_neg c63).symm.trans hF
          refine g_iconst (v := (0 : Int32)) X dX4_takesOrder_76 (by decide) ?_
          exact T77 _ _ hF
        · have hF := (if_pos c63).symm.trans hF
          refine g_iconst (v := (1 : Int32)) X dX4_takesOrder_72 (by decide) ?_
          refine g_goto X 77 dX4_takesOrder_73 (by decide) ?_
          exact T77 _ _ hF
  refine g_icmp_eq X 39 dX4_takesOrder_27 (by decide) (fun c64 => ?_) (fun c64 => ?_)
  · have hF := (if_pos c64).symm.trans hF
    refine g_iconst (v := (1 : Int32)) X dX4_takesOrder_39 (by decide) ?_
    refine g_goto X 44 dX4_takesOrder_40 (by decide) ?_
    exact T44 _ _ hF
  · have hF := (if_neg c64).symm.trans hF
    refine g_aload_n X dX4_takesOrder_30 rfl rfl ?_
    obtain ⟨v65, ev65, hF⟩ := bnd hF
    refine g_get (k := 23) X in_X4 rfl (by decide) q1786 (Or.inl rfl) (getI_V ev65) dX4_takesOrder_31 ?_
    refine g_bipush (v := (116 : Int32)) X dX4_takesOrder_34 (by decide) ?_
    refine g_icmp_ne X 43 dX4_takesOrder_36 (by decide) (fun c66 => ?_) (fun c66 => ?_)
    · have hF := (if_neg c66).symm.trans hF
      refine g_iconst (v := (0 : Int32)) X dX4_takesOrder_43 (by decide) ?_
      exact T44 _ _ hF
    · have hF := (if_pos c66).symm.trans hF
      refine g_iconst (v := (1 : Int32)) X dX4_takesOrder_39 (by decide) ?_
      refine g_goto X 44 dX4_takesOrder_40 (by decide) ?_
      exact T44 _ _ hF
def F_X4_doesAll_T49 (this : Nat) (x1_3 : Int32) (y0_49 : Int32) (h_49 : HH) : Option ((Int32 × HH) ⊕ (Int32 × HH)) :=
  Option.bind (getI h_49 1 22 (some this)) fun v12 =>
  if v12 = 0 then (
    Option.bind (getI h_49 1 22 (some this)) fun v14 =>
    Option.bind (putV h_49 1 27 (some this) (.int (if v14 = 0 then (1 : Int32) else (2 : Int32)))) fun h16 =>
    Option.bind (getI h16 1 22 (some this)) fun v17 =>
    if v17 = 0 then (
      Option.bind (getI h16 1 20 (some this)) fun v21 =>
      Option.bind (getI h16 1 21 (some this)) fun v22 =>
      Option.bind (putV h16 1 28 (some this) (.int (v21 - v22))) fun h23 =>
      some (.inl (x1_3, h23))
    ) else (
      Option.bind (putV h16 1 28 (some this) (.int (if y0_49 = (-11 : Int32) then (1 : Int32) else (2 : Int32)))) fun h20 =>
      some (.inl (x1_3, h20))
    )
  ) else (
    if y0_49 = (-11 : Int32) then (
      Option.bind (getI h_49 1 22 (some this)) fun v25 =>
      Option.bind (putV h_49 1 27 (some this) (.int (if v25 = 0 then (1 : Int32) else (2 : Int32)))) fun h27 =>
      Option.bind (getI h27 1 22 (some this)) fun v28 =>
      if v28 = 0 then (
        Option.bind (getI h27 1 20 (some this)) fun v32 =>
        Option.bind (getI h27 1 21 (some this)) fun v33 =>
        Option.bind (putV h27 1 28 (some this) (.int (v32 - v33))) fun h34 =>
        some (.inl (x1_3, h34))
      ) else (
        Option.bind (putV h27 1 28 (some this) (.int (if y0_49 = (-11 : Int32) then (1 : Int32) else (2 : Int32)))) fun h31 =>
        some (.inl (x1_3, h31))
      )
    ) else (
      if y0_49 = (-12 : Int32) then (
        Option.bind (getI h_49 1 22 (some this)) fun v36 =>
        Option.bind (putV h_49 1 27 (some this) (.int (if v36 = 0 then (1 : Int32) else (2 : Int32)))) fun h38 =>
        Option.bind (getI h38 1 22 (some this)) fun v39 =>
        if v39 = 0 then (
          Option.bind (getI h38 1 20 (some this)) fun v43 =>
          Option.bind (getI h38 1 21 (some this)) fun v44 =>
          Option.bind (putV h38 1 28 (some this) (.int (v43 - v44))) fun h45 =>
          some (.inl (x1_3, h45))
        ) else (
          Option.bind (putV h38 1 28 (some this) (.int (if y0_49 = (-11 : Int32) then (1 : Int32) else (2 : Int32)))) fun h42 =>
          some (.inl (x1_3, h42))
        )
      ) else (
        some (.inl ((x1_3 + (1 : Int32)), h_49))
      )
    )
  )
def F_X4_doesAll_B12 (this : Nat) (x1_3 : Int32) (h_3 : HH) : Option ((Int32 × HH) ⊕ (Int32 × HH)) :=
  Option.bind (getI h_3 1 27 (some this)) fun v4 =>
  if v4 = 0 then (
    Option.bind (getI h_3 1 20 (some this)) fun v6 =>
    Option.bind (getI h_3 1 7 (some this)) fun v7 =>
    if v7 ≤ v6 then (
      some (.inr (x1_3, h_3))
    ) else (
      Option.bind (isO h_3 1 (some this)) fun ob9 =>
      Option.bind (F_X4_takesOrder ob9 h_3) fun h10 =>
      Option.bind (getI h10 1 22 (some this)) fun v11 =>
      if v11 = 0 then (
        F_X4_doesAll_T49 this x1_3 (0 : Int32) h10
      ) else (
        Option.bind (isO h10 1 (some this)) fun ob47 =>
        b2 (F_X4_doesOrder ob47 h10) fun v49 h48 =>
        F_X4_doesAll_T49 this x1_3 v49 h48
      )
    )
  ) else (
    some (.inr (x1_3, h_3))
  )
def F_X4_doesAll (this : Nat) (h0 : HH) : Option (Int32 × HH) :=
  Option.bind (putV h0 1 27 (some this) (.int (0 : Int32))) fun h1 =>
  Option.bind (putV h1 1 20 (some this) (.int (0 : Int32))) fun h2 =>
  Option.bind (lp (fun z => F_X4_doesAll_B12 this z.1 z.2) 100000 ((0 : Int32), h2)) fun (v50, h51) =>
  some (v50, h51)
set_option maxHeartbeats 4000000 in
theorem w_X4_doesAll (l : Launch) (hl : l.stackTraces = false) (D : va_G) (dA : Nat → ClassId) (h0 : HH) (this : Nat) (rE : Int32) (hE : HH) (hF : F_X4_doesAll this h0 = some (rE, hE)) : MC D dA l yX4_doesAll cX4_doesAll 3 (Option.some Jvm.ClassFile.FieldType.int) [] 8 173 [va_rf (some this)] h0 (.inr (some (.int rE)), hE) := by
  refine mc_of hl (plainFor_of_name pn_X4) (by simp [lg_sl, cat_rf, cat_i, cat_j, cat_f, cat_d]) ?_
  intro p e s m args below meth c R hRf hRl X hr hnm
  unfold F_X4_doesAll at hF
  rw [show argL [va_rf (some this)] = [some (va_rf (some this))] from by simp [argL, cat_rf, cat_i, cat_j, cat_f, cat_d]]
  refine G.pad 2 (L' := [some (va_rf (some this)), none, none]) rfl ?_
  refine g_iconst (v := (0 : Int32)) X dX4_doesAll_0 (by decide) ?_
  refine g_istore_n (L' := [some (va_rf (some this)), some (.int (0 : Int32)), none]) X dX4_doesAll_1 rfl (Nat.le_of_ble_eq_true rfl) (by first | rfl | simp [stL, rm1, clr2, cat_rf, cat_i, cat_j, cat_f, cat_d]) ?_
  refine g_aload_n X dX4_doesAll_2 rfl rfl ?_
  refine g_iconst (v := (0 : Int32)) X dX4_doesAll_3 (by decide) ?_
  obtain ⟨h1, eh1, hF⟩ := bnd hF
  refine g_put (k := 27) X in_X4 tyX4 tyX4_ok nmX4 rfl (by decide) q1790 (Or.inl rfl) rfl (tyX4_ok 27 (by decide)) rfl rfl eh1 dX4_doesAll_4 ?_
  refine g_aload_n X dX4_doesAll_7 rfl rfl ?_
  refine g_iconst (v := (0 : Int32)) X dX4_doesAll_8 (by decide) ?_
  obtain ⟨h2, eh2, hF⟩ := bnd hF
  refine g_put (k := 20) X in_X4 tyX4 tyX4_ok nmX4 rfl (by decide) q1783 (Or.inl rfl) rfl (tyX4_ok 20 (by decide)) rfl rfl eh2 dX4_doesAll_9 ?_
  obtain ⟨⟨v50, h51⟩, e52, hF⟩ := bnd hF
  dsimp only at hF
  refine lp_ind (Gs := (fun z => G p l e R s m args below meth c (RQ D dA h0 (.inr (some (.int rE)), hE) below s) D dA h0 3 z.2 12 [some (va_rf (some this)), some (.int z.1), none] [])) (Ge := (fun z => G p l e R s m args below meth c (RQ D dA h0 (.inr (some (.int rE)), hE) below s) D dA h0 3 z.2 128 [none, some (.int z.1), none] [])) ?_ _ _ _ e52 ?_
  · rintro ⟨x1_3, h_3⟩ o hF hgo hr
    change F_X4_doesAll_B12 this x1_3 h_3 = some o at hF
    unfold F_X4_doesAll_B12 at hF
    show G p l e R s m args below meth c (RQ D dA h0 (.inr (some (.int rE)), hE) below s) D dA h0 3 h_3 12 [some (va_rf (some this)), some (.int x1_3), none] []
    refine g_aload_n X dX4_doesAll_12 rfl rfl ?_
    obtain ⟨v4, ev4, hF⟩ := bnd hF
    refine g_get (k := 27) X in_X4 rfl (by decide) q1790 (Or.inl rfl) (getI_V ev4) dX4_doesAll_13 ?_
    refine g_if_ne X 128 dX4_doesAll_16 (by decide) (fun c5 => ?_) (fun c5 => ?_)
    · have hF := (if_neg c5).symm.trans hF
      refine G.drop [false, true, false] rfl ?_
      cases hF
      exact hr _ rfl
    · have hF := (if_pos c5).symm.trans hF
      refine g_aload_n X dX4_doesAll_19 rfl rfl ?_
      obtain ⟨v6, ev6, hF⟩ := bnd hF
      refine g_get (k := 20) X in_X4 rfl (by decide) q1783 (Or.inl rfl) (getI_V ev6) dX4_doesAll_20 ?_
      refine g_aload_n X dX4_doesAll_23 rfl rfl ?_
      obtain ⟨v7, ev7, hF⟩ := bnd hF
      refine g_get (k := 7) X in_X4 rfl (by decide) q1770 (Or.inl rfl) (getI_V ev7) dX4_doesAll_24 ?_
      refine g_icmp_ge X 128 dX4_doesAll_27 (by decide) (fun c8 => ?_) (fun c8 => ?_)
      · have hF := (if_pos c8).symm.trans hF
        refine G.drop [false, true, false] rfl ?_
        cases hF
        exact hr _ rfl
      · have hF := (if_neg c8).symm.trans hF
        refine g_aload_n X dX4_doesAll_30 rfl rfl ?_
        obtain ⟨ob9, eob9, hF⟩ := bnd hF
        obtain ⟨h10, eh10, hF⟩ := bnd hF
        refine g_callV X eob9 rfl rfl (w_X4_takesOrder l hl D dA h_3 ob9  h10 eh10) q2355 q2357 qs86 q103 q2358 okn_X4_takesOrder ⟨by rw [hRf]; exact Nat.le_of_ble_eq_true rfl, by rw [hRl]; exact Nat.le_of_ble_eq_true rfl⟩ (As := []) (rest := []) rfl (by first | exact Nat.le_of_ble_eq_true rfl | simp [cat_rf, cat_i, cat_j, cat_f, cat_d]) dX4_doesAll_31 (ac_0 ?_)
        refine g_aload_n X dX4_doesAll_34 rfl rfl ?_
        obtain ⟨v11, ev11, hF⟩ := bnd hF
        refine g_get (k := 22) X in_X4 rfl (by decide) q1785 (Or.inl rfl) (getI_V ev11) dX4_doesAll_35 ?_
        have T49 : ∀ (y0_49 : Int32) (h_49 : HH) (o : (Int32 × HH) ⊕ (Int32 × HH)), F_X4_doesAll_T49 this x1_3 y0_49 h_49 = some o → (∀ y, o = .inl y → (fun z => G p l e R s m args below meth c (RQ D dA h0 (.inr (some (.int rE)), hE) below s) D dA h0 3 z.2 12 [some (va_rf (some this)), some (.int z.1), none] []) y) → (∀ r, o = .inr r → (fun z => G p l e R s m args below meth c (RQ D dA h0 (.inr (some (.int rE)), hE) below s) D dA h0 3 z.2 128 [none, some (.int z.1), none] []) r) → G p l e R s m args below meth c (RQ D dA h0 (.inr (some (.int rE)), hE) below s) D dA h0 3 h_49 49 [some (va_rf (some this)), some (.int x1_3), none] [.int y0_49] := by
          intro y0_49 h_49 o hF hgo hr
          unfold F_X4_doesAll_T49 at hF
          refine g_istore_n (L' := [some (va_rf (some this)), some (.int x1_3), some (.int y0_49)]) X dX4_doesAll_49 rfl (Nat.le_of_ble_eq_true rfl) (by first | rfl | simp [stL, rm1, clr2, cat_rf, cat_i, cat_j, cat_f, cat_d]) ?_
          refine g_aload_n X dX4_doesAll_50 rfl rfl ?_
          obtain ⟨v12, ev12, hF⟩ := bnd hF
          refine g_get (k := 22) X in_X4 rfl (by decide) q1785 (Or.inl rfl) (getI_V ev12) dX4_doesAll_51 ?_
          refine g_if_eq X 69 dX4_doesAll_54 (by decide) (fun c13 => ?_) (fun c13 => ?_)
          · have hF := (if_pos c13).symm.trans hF
            refine g_aload_n X dX4_doesAll_69 rfl rfl ?_
            refine g_aload_n X dX4_doesAll_70 rfl rfl ?_
            obtain ⟨v14, ev14, hF⟩ := bnd hF
            refine g_get (k := 22) X in_X4 rfl (by decide) q1785 (Or.inl rfl) (getI_V ev14) dX4_doesAll_71 ?_
            suffices K : G p l e R s m args below meth c (RQ D dA h0 (.inr (some (.int rE)), hE) below s) D dA h0 3 h_49 82 [some (va_rf (some this)), some (.int x1_3), some (.int y0_49)] [.int (if v14 = 0 then (1 : Int32) else (2 : Int32)), va_rf (some this)] by
              refine g_if_eq X 81 dX4_doesAll_74 (by decide) (fun c15 => ?_) (fun c15 => ?_)
              · (try simp only [if_pos c15] at K)
                refine g_iconst (v := (1 : Int32)) X dX4_doesAll_81 (by decide) ?_
                first | exact K | (simp only [if_pos c15]; exact K)
              · (try simp only [if_neg c15] at K)
                refine g_iconst (v := (2 : Int32)) X dX4_doesAll_77 (by decide) ?_
                refine g_goto X 82 dX4_doesAll_78 (by decide) ?_
                first | exact K | (simp only [if_neg c15]; exact K)
            obtain ⟨h16, eh16, hF⟩ := bnd hF
            refine g_put (k := 27) X in_X4 tyX4 tyX4_ok nmX4 rfl (by decide) q1790 (Or.inl rfl) rfl (tyX4_ok 27 (by decide)) rfl rfl eh16 dX4_doesAll_82 ?_
            refine g_aload_n X dX4_doesAll_85 rfl rfl ?_
            refine g_aload_n X dX4_doesAll_86 rfl rfl ?_
            obtain ⟨v17, ev17, hF⟩ := bnd hF
            refine g_get (k := 22) X in_X4 rfl (by decide) q1785 (Or.inl rfl) (getI_V ev17) dX4_doesAll_87 ?_
            refine g_if_ne X 105 dX4_doesAll_90 (by decide) (fun c18 => ?_) (fun c18 => ?_)
            · have hF := (if_neg c18).symm.trans hF
              refine g_iload_n X dX4_doesAll_105 rfl rfl ?_
              refine g_bipush (v := (-11 : Int32)) X dX4_doesAll_106 (by decide) ?_
              suffices K : G p l e R s m args below meth c (RQ D dA h0 (.inr (some (.int rE)), hE) below s) D dA h0 3 h16 116 [some (va_rf (some this)), some (.int x1_3), none] [.int (if y0_49 = (-11 : Int32) then (1 : Int32) else (2 : Int32)), va_rf (some this)] by
                refine g_icmp_ne X 115 dX4_doesAll_108 (by decide) (fun c19 => ?_) (fun c19 => ?_)
                · (try simp only [if_neg c19] at K)
                  refine g_iconst (v := (2 : Int32)) X dX4_doesAll_115 (by decide) ?_
                  refine G.drop [true, true, false] rfl ?_
                  first | exact K | (simp only [if_neg c19]; exact K)
                · (try simp only [if_pos c19] at K)
                  refine g_iconst (v := (1 : Int32)) X dX4_doesAll_111 (by decide) ?_
                  refine g_goto X 116 dX4_doesAll_112 (by decide) ?_
                  refine G.drop [true, true, false] rfl ?_
                  first | exact K | (simp only [if_pos c19]; exact K)
              obtain ⟨h20, eh20, hF⟩ := bnd hF
              refine g_put (k := 28) X in_X4 tyX4 tyX4_ok nmX4 rfl (by decide) q1791 (Or.inl rfl) rfl (tyX4_ok 28 (by decide)) rfl rfl eh20 dX4_doesAll_116 ?_
              refine g_goto X 125 dX4_doesAll_119 (by decide) ?_
              refine g_goto X 12 dX4_doesAll_125 (by decide) ?_
              cases hF
              exact hgo _ rfl
            · have hF := (if_pos c18).symm.trans hF
              refine g_aload_n X dX4_doesAll_93 rfl rfl ?_
              obtain ⟨v21, ev21, hF⟩ := bnd hF
              refine g_get (k := 20) X in_X4 rfl (by decide) q1783 (Or.inl rfl) (getI_V ev21) dX4_doesAll_94 ?_
              refine g_aload_n X dX4_doesAll_97 rfl rfl ?_
              obtain ⟨v22, ev22, hF⟩ := bnd hF
              refine g_get (k := 21) X in_X4 rfl (by decide) q1784 (Or.inl rfl) (getI_V ev22) dX4_doesAll_98 ?_
              refine g_isub X dX4_doesAll_101 ?_
              refine g_goto X 116 dX4_doesAll_102 (by decide) ?_
              obtain ⟨h23, eh23, hF⟩ := bnd hF
              refine g_put (k := 28) X in_X4 tyX4 tyX4_ok nmX4 rfl (by decide) q1791 (Or.inl rfl) rfl (tyX4_ok 28 (by decide)) rfl rfl eh23 dX4_doesAll_116 ?_
              refine g_goto X 125 dX4_doesAll_119 (by decide) ?_
              refine g_goto X 12 dX4_doesAll_125 (by decide) ?_
              refine G.drop [true, true, false] rfl ?_
              cases hF
              exact hgo _ rfl
          · have hF := (if_neg c13).symm.trans hF
            refine g_iload_n X dX4_doesAll_57 rfl rfl ?_
            refine g_bipush (v := (-11 : Int32)) X dX4_doesAll_58 (by decide) ?_
            refine g_icmp_eq X 69 dX4_doesAll_60 (by decide) (fun c24 => ?_) (fun c24 => ?_)
            · have hF := (if_pos c24).symm.trans hF
              refine g_aload_n X dX4_doesAll_69 rfl rfl ?_
              refine g_aload_n X dX4_doesAll_70 rfl rfl ?_
              obtain ⟨v25, ev25, hF⟩ := bnd hF
              refine g_get (k := 22) X in_X4 rfl (by decide) q1785 (Or.inl rfl) (getI_V ev25) dX4_doesAll_71 ?_
              suffices K : G p l e R s m args below meth c (RQ D dA h0 (.inr (some (.int rE)), hE) below s) D dA h0 3 h_49 82 [some (va_rf (some this)), some (.int x1_3), some (.int y0_49)] [.int (if v25 = 0 then (1 : Int32) else (2 : Int32)), va_rf (some this)] by
                refine g_if_eq X 81 dX4_doesAll_74 (by decide) (fun c26 => ?_) (fun c26 => ?_)
                · (try simp only [if_pos c26] at K)
                  refine g_iconst (v := (1 : Int32)) X dX4_doesAll_81 (by decide) ?_
                  first | exact K | (simp only [if_pos c26]; exact K)
                · (try simp only [if_neg c26] at K)
                  refine g_iconst (v := (2 : Int32)) X dX4_doesAll_77 (by decide) ?_
                  refine g_goto X 82 dX4_doesAll_78 (by decide) ?_
                  first | exact K | (simp only [if_neg c26]; exact K)
              obtain ⟨h27, eh27, hF⟩ := bnd hF
              refine g_put (k := 27) X in_X4 tyX4 tyX4_ok nmX4 rfl (by decide) q1790 (Or.inl rfl) rfl (tyX4_ok 27 (by decide)) rfl rfl eh27 dX4_doesAll_82 ?_
              refine g_aload_n X dX4_doesAll_85 rfl rfl ?_
              refine g_aload_n X dX4_doesAll_86 rfl rfl ?_
              obtain ⟨v28, ev28, hF⟩ := bnd hF
              refine g_get (k := 22) X in_X4 rfl (by decide) q1785 (Or.inl rfl) (getI_V ev28) dX4_doesAll_87 ?_
              refine g_if_ne X 105 dX4_doesAll_90 (by decide) (fun c29 => ?_) (fun c29 => ?_)
              · have hF := (if_neg c29).symm.trans hF
                refine g_iload_n X dX4_doesAll_105 rfl rfl ?_
                refine g_bipush (v := (-11 : Int32)) X dX4_doesAll_106 (by decide) ?_
                suffices K : G p l e R s m args below meth c (RQ D dA h0 (.inr (some (.int rE)), hE) below s) D dA h0 3 h27 116 [some (va_rf (some this)), some (.int x1_3), none] [.int (if y0_49 = (-11 : Int32) then (1 : Int32) else (2 : Int32)), va_rf (some this)] by
                  refine g_icmp_ne X 115 dX4_doesAll_108 (by decide) (fun c30 => ?_) (fun c30 => ?_)
                  · (try simp only [if_neg c30] at K)
                    refine g_iconst (v := (2 : Int32)) X dX4_doesAll_115 (by decide) ?_
                    refine G.drop [true, true, false] rfl ?_
                    first | exact K | (simp only [if_neg c30]; exact K)
                  · (try simp only [if_pos c30] at K)
                    refine g_iconst (v := (1 : Int32)) X dX4_doesAll_111 (by decide) ?_
                    refine g_goto X 116 dX4_doesAll_112 (by decide) ?_
                    refine G.drop [true, true, false] rfl ?_
                    first | exact K | (simp only [if_pos c30]; exact K)
                obtain ⟨h31, eh31, hF⟩ := bnd hF
                refine g_put (k := 28) X in_X4 tyX4 tyX4_ok nmX4 rfl (by decide) q1791 (Or.inl rfl) rfl (tyX4_ok 28 (by decide)) rfl rfl eh31 dX4_doesAll_116 ?_
                refine g_goto X 125 dX4_doesAll_119 (by decide) ?_
                refine g_goto X 12 dX4_doesAll_125 (by decide) ?_
                cases hF
                exact hgo _ rfl
              · have hF := (if_pos c29).symm.trans hF
                refine g_aload_n X dX4_doesAll_93 rfl rfl ?_
                obtain ⟨v32, ev32, hF⟩ := bnd hF
                refine g_get (k := 20) X in_X4 rfl (by decide) q1783 (Or.inl rfl) (getI_V ev32) dX4_doesAll_94 ?_
                refine g_aload_n X dX4_doesAll_97 rfl rfl ?_
                obtain ⟨v33, ev33, hF⟩ := bnd hF
                refine g_get (k := 21) X in_X4 rfl (by decide) q1784 (Or.inl rfl) (getI_V ev33) dX4_doesAll_98 ?_
                refine g_isub X dX4_doesAll_101 ?_
                refine g_goto X 116 dX4_doesAll_102 (by decide) ?_
                obtain ⟨h34, eh34, hF⟩ := bnd hF
                refine g_put (k := 28) X in_X4 tyX4 tyX4_ok nmX4 rfl (by decide) q1791 (Or.inl rfl) rfl (tyX4_ok 28 (by decide)) rfl rfl eh34 dX4_doesAll_116 ?_
                refine g_goto X 125 dX4_doesAll_119 (by decide) ?_
                refine g_goto X 12 dX4_doesAll_125 (by decide) ?_
                refine G.drop [true, true, false] rfl ?_
                cases hF
                exact hgo _ rfl
            · have hF := (if_neg c24).symm.trans hF
              refine g_iload_n X dX4_doesAll_63 rfl rfl ?_
              refine g_bipush (v := (-12 : Int32)) X dX4_doesAll_64 (by decide) ?_
              refine g_icmp_ne X 122 dX4_doesAll_66 (by decide) (fun c35 => ?_) (fun c35 => ?_)
              · have hF := (if_neg c35).symm.trans hF
                refine g_iinc (v := (x1_3 + (1 : Int32))) (L' := [some (va_rf (some this)), some (.int (x1_3 + (1 : Int32))), some (.int y0_49)]) X dX4_doesAll_122 (Nat.le_of_ble_eq_true rfl) rfl rfl (by first | rfl | simp [stL, rm1, clr2, cat_rf, cat_i, cat_j, cat_f, cat_d]) ?_
                refine g_goto X 12 dX4_doesAll_125 (by decide) ?_
                refine G.drop [true, true, false] rfl ?_
                cases hF
                exact hgo _ rfl
              · have hF := (if_pos c35).symm.trans hF
                refine g_aload_n X dX4_doesAll_69 rfl rfl ?_
                refine g_aload_n X dX4_doesAll_70 rfl rfl ?_
                obtain ⟨v36, ev36, hF⟩ := bnd hF
                refine g_get (k := 22) X in_X4 rfl (by decide) q1785 (Or.inl rfl) (getI_V ev36) dX4_doesAll_71 ?_
                suffices K : G p l e R s m args below meth c (RQ D dA h0 (.inr (some (.int rE)), hE) below s) D dA h0 3 h_49 82 [some (va_rf (some this)), some (.int x1_3), some (.int y0_49)] [.int (if v36 = 0 then (1 : Int32) else (2 : Int32)), va_rf (some this)] by
                  refine g_if_eq X 81 dX4_doesAll_74 (by decide) (fun c37 => ?_) (fun c37 => ?_)
                  · (try simp only [if_pos c37] at K)
                    refine g_iconst (v := (1 : Int32)) X dX4_doesAll_81 (by decide) ?_
                    first | exact K | (simp only [if_pos c37]; exact K)
                  · (try simp only [if_neg c37] at K)
                    refine g_iconst (v := (2 : Int32)) X dX4_doesAll_77 (by decide) ?_
                    refine g_goto X 82 dX4_doesAll_78 (by decide) ?_
                    first | exact K | (simp only [if_neg c37]; exact K)
                obtain ⟨h38, eh38, hF⟩ := bnd hF
                refine g_put (k := 27) X in_X4 tyX4 tyX4_ok nmX4 rfl (by decide) q1790 (Or.inl rfl) rfl (tyX4_ok 27 (by decide)) rfl rfl eh38 dX4_doesAll_82 ?_
                refine g_aload_n X dX4_doesAll_85 rfl rfl ?_
                refine g_aload_n X dX4_doesAll_86 rfl rfl ?_
                obtain ⟨v39, ev39, hF⟩ := bnd hF
                refine g_get (k := 22) X in_X4 rfl (by decide) q1785 (Or.inl rfl) (getI_V ev39) dX4_doesAll_87 ?_
                refine g_if_ne X 105 dX4_doesAll_90 (by decide) (fun c40 => ?_) (fun c40 => ?_)
                · have hF := (if_neg c40).symm.trans hF
                  refine g_iload_n X dX4_doesAll_105 rfl rfl ?_
                  refine g_bipush (v := (-11 : Int32)) X dX4_doesAll_106 (by decide) ?_
                  suffices K : G p l e R s m args below meth c (RQ D dA h0 (.inr (some (.int rE)), hE) below s) D dA h0 3 h38 116 [some (va_rf (some this)), some (.int x1_3), none] [.int (if y0_49 = (-11 : Int32) then (1 : Int32) else (2 : Int32)), va_rf (some this)] by
                    refine g_icmp_ne X 115 dX4_doesAll_108 (by decide) (fun c41 => ?_) (fun c41 => ?_)
                    · (try simp only [if_neg c41] at K)
                      refine g_iconst (v := (2 : Int32)) X dX4_doesAll_115 (by decide) ?_
                      refine G.drop [true, true, false] rfl ?_
                      first | exact K | (simp only [if_neg c41]; exact K)
                    · (try simp only [if_pos c41] at K)
                      refine g_iconst (v := (1 : Int32)) X dX4_doesAll_111 (by decide) ?_
                      refine g_goto X 116 dX4_doesAll_112 (by decide) ?_
                      refine G.drop [true, true, false] rfl ?_
                      first | exact K | (simp only [if_pos c41]; exact K)
                  obtain ⟨h42, eh42, hF⟩ := bnd hF
                  refine g_put (k := 28) X in_X4 tyX4 tyX4_ok nmX4 rfl (by decide) q1791 (Or.inl rfl) rfl (tyX4_ok 28 (by decide)) rfl rfl eh42 dX4_doesAll_116 ?_
                  refine g_goto X 125 dX4_doesAll_119 (by decide) ?_
                  refine g_goto X 12 dX4_doesAll_125 (by decide) ?_
                  cases hF
                  exact hgo _ rfl
                · have hF := (if_pos c40).symm.trans hF
                  refine g_aload_n X dX4_doesAll_93 rfl rfl ?_
                  obtain ⟨v43, ev43, hF⟩ := bnd hF
                  refine g_get (k := 20) X in_X4 rfl (by decide) q1783 (Or.inl rfl) (getI_V ev43) dX4_doesAll_94 ?_
                  refine g_aload_n X dX4_doesAll_97 rfl rfl ?_
                  obtain ⟨v44, ev44, hF⟩ := bnd hF
                  refine g_get (k := 21) X in_X4 rfl (by decide) q1784 (Or.inl rfl) (getI_V ev44) dX4_doesAll_98 ?_
                  refine g_isub X dX4_doesAll_101 ?_
                  refine g_goto X 116 dX4_doesAll_102 (by decide) ?_
                  obtain ⟨h45, eh45, hF⟩ := bnd hF
                  refine g_put (k := 28) X in_X4 tyX4 tyX4_ok nmX4 rfl (by decide) q1791 (Or.inl rfl) rfl (tyX4_ok 28 (by decide)) rfl rfl eh45 dX4_doesAll_116 ?_
                  refine g_goto X 125 dX4_doesAll_119 (by decide) ?_
                  refine g_goto X 12 dX4_doesAll_125 (by decide) ?_
                  refine G.drop [true, true, false] rfl ?_
                  cases hF
                  exact hgo _ rfl
        refine g_if_eq X 48 dX4_doesAll_38 (by decide) (fun c46 => ?_) (fun c46 => ?_)
        · have hF := (if_pos c46).symm.trans hF
          refine g_iconst (v := (0 : Int32)) X dX4_doesAll_48 (by decide) ?_
          exact T49 _ _ _ hF hgo hr
        · have hF := (if_neg c46).symm.trans hF
          refine g_aload_n X dX4_doesAll_41 rfl rfl ?_
          obtain ⟨ob47, eob47, hF⟩ := bnd hF
          obtain ⟨v49, h48, eh48, hF⟩ := b2_some hF
          refine g_callV X eob47 rfl rfl (w_X4_doesOrder l hl D dA h10 ob47  v49 h48 eh48) q2371 q2373 qs90 q103 q2374 okn_X4_doesOrder ⟨by rw [hRf]; exact Nat.le_of_ble_eq_true rfl, by rw [hRl]; exact Nat.le_of_ble_eq_true rfl⟩ (As := []) (rest := []) rfl (by first | exact Nat.le_of_ble_eq_true rfl | simp [cat_rf, cat_i, cat_j, cat_f, cat_d]) dX4_doesAll_42 (ac_v ?_)
          refine g_goto X 49 dX4_doesAll_45 (by decide) ?_
          exact T49 _ _ _ hF hgo hr
  show G p l e R s m args below meth c (RQ D dA h0 (.inr (some (.int rE)), hE) below s) D dA h0 3 h51 128 [none, some (.int v50), none] []
  refine g_iload_n X dX4_doesAll_128 rfl rfl ?_
  cases hF
  exact g_iret X hr dX4_doesAll_129
def F_X4_faultTold (this : Nat) (a1 : Int32) (h0 : HH) : Option (Int32 × HH) :=
  Option.bind (putV h0 1 8 (some this) (.int (0 : Int32))) fun h1 =>
  Option.bind (getR h1 1 0 (some this)) fun v2 =>
  Option.bind (getR h1 1 1 (some this)) fun v3 =>
  Option.bind (F_X4_copies v2 (0 : Int32) v3 (0 : Int32) h1) fun h4 =>
  Option.bind (isO h4 1 (some this)) fun ob5 =>
  b2 (F_X4_doesAll ob5 h4) fun v7 h6 =>
  Option.bind (getR h6 1 1 (some this)) fun v8 =>
  Option.bind (getR h6 1 0 (some this)) fun v9 =>
  Option.bind (F_X4_copies v8 (0 : Int32) v9 (0 : Int32) h6) fun h10 =>
  Option.bind (getI h10 1 27 (some this)) fun v11 =>
  if v11 = 0 then (
    Option.bind (isO h10 1 (some this)) fun ob18 =>
    b2 (F_X4_fails ob18 (1 : Int32) h10) fun v20 h19 =>
    some (v20, h19)
  ) else (
    if a1 = 0 then (
      Option.bind (getI h10 1 21 (some this)) fun v17 =>
      some (v17, h10)
    ) else (
      if a1 = (1 : Int32) then (
        Option.bind (getI h10 1 27 (some this)) fun v16 =>
        some (v16, h10)
      ) else (
        Option.bind (getI h10 1 28 (some this)) fun v15 =>
        some (v15, h10)
      )
    )
  )
set_option maxHeartbeats 4000000 in
theorem w_X4_faultTold (l : Launch) (hl : l.stackTraces = false) (D : va_G) (dA : Nat → ClassId) (h0 : HH) (this : Nat) (a1 : Int32) (rE : Int32) (hE : HH) (hF : F_X4_faultTold this a1 h0 = some (rE, hE)) : MC D dA l yX4_faultTold cX4_faultTold 3 (Option.some Jvm.ClassFile.FieldType.int) [] 9 195 [va_rf (some this), .int a1] h0 (.inr (some (.int rE)), hE) := by
  refine mc_of hl (plainFor_of_name pn_X4) (by simp [lg_sl, cat_rf, cat_i, cat_j, cat_f, cat_d]) ?_
  intro p e s m args below meth c R hRf hRl X hr hnm
  unfold F_X4_faultTold at hF
  rw [show argL [va_rf (some this), .int a1] = [some (va_rf (some this)), some (.int a1)] from by simp [argL, cat_rf, cat_i, cat_j, cat_f, cat_d]]
  refine G.pad 1 (L' := [some (va_rf (some this)), some (.int a1), none]) rfl ?_
  refine g_aload_n X dX4_faultTold_0 rfl rfl ?_
  refine g_iconst (v := (0 : Int32)) X dX4_faultTold_1 (by decide) ?_
  obtain ⟨h1, eh1, hF⟩ := bnd hF
  refine g_put (k := 8) X in_X4 tyX4 tyX4_ok nmX4 rfl (by decide) q1771 (Or.inl rfl) rfl (tyX4_ok 8 (by decide)) rfl rfl eh1 dX4_faultTold_2 ?_
  refine g_aload_n X dX4_faultTold_5 rfl rfl ?_
  obtain ⟨v2, ev2, hF⟩ := bnd hF
  refine g_get (k := 0) X in_X4 rfl (by decide) q1763 (Or.inl rfl) (getR_V ev2) dX4_faultTold_6 ?_
  refine g_iconst (v := (0 : Int32)) X dX4_faultTold_9 (by decide) ?_
  refine g_aload_n X dX4_faultTold_10 rfl rfl ?_
  obtain ⟨v3, ev3, hF⟩ := bnd hF
  refine g_get (k := 1) X in_X4 rfl (by decide) q1764 (Or.inl rfl) (getR_V ev3) dX4_faultTold_11 ?_
  refine g_iconst (v := (0 : Int32)) X dX4_faultTold_14 (by decide) ?_
  obtain ⟨h4, eh4, hF⟩ := bnd hF
  refine g_callS X (w_X4_copies l hl D dA h1 v2 (0 : Int32) v3 (0 : Int32) h4 eh4) q1863 q1864 q103 q1865 okn_X4_copies ⟨by rw [hRf]; exact Nat.le_of_ble_eq_true rfl, by rw [hRl]; exact Nat.le_of_ble_eq_true rfl⟩ (As := [va_rf v2, .int (0 : Int32), va_rf v3, .int (0 : Int32)]) (rest := []) rfl (by first | exact Nat.le_of_ble_eq_true rfl | simp [cat_rf, cat_i, cat_j, cat_f, cat_d]) dX4_faultTold_15 (ac_0 ?_)
  refine g_aload_n X dX4_faultTold_18 rfl rfl ?_
  obtain ⟨ob5, eob5, hF⟩ := bnd hF
  obtain ⟨v7, h6, eh6, hF⟩ := b2_some hF
  refine g_callV X eob5 rfl rfl (w_X4_doesAll l hl D dA h4 ob5  v7 h6 eh6) q2351 q2353 qs85 q103 q2354 okn_X4_doesAll ⟨by rw [hRf]; exact Nat.le_of_ble_eq_true rfl, by rw [hRl]; exact Nat.le_of_ble_eq_true rfl⟩ (As := []) (rest := []) rfl (by first | exact Nat.le_of_ble_eq_true rfl | simp [cat_rf, cat_i, cat_j, cat_f, cat_d]) dX4_faultTold_19 (ac_v ?_)
  refine g_istore_n (L' := [some (va_rf (some this)), some (.int a1), some (.int v7)]) X dX4_faultTold_22 rfl (Nat.le_of_ble_eq_true rfl) (by first | rfl | simp [stL, rm1, clr2, cat_rf, cat_i, cat_j, cat_f, cat_d]) ?_
  refine g_aload_n X dX4_faultTold_23 rfl rfl ?_
  obtain ⟨v8, ev8, hF⟩ := bnd hF
  refine g_get (k := 1) X in_X4 rfl (by decide) q1764 (Or.inl rfl) (getR_V ev8) dX4_faultTold_24 ?_
  refine g_iconst (v := (0 : Int32)) X dX4_faultTold_27 (by decide) ?_
  refine g_aload_n X dX4_faultTold_28 rfl rfl ?_
  obtain ⟨v9, ev9, hF⟩ := bnd hF
  refine g_get (k := 0) X in_X4 rfl (by decide) q1763 (Or.inl rfl) (getR_V ev9) dX4_faultTold_29 ?_
  refine g_iconst (v := (0 : Int32)) X dX4_faultTold_32 (by decide) ?_
  obtain ⟨h10, eh10, hF⟩ := bnd hF
  refine g_callS X (w_X4_copies l hl D dA h6 v8 (0 : Int32) v9 (0 : Int32) h10 eh10) q1863 q1864 q103 q1865 okn_X4_copies ⟨by rw [hRf]; exact Nat.le_of_ble_eq_true rfl, by rw [hRl]; exact Nat.le_of_ble_eq_true rfl⟩ (As := [va_rf v8, .int (0 : Int32), va_rf v9, .int (0 : Int32)]) (rest := []) rfl (by first | exact Nat.le_of_ble_eq_true rfl | simp [cat_rf, cat_i, cat_j, cat_f, cat_d]) dX4_faultTold_33 (ac_0 ?_)
  refine g_aload_n X dX4_faultTold_36 rfl rfl ?_
  obtain ⟨v11, ev11, hF⟩ := bnd hF
  refine g_get (k := 27) X in_X4 rfl (by decide) q1790 (Or.inl rfl) (getI_V ev11) dX4_faultTold_37 ?_
  refine g_if_ne X 51 dX4_faultTold_40 (by decide) (fun c12 => ?_) (fun c12 => ?_)
  · have hF := (if_neg c12).symm.trans hF
    refine g_iload_n X dX4_faultTold_51 rfl rfl ?_
    refine g_if_ne X 62 dX4_faultTold_52 (by decide) (fun c13 => ?_) (fun c13 => ?_)
    · have hF := (if_neg c13).symm.trans hF
      refine g_iload_n X dX4_faultTold_62 rfl rfl ?_
      refine g_iconst (v := (1 : Int32)) X dX4_faultTold_63 (by decide) ?_
      refine g_icmp_ne X 74 dX4_faultTold_64 (by decide) (fun c14 => ?_) (fun c14 => ?_)
      · have hF := (if_neg c14).symm.trans hF
        refine g_aload_n X dX4_faultTold_74 rfl rfl ?_
        obtain ⟨v15, ev15, hF⟩ := bnd hF
        refine g_get (k := 28) X in_X4 rfl (by decide) q1791 (Or.inl rfl) (getI_V ev15) dX4_faultTold_75 ?_
        cases hF
        exact g_iret X hr dX4_faultTold_78
      · have hF := (if_pos c14).symm.trans hF
        refine g_aload_n X dX4_faultTold_67 rfl rfl ?_
        obtain ⟨v16, ev16, hF⟩ := bnd hF
        refine g_get (k := 27) X in_X4 rfl (by decide) q1790 (Or.inl rfl) (getI_V ev16) dX4_faultTold_68 ?_
        refine g_goto X 78 dX4_faultTold_71 (by decide) ?_
        cases hF
        exact g_iret X hr dX4_faultTold_78
    · have hF := (if_pos c13).symm.trans hF
      refine g_aload_n X dX4_faultTold_55 rfl rfl ?_
      obtain ⟨v17, ev17, hF⟩ := bnd hF
      refine g_get (k := 21) X in_X4 rfl (by decide) q1784 (Or.inl rfl) (getI_V ev17) dX4_faultTold_56 ?_
      refine g_goto X 78 dX4_faultTold_59 (by decide) ?_
      cases hF
      exact g_iret X hr dX4_faultTold_78
  · have hF := (if_pos c12).symm.trans hF
    refine g_aload_n X dX4_faultTold_43 rfl rfl ?_
    refine g_iconst (v := (1 : Int32)) X dX4_faultTold_44 (by decide) ?_
    obtain ⟨ob18, eob18, hF⟩ := bnd hF
    obtain ⟨v20, h19, eh19, hF⟩ := b2_some hF
    refine g_callV X eob18 rfl rfl (w_X4_fails l hl D dA h10 ob18 (1 : Int32) v20 h19 eh19) q1900 q1902 qs36 q103 q1903 okn_X4_fails ⟨by rw [hRf]; exact Nat.le_of_ble_eq_true rfl, by rw [hRl]; exact Nat.le_of_ble_eq_true rfl⟩ (As := [.int (1 : Int32)]) (rest := []) rfl (by first | exact Nat.le_of_ble_eq_true rfl | simp [cat_rf, cat_i, cat_j, cat_f, cat_d]) dX4_faultTold_45 (ac_v ?_)
    refine g_goto X 78 dX4_faultTold_48 (by decide) ?_
    cases hF
    exact g_iret X hr dX4_faultTold_78
def F_X4_faultPosition (this : Nat) (h0 : HH) : Option (Int32 × HH) :=
  Option.bind (isO h0 1 (some this)) fun ob1 =>
  b2 (F_X4_faultTold ob1 (0 : Int32) h0) fun v3 h2 =>
  some (v3, h2)
set_option maxHeartbeats 4000000 in
theorem w_X4_faultPosition (l : Launch) (hl : l.stackTraces = false) (D : va_G) (dA : Nat → ClassId) (h0 : HH) (this : Nat) (rE : Int32) (hE : HH) (hF : F_X4_faultPosition this h0 = some (rE, hE)) : MC D dA l yX4_faultPosition cX4_faultPosition 1 (Option.some Jvm.ClassFile.FieldType.int) [] 10 217 [va_rf (some this)] h0 (.inr (some (.int rE)), hE) := by
  refine mc_of hl (plainFor_of_name pn_X4) (by simp [lg_sl, cat_rf, cat_i, cat_j, cat_f, cat_d]) ?_
  intro p e s m args below meth c R hRf hRl X hr hnm
  unfold F_X4_faultPosition at hF
  rw [show argL [va_rf (some this)] = [some (va_rf (some this))] from by simp [argL, cat_rf, cat_i, cat_j, cat_f, cat_d]]
  refine g_aload_n X dX4_faultPosition_0 rfl rfl ?_
  refine g_iconst (v := (0 : Int32)) X dX4_faultPosition_1 (by decide) ?_
  obtain ⟨ob1, eob1, hF⟩ := bnd hF
  obtain ⟨v3, h2, eh2, hF⟩ := b2_some hF
  refine g_callV X eob1 rfl rfl (w_X4_faultTold l hl D dA h0 ob1 (0 : Int32) v3 h2 eh2) q2347 q2349 qs84 q103 q2350 okn_X4_faultTold ⟨by rw [hRf]; exact Nat.le_of_ble_eq_true rfl, by rw [hRl]; exact Nat.le_of_ble_eq_true rfl⟩ (As := [.int (0 : Int32)]) (rest := []) rfl (by first | exact Nat.le_of_ble_eq_true rfl | simp [cat_rf, cat_i, cat_j, cat_f, cat_d]) dX4_faultPosition_2 (ac_v ?_)
  cases hF
  exact g_iret X hr dX4_faultPosition_5
def F_X4_faultReason (this : Nat) (h0 : HH) : Option (Int32 × HH) :=
  Option.bind (isO h0 1 (some this)) fun ob1 =>
  b2 (F_X4_faultTold ob1 (1 : Int32) h0) fun v3 h2 =>
  some (v3, h2)
set_option maxHeartbeats 4000000 in
theorem w_X4_faultReason (l : Launch) (hl : l.stackTraces = false) (D : va_G) (dA : Nat → ClassId) (h0 : HH) (this : Nat) (rE : Int32) (hE : HH) (hF : F_X4_faultReason this h0 = some (rE, hE)) : MC D dA l yX4_faultReason cX4_faultReason 1 (Option.some Jvm.ClassFile.FieldType.int) [] 10 217 [va_rf (some this)] h0 (.inr (some (.int rE)), hE) := by
  refine mc_of hl (plainFor_of_name pn_X4) (by simp [lg_sl, cat_rf, cat_i, cat_j, cat_f, cat_d]) ?_
  intro p e s m args below meth c R hRf hRl X hr hnm
  unfold F_X4_faultReason at hF
  rw [show argL [va_rf (some this)] = [some (va_rf (some this))] from by simp [argL, cat_rf, cat_i, cat_j, cat_f, cat_d]]
  refine g_aload_n X dX4_faultReason_0 rfl rfl ?_
  refine g_iconst (v := (1 : Int32)) X dX4_faultReason_1 (by decide) ?_
  obtain ⟨ob1, eob1, hF⟩ := bnd hF
  obtain ⟨v3, h2, eh2, hF⟩ := b2_some hF
  refine g_callV X eob1 rfl rfl (w_X4_faultTold l hl D dA h0 ob1 (1 : Int32) v3 h2 eh2) q2347 q2349 qs84 q103 q2350 okn_X4_faultTold ⟨by rw [hRf]; exact Nat.le_of_ble_eq_true rfl, by rw [hRl]; exact Nat.le_of_ble_eq_true rfl⟩ (As := [.int (1 : Int32)]) (rest := []) rfl (by first | exact Nat.le_of_ble_eq_true rfl | simp [cat_rf, cat_i, cat_j, cat_f, cat_d]) dX4_faultReason_2 (ac_v ?_)
  cases hF
  exact g_iret X hr dX4_faultReason_5
def F_X4_faultCause (this : Nat) (h0 : HH) : Option (Int32 × HH) :=
  Option.bind (isO h0 1 (some this)) fun ob1 =>
  b2 (F_X4_faultTold ob1 (2 : Int32) h0) fun v3 h2 =>
  some (v3, h2)
set_option maxHeartbeats 4000000 in
theorem w_X4_faultCause (l : Launch) (hl : l.stackTraces = false) (D : va_G) (dA : Nat → ClassId) (h0 : HH) (this : Nat) (rE : Int32) (hE : HH) (hF : F_X4_faultCause this h0 = some (rE, hE)) : MC D dA l yX4_faultCause cX4_faultCause 1 (Option.some Jvm.ClassFile.FieldType.int) [] 10 217 [va_rf (some this)] h0 (.inr (some (.int rE)), hE) := by
  refine mc_of hl (plainFor_of_name pn_X4) (by simp [lg_sl, cat_rf, cat_i, cat_j, cat_f, cat_d]) ?_
  intro p e s m args below meth c R hRf hRl X hr hnm
  unfold F_X4_faultCause at hF
  rw [show argL [va_rf (some this)] = [some (va_rf (some this))] from by simp [argL, cat_rf, cat_i, cat_j, cat_f, cat_d]]
  refine g_aload_n X dX4_faultCause_0 rfl rfl ?_
  refine g_iconst (v := (2 : Int32)) X dX4_faultCause_1 (by decide) ?_
  obtain ⟨ob1, eob1, hF⟩ := bnd hF
  obtain ⟨v3, h2, eh2, hF⟩ := b2_some hF
  refine g_callV X eob1 rfl rfl (w_X4_faultTold l hl D dA h0 ob1 (2 : Int32) v3 h2 eh2) q2347 q2349 qs84 q103 q2350 okn_X4_faultTold ⟨by rw [hRf]; exact Nat.le_of_ble_eq_true rfl, by rw [hRl]; exact Nat.le_of_ble_eq_true rfl⟩ (As := [.int (2 : Int32)]) (rest := []) rfl (by first | exact Nat.le_of_ble_eq_true rfl | simp [cat_rf, cat_i, cat_j, cat_f, cat_d]) dX4_faultCause_2 (ac_v ?_)
  cases hF
  exact g_iret X hr dX4_faultCause_5
def F_X4_play (this : Nat) (h0 : HH) : Option (Int32 × HH) :=
  Option.bind (isO h0 1 (some this)) fun ob1 =>
  Option.bind (F_X4_begins ob1 h0) fun h2 =>
  Option.bind (isO h2 1 (some this)) fun ob3 =>
  b2 (F_X4_doesAll ob3 h2) fun v5 h4 =>
  Option.bind (getI h4 1 27 (some this)) fun v6 =>
  if v6 ≤ 0 then (
    Option.bind (isO h4 1 (some this)) fun ob8 =>
    Option.bind (F_X4_records ob8 h4) fun h9 =>
    some (v5, h9)
  ) else (
    Option.bind (getR h4 1 1 (some this)) fun v10 =>
    Option.bind (getR h4 1 0 (some this)) fun v11 =>
    Option.bind (F_X4_copies v10 (0 : Int32) v11 (0 : Int32) h4) fun h12 =>
    Option.bind (isO h12 1 (some this)) fun ob13 =>
    b2 (F_X4_fails ob13 (1 : Int32) h12) fun v15 h14 =>
    some (v15, h14)
  )
set_option maxHeartbeats 4000000 in
theorem w_X4_play (l : Launch) (hl : l.stackTraces = false) (D : va_G) (dA : Nat → ClassId) (h0 : HH) (this : Nat) (rE : Int32) (hE : HH) (hF : F_X4_play this h0 = some (rE, hE)) : MC D dA l yX4_play cX4_play 2 (Option.some Jvm.ClassFile.FieldType.int) [] 9 195 [va_rf (some this)] h0 (.inr (some (.int rE)), hE) := by
  refine mc_of hl (plainFor_of_name pn_X4) (by simp [lg_sl, cat_rf, cat_i, cat_j, cat_f, cat_d]) ?_
  intro p e s m args below meth c R hRf hRl X hr hnm
  unfold F_X4_play at hF
  rw [show argL [va_rf (some this)] = [some (va_rf (some this))] from by simp [argL, cat_rf, cat_i, cat_j, cat_f, cat_d]]
  refine G.pad 1 (L' := [some (va_rf (some this)), none]) rfl ?_
  refine g_aload_n X dX4_play_0 rfl rfl ?_
  obtain ⟨ob1, eob1, hF⟩ := bnd hF
  obtain ⟨h2, eh2, hF⟩ := bnd hF
  refine g_callV X eob1 rfl rfl (w_X4_begins l hl D dA h0 ob1  h2 eh2) q1859 q1861 qs31 q103 q1862 okn_X4_begins ⟨by rw [hRf]; exact Nat.le_of_ble_eq_true rfl, by rw [hRl]; exact Nat.le_of_ble_eq_true rfl⟩ (As := []) (rest := []) rfl (by first | exact Nat.le_of_ble_eq_true rfl | simp [cat_rf, cat_i, cat_j, cat_f, cat_d]) dX4_play_1 (ac_0 ?_)
  refine g_aload_n X dX4_play_4 rfl rfl ?_
  obtain ⟨ob3, eob3, hF⟩ := bnd hF
  obtain ⟨v5, h4, eh4, hF⟩ := b2_some hF
  refine g_callV X eob3 rfl rfl (w_X4_doesAll l hl D dA h2 ob3  v5 h4 eh4) q2351 q2353 qs85 q103 q2354 okn_X4_doesAll ⟨by rw [hRf]; exact Nat.le_of_ble_eq_true rfl, by rw [hRl]; exact Nat.le_of_ble_eq_true rfl⟩ (As := []) (rest := []) rfl (by first | exact Nat.le_of_ble_eq_true rfl | simp [cat_rf, cat_i, cat_j, cat_f, cat_d]) dX4_play_5 (ac_v ?_)
  refine g_istore_n (L' := [some (va_rf (some this)), some (.int v5)]) X dX4_play_8 rfl (Nat.le_of_ble_eq_true rfl) (by first | rfl | simp [stL, rm1, clr2, cat_rf, cat_i, cat_j, cat_f, cat_d]) ?_
  refine g_aload_n X dX4_play_9 rfl rfl ?_
  obtain ⟨v6, ev6, hF⟩ := bnd hF
  refine g_get (k := 27) X in_X4 rfl (by decide) q1790 (Or.inl rfl) (getI_V ev6) dX4_play_10 ?_
  refine g_if_le X 35 dX4_play_13 (by decide) (fun c7 => ?_) (fun c7 => ?_)
  · have hF := (if_pos c7).symm.trans hF
    refine g_aload_n X dX4_play_35 rfl rfl ?_
    obtain ⟨ob8, eob8, hF⟩ := bnd hF
    obtain ⟨h9, eh9, hF⟩ := bnd hF
    refine g_callV X eob8 rfl rfl (w_X4_records l hl D dA h4 ob8  h9 eh9) q1904 q1906 qs37 q103 q1907 okn_X4_records ⟨by rw [hRf]; exact Nat.le_of_ble_eq_true rfl, by rw [hRl]; exact Nat.le_of_ble_eq_true rfl⟩ (As := []) (rest := []) rfl (by first | exact Nat.le_of_ble_eq_true rfl | simp [cat_rf, cat_i, cat_j, cat_f, cat_d]) dX4_play_36 (ac_0 ?_)
    refine g_iload_n X dX4_play_39 rfl rfl ?_
    cases hF
    exact g_iret X hr dX4_play_40
  · have hF := (if_neg c7).symm.trans hF
    refine g_aload_n X dX4_play_16 rfl rfl ?_
    obtain ⟨v10, ev10, hF⟩ := bnd hF
    refine g_get (k := 1) X in_X4 rfl (by decide) q1764 (Or.inl rfl) (getR_V ev10) dX4_play_17 ?_
    refine g_iconst (v := (0 : Int32)) X dX4_play_20 (by decide) ?_
    refine g_aload_n X dX4_play_21 rfl rfl ?_
    obtain ⟨v11, ev11, hF⟩ := bnd hF
    refine g_get (k := 0) X in_X4 rfl (by decide) q1763 (Or.inl rfl) (getR_V ev11) dX4_play_22 ?_
    refine g_iconst (v := (0 : Int32)) X dX4_play_25 (by decide) ?_
    obtain ⟨h12, eh12, hF⟩ := bnd hF
    refine g_callS X (w_X4_copies l hl D dA h4 v10 (0 : Int32) v11 (0 : Int32) h12 eh12) q1863 q1864 q103 q1865 okn_X4_copies ⟨by rw [hRf]; exact Nat.le_of_ble_eq_true rfl, by rw [hRl]; exact Nat.le_of_ble_eq_true rfl⟩ (As := [va_rf v10, .int (0 : Int32), va_rf v11, .int (0 : Int32)]) (rest := []) rfl (by first | exact Nat.le_of_ble_eq_true rfl | simp [cat_rf, cat_i, cat_j, cat_f, cat_d]) dX4_play_26 (ac_0 ?_)
    refine g_aload_n X dX4_play_29 rfl rfl ?_
    refine g_iconst (v := (1 : Int32)) X dX4_play_30 (by decide) ?_
    obtain ⟨ob13, eob13, hF⟩ := bnd hF
    obtain ⟨v15, h14, eh14, hF⟩ := b2_some hF
    refine g_callV X eob13 rfl rfl (w_X4_fails l hl D dA h12 ob13 (1 : Int32) v15 h14 eh14) q1900 q1902 qs36 q103 q1903 okn_X4_fails ⟨by rw [hRf]; exact Nat.le_of_ble_eq_true rfl, by rw [hRl]; exact Nat.le_of_ble_eq_true rfl⟩ (As := [.int (1 : Int32)]) (rest := []) rfl (by first | exact Nat.le_of_ble_eq_true rfl | simp [cat_rf, cat_i, cat_j, cat_f, cat_d]) dX4_play_31 (ac_v ?_)
    cases hF
    exact g_iret X hr dX4_play_34
