def F_X8_init (this : Nat) (a1 : Option Nat) (h0 : HH) : Option HH :=
  Option.bind (putV h0 6 7 (some this) (va_rf a1)) fun h1 =>
  Option.bind (nnl (some this)) fun ob2 =>
  Option.bind (newO h1 2 5 [.null, .null, .null, .null, .int 0]) fun h3 =>
  Option.bind (getR h3 6 7 (some this)) fun v4 =>
  Option.bind (getR h3 0 0 v4) fun v5 =>
  Option.bind (nnl (some (hSz h1))) fun ob6 =>
  Option.bind (F_X2_init_2 ob6 v5 h3) fun h7 =>
  Option.bind (putV h7 6 0 (some this) (va_rf (some (hSz h1)))) fun h8 =>
  Option.bind (newA h8 0 (3 : Int32)) fun h9 =>
  Option.bind (putV h9 6 1 (some this) (va_rf (some (hSz h8)))) fun h10 =>
  some h10
set_option maxHeartbeats 4000000 in
theorem w_X8_init (l : Launch) (hl : l.stackTraces = false) (D : va_G) (dA : Nat → ClassId) (h0 : HH) (this : Nat) (a1 : Option Nat) (hE : HH) (hF : F_X8_init this a1 h0 = some hE) : MC D dA l yX8_init cX8_init 2 (Option.none : Option Jvm.ClassFile.FieldType) [] 8 193 [va_rf (some this), va_rf a1] h0 (.inr none, hE) := by
  refine mc_of hl (plainFor_of_name pn_X8) (by simp [lg_sl, cat_rf, cat_i, cat_j, cat_f, cat_d]) ?_
  intro p e s m args below meth c R hRf hRl X hr hnm
  unfold F_X8_init at hF
  rw [show argL [va_rf (some this), va_rf a1] = [some (va_rf (some this)), some (va_rf a1)] from by simp [argL, cat_rf, cat_i, cat_j, cat_f, cat_d]]
  refine g_aload_n X dX8_init_0 rfl rfl ?_
  refine g_aload_n X dX8_init_1 rfl rfl ?_
  obtain ⟨h1, eh1, hF⟩ := bnd hF
  refine g_putF (k := 7) X in_X8 tyX8 tyX8_ok nmX8 rfl (by decide) q1625 rfl rfl hnm rfl (tyX8_ok 7 (by decide)) (narrow_rf _ _) (fits_rf _ _) eh1 dX8_init_2 ?_
  refine g_aload_n X dX8_init_5 rfl rfl ?_
  obtain ⟨ob2, eob2, hF⟩ := bnd hF
  refine g_objInit X ob2 eob2 q1610 q132 q133 ⟨by rw [hRf]; exact Nat.le_of_ble_eq_true rfl, by rw [hRl]; exact Nat.le_of_ble_eq_true rfl⟩ (by first | exact Nat.le_of_ble_eq_true rfl | simp [cat_rf, cat_i, cat_j, cat_f, cat_d]) dX8_init_6 ?_
  refine g_aload_n X dX8_init_9 rfl rfl ?_
  obtain ⟨h3, eh3, hF⟩ := bnd hF
  refine g_new X in_X2 tyX2 tyX2_ok rfl q1611 q135 q93 rfl dv_X2 eh3 dX8_init_10 ?_
  refine g_dup X dX8_init_13 (cat_rf _) ?_
  refine g_aload_n X dX8_init_14 rfl rfl ?_
  obtain ⟨v4, ev4, hF⟩ := bnd hF
  refine g_get (k := 7) X in_X8 rfl (by decide) q1625 (Or.inl rfl) (getR_V ev4) dX8_init_15 ?_
  obtain ⟨v5, ev5, hF⟩ := bnd hF
  refine g_getN (k := 0) X in_X1 rfl (by decide) (nw_in q254 rfl) rfl (getR_V ev5) dX8_init_18 ?_
  obtain ⟨ob6, eob6, hF⟩ := bnd hF
  obtain ⟨h7, eh7, hF⟩ := bnd hF
  refine g_callI X (nnl_some eob6) (w_X2_init_2 l hl D dA h3 ob6 v5 h7 eh7) rfl q1612 q279 q93 q280 okn_X2_init_2 ⟨by rw [hRf]; exact Nat.le_of_ble_eq_true rfl, by rw [hRl]; exact Nat.le_of_ble_eq_true rfl⟩ (As := [va_rf v5]) (rest := [va_rf (some (hSz h1)), va_rf (some this)]) rfl (by first | exact Nat.le_of_ble_eq_true rfl | simp [cat_rf, cat_i, cat_j, cat_f, cat_d]) dX8_init_21 (ac_0 ?_)
  obtain ⟨h8, eh8, hF⟩ := bnd hF
  refine g_putF (k := 0) X in_X8 tyX8 tyX8_ok nmX8 rfl (by decide) q1613 rfl rfl hnm rfl (tyX8_ok 0 (by decide)) (narrow_rf _ _) (fits_rf _ _) eh8 dX8_init_24 ?_
  refine g_aload_n X dX8_init_27 rfl rfl ?_
  refine g_iconst (v := (3 : Int32)) X dX8_init_28 (by decide) ?_
  obtain ⟨h9, eh9, hF⟩ := bnd hF
  refine g_newa (atype := .int) (t := 0) X q182 rfl (funext fun _ => rfl) (by decide) eh9 dX8_init_29 ?_
  obtain ⟨h10, eh10, hF⟩ := bnd hF
  refine g_putF (k := 1) X in_X8 tyX8 tyX8_ok nmX8 rfl (by decide) q1615 rfl rfl hnm rfl (tyX8_ok 1 (by decide)) (narrow_rfA _ _) (fits_rfA _ _) eh10 dX8_init_31 ?_
  cases hF
  exact g_vret X hr dX8_init_34
def F_X1_doneBeside_T146 (a1 : Option Nat) (a2 : Int32) (a3 : Option Nat) (h_146 : HH) : Option (((Nat × String) ⊕ Int32) × HH) :=
  Option.bind (aldI h_146 0 a3 (0 : Int32)) fun v1 =>
  Option.bind (aldI h_146 0 a3 (1 : Int32)) fun v2 =>
  Option.bind (isO h_146 2 a1) fun ob3 =>
  thr (F_X2_turnsReset ob3 v1 v2 h_146) (fun q6 h4 =>
    some (.inl q6, h4)
  ) (fun v5 h4 =>
    some (.inr v5, h4)
  )
def F_X1_doneBeside (a1 : Option Nat) (a2 : Int32) (a3 : Option Nat) (h0 : HH) : Option (((Nat × String) ⊕ Int32) × HH) :=
  if a2 = (72 : Int32) then (
    Option.bind (aldI h0 0 a3 (0 : Int32)) fun v8 =>
    Option.bind (aldI h0 0 a3 (1 : Int32)) fun v9 =>
    Option.bind (aldI h0 0 a3 (2 : Int32)) fun v10 =>
    Option.bind (isO h0 2 a1) fun ob11 =>
    thr (F_X2_allows ob11 v8 v9 v10 h0) (fun q14 h12 =>
      some (.inl q14, h12)
    ) (fun v13 h12 =>
      some (.inr v13, h12)
    )
  ) else (
    if a2 = (76 : Int32) then (
      Option.bind (aldI h0 0 a3 (0 : Int32)) fun v16 =>
      Option.bind (aldI h0 0 a3 (1 : Int32)) fun v17 =>
      Option.bind (isO h0 2 a1) fun ob18 =>
      thr (F_X2_getsLine ob18 v16 v17 h0) (fun q21 h19 =>
        some (.inl q21, h19)
      ) (fun v20 h19 =>
        some (.inr v20, h19)
      )
    ) else (
      if a2 = (77 : Int32) then (
        Option.bind (aldI h0 0 a3 (0 : Int32)) fun v23 =>
        Option.bind (isO h0 2 a1) fun ob24 =>
        thr (F_X2_meets ob24 v23 h0) (fun q27 h25 =>
          some (.inl q27, h25)
        ) (fun v26 h25 =>
          some (.inr v26, h25)
        )
      ) else (
        if a2 = (78 : Int32) then (
          Option.bind (aldI h0 0 a3 (0 : Int32)) fun v29 =>
          Option.bind (aldI h0 0 a3 (1 : Int32)) fun v30 =>
          Option.bind (aldI h0 0 a3 (2 : Int32)) fun v31 =>
          Option.bind (aldI h0 0 a3 (3 : Int32)) fun v32 =>
          Option.bind (isO h0 2 a1) fun ob33 =>
          thr (F_X2_wants ob33 v29 v30 v31 v32 h0) (fun q36 h34 =>
            some (.inl q36, h34)
          ) (fun v35 h34 =>
            some (.inr v35, h34)
          )
        ) else (
          if a2 = (80 : Int32) then (
            Option.bind (aldI h0 0 a3 (0 : Int32)) fun v38 =>
            Option.bind (isO h0 2 a1) fun ob39 =>
            thr (F_X2_puts ob39 v38 h0) (fun q42 h40 =>
              some (.inl q42, h40)
            ) (fun v41 h40 =>
              some (.inr v41, h40)
            )
          ) else (
            if a2 = (87 : Int32) then (
              Option.bind (aldI h0 0 a3 (0 : Int32)) fun v44 =>
              Option.bind (isO h0 2 a1) fun ob45 =>
              thr (F_X2_wraps ob45 v44 h0) (fun q48 h46 =>
                some (.inl q48, h46)
              ) (fun v47 h46 =>
                some (.inr v47, h46)
              )
            ) else (
              F_X1_doneBeside_T146 a1 a2 a3  h0
            )
          )
        )
      )
    )
  )
set_option maxHeartbeats 4000000 in
theorem w_X1_doneBeside (l : Launch) (hl : l.stackTraces = false) (D : va_G) (dA : Nat → ClassId) (h0 : HH) (a1 : Option Nat) (a2 : Int32) (a3 : Option Nat) (oE : (Nat × String) ⊕ Int32) (hE : HH) (hF : F_X1_doneBeside a1 a2 a3 h0 = some (oE, hE)) : MC D dA l yX1_doneBeside cX1_doneBeside 3 (Option.some Jvm.ClassFile.FieldType.int) [] 13 368 [va_rf a1, .int a2, va_rf a3] h0 (rsI oE, hE) := by
  refine mc_of hl (plainFor_of_name pn_X1) (by simp [lg_sl, cat_rf, cat_i, cat_j, cat_f, cat_d]) ?_
  intro p e s m args below meth c R hRf hRl X hr hnm
  unfold F_X1_doneBeside at hF
  rw [show argL [va_rf a1, .int a2, va_rf a3] = [some (va_rf a1), some (.int a2), some (va_rf a3)] from by simp [argL, cat_rf, cat_i, cat_j, cat_f, cat_d]]
  refine g_iload_n X dX1_doneBeside_0 rfl rfl ?_
  have T146 : ∀  (h_146 : HH) , F_X1_doneBeside_T146 a1 a2 a3  h_146 = some (oE, hE) → G p l e R s m args below meth c (RQ D dA h0 (rsI oE, hE) below s) D dA h0 3 h_146 146 [some (va_rf a1), none, some (va_rf a3)] [] := by
    intro  h_146  hF 
    unfold F_X1_doneBeside_T146 at hF
    refine g_aload_n X dX1_doneBeside_146 rfl rfl ?_
    refine g_aload_n X dX1_doneBeside_147 rfl rfl ?_
    refine g_iconst (v := (0 : Int32)) X dX1_doneBeside_148 (by decide) ?_
    obtain ⟨v1, ev1, hF⟩ := bnd hF
    refine g_iald X ev1 dX1_doneBeside_149 ?_
    refine g_aload_n X dX1_doneBeside_150 rfl rfl ?_
    refine g_iconst (v := (1 : Int32)) X dX1_doneBeside_151 (by decide) ?_
    obtain ⟨v2, ev2, hF⟩ := bnd hF
    refine g_iald X ev2 dX1_doneBeside_152 ?_
    obtain ⟨ob3, eob3, hF⟩ := bnd hF
    rcases thr_some hF with ⟨q6, h4, e7, hF⟩ | ⟨v5, h4, e7, hF⟩
    · refine g_callV X eob3 rfl rfl (w_X2_turnsReset l hl D dA h_146 ob3 v1 v2 (.inl q6) h4 e7) q664 q665 q666 q93 q667 okn_X2_turnsReset ⟨by rw [hRf]; exact Nat.le_of_ble_eq_true rfl, by rw [hRl]; exact Nat.le_of_ble_eq_true rfl⟩ (As := [.int v1, .int v2]) (rest := []) rfl (by first | exact Nat.le_of_ble_eq_true rfl | simp [cat_rf, cat_i, cat_j, cat_f, cat_d]) dX1_doneBeside_153 (ac_x ?_)
      cases hF
      exact gx_out X (fun x hx => nomatch hx)
    · refine g_callV X eob3 rfl rfl (w_X2_turnsReset l hl D dA h_146 ob3 v1 v2 (.inr v5) h4 e7) q664 q665 q666 q93 q667 okn_X2_turnsReset ⟨by rw [hRf]; exact Nat.le_of_ble_eq_true rfl, by rw [hRl]; exact Nat.le_of_ble_eq_true rfl⟩ (As := [.int v1, .int v2]) (rest := []) rfl (by first | exact Nat.le_of_ble_eq_true rfl | simp [cat_rf, cat_i, cat_j, cat_f, cat_d]) dX1_doneBeside_153 (ac_v ?_)
      cases hF
      exact g_iret X hr dX1_doneBeside_156
  by_cases sc1_72 : a2 = (72 : Int32)
  · have hF := (if_pos sc1_72).symm.trans hF
    refine g_tableIn X 104 dX1_doneBeside_1 (by rw [sc1_72]; decide) (by rw [sc1_72]; decide) (off := 103) (by rw [sc1_72]; rfl) (by decide) ?_
    refine g_aload_n X dX1_doneBeside_104 rfl rfl ?_
    refine g_aload_n X dX1_doneBeside_105 rfl rfl ?_
    refine g_iconst (v := (0 : Int32)) X dX1_doneBeside_106 (by decide) ?_
    obtain ⟨v8, ev8, hF⟩ := bnd hF
    refine g_iald X ev8 dX1_doneBeside_107 ?_
    refine g_aload_n X dX1_doneBeside_108 rfl rfl ?_
    refine g_iconst (v := (1 : Int32)) X dX1_doneBeside_109 (by decide) ?_
    obtain ⟨v9, ev9, hF⟩ := bnd hF
    refine g_iald X ev9 dX1_doneBeside_110 ?_
    refine g_aload_n X dX1_doneBeside_111 rfl rfl ?_
    refine g_iconst (v := (2 : Int32)) X dX1_doneBeside_112 (by decide) ?_
    obtain ⟨v10, ev10, hF⟩ := bnd hF
    refine g_iald X ev10 dX1_doneBeside_113 ?_
    obtain ⟨ob11, eob11, hF⟩ := bnd hF
    rcases thr_some hF with ⟨q14, h12, e15, hF⟩ | ⟨v13, h12, e15, hF⟩
    · refine g_callV X eob11 rfl rfl (w_X2_allows l hl D dA h0 ob11 v8 v9 v10 (.inl q14) h12 e15) q636 q637 q638 q93 q639 okn_X2_allows ⟨by rw [hRf]; exact Nat.le_of_ble_eq_true rfl, by rw [hRl]; exact Nat.le_of_ble_eq_true rfl⟩ (As := [.int v8, .int v9, .int v10]) (rest := []) rfl (by first | exact Nat.le_of_ble_eq_true rfl | simp [cat_rf, cat_i, cat_j, cat_f, cat_d]) dX1_doneBeside_114 (ac_x ?_)
      cases hF
      exact gx_out X (fun x hx => nomatch hx)
    · refine g_callV X eob11 rfl rfl (w_X2_allows l hl D dA h0 ob11 v8 v9 v10 (.inr v13) h12 e15) q636 q637 q638 q93 q639 okn_X2_allows ⟨by rw [hRf]; exact Nat.le_of_ble_eq_true rfl, by rw [hRl]; exact Nat.le_of_ble_eq_true rfl⟩ (As := [.int v8, .int v9, .int v10]) (rest := []) rfl (by first | exact Nat.le_of_ble_eq_true rfl | simp [cat_rf, cat_i, cat_j, cat_f, cat_d]) dX1_doneBeside_114 (ac_v ?_)
      cases hF
      exact g_iret X hr dX1_doneBeside_117
  · have hF := (if_neg sc1_72).symm.trans hF
    by_cases sc1_76 : a2 = (76 : Int32)
    · have hF := (if_pos sc1_76).symm.trans hF
      refine g_tableIn X 118 dX1_doneBeside_1 (by rw [sc1_76]; decide) (by rw [sc1_76]; decide) (off := 117) (by rw [sc1_76]; rfl) (by decide) ?_
      refine g_aload_n X dX1_doneBeside_118 rfl rfl ?_
      refine g_aload_n X dX1_doneBeside_119 rfl rfl ?_
      refine g_iconst (v := (0 : Int32)) X dX1_doneBeside_120 (by decide) ?_
      obtain ⟨v16, ev16, hF⟩ := bnd hF
      refine g_iald X ev16 dX1_doneBeside_121 ?_
      refine g_aload_n X dX1_doneBeside_122 rfl rfl ?_
      refine g_iconst (v := (1 : Int32)) X dX1_doneBeside_123 (by decide) ?_
      obtain ⟨v17, ev17, hF⟩ := bnd hF
      refine g_iald X ev17 dX1_doneBeside_124 ?_
      obtain ⟨ob18, eob18, hF⟩ := bnd hF
      rcases thr_some hF with ⟨q21, h19, e22, hF⟩ | ⟨v20, h19, e22, hF⟩
      · refine g_callV X eob18 rfl rfl (w_X2_getsLine l hl D dA h0 ob18 v16 v17 (.inl q21) h19 e22) q649 q650 q651 q93 q652 okn_X2_getsLine ⟨by rw [hRf]; exact Nat.le_of_ble_eq_true rfl, by rw [hRl]; exact Nat.le_of_ble_eq_true rfl⟩ (As := [.int v16, .int v17]) (rest := []) rfl (by first | exact Nat.le_of_ble_eq_true rfl | simp [cat_rf, cat_i, cat_j, cat_f, cat_d]) dX1_doneBeside_125 (ac_x ?_)
        cases hF
        exact gx_out X (fun x hx => nomatch hx)
      · refine g_callV X eob18 rfl rfl (w_X2_getsLine l hl D dA h0 ob18 v16 v17 (.inr v20) h19 e22) q649 q650 q651 q93 q652 okn_X2_getsLine ⟨by rw [hRf]; exact Nat.le_of_ble_eq_true rfl, by rw [hRl]; exact Nat.le_of_ble_eq_true rfl⟩ (As := [.int v16, .int v17]) (rest := []) rfl (by first | exact Nat.le_of_ble_eq_true rfl | simp [cat_rf, cat_i, cat_j, cat_f, cat_d]) dX1_doneBeside_125 (ac_v ?_)
        cases hF
        exact g_iret X hr dX1_doneBeside_128
    · have hF := (if_neg sc1_76).symm.trans hF
      by_cases sc1_77 : a2 = (77 : Int32)
      · have hF := (if_pos sc1_77).symm.trans hF
        refine g_tableIn X 88 dX1_doneBeside_1 (by rw [sc1_77]; decide) (by rw [sc1_77]; decide) (off := 87) (by rw [sc1_77]; rfl) (by decide) ?_
        refine g_aload_n X dX1_doneBeside_88 rfl rfl ?_
        refine g_aload_n X dX1_doneBeside_89 rfl rfl ?_
        refine g_iconst (v := (0 : Int32)) X dX1_doneBeside_90 (by decide) ?_
        obtain ⟨v23, ev23, hF⟩ := bnd hF
        refine g_iald X ev23 dX1_doneBeside_91 ?_
        obtain ⟨ob24, eob24, hF⟩ := bnd hF
        rcases thr_some hF with ⟨q27, h25, e28, hF⟩ | ⟨v26, h25, e28, hF⟩
        · refine g_callV X eob24 rfl rfl (w_X2_meets l hl D dA h0 ob24 v23 (.inl q27) h25 e28) q622 q623 q624 q93 q625 okn_X2_meets ⟨by rw [hRf]; exact Nat.le_of_ble_eq_true rfl, by rw [hRl]; exact Nat.le_of_ble_eq_true rfl⟩ (As := [.int v23]) (rest := []) rfl (by first | exact Nat.le_of_ble_eq_true rfl | simp [cat_rf, cat_i, cat_j, cat_f, cat_d]) dX1_doneBeside_92 (ac_x ?_)
          cases hF
          exact gx_out X (fun x hx => nomatch hx)
        · refine g_callV X eob24 rfl rfl (w_X2_meets l hl D dA h0 ob24 v23 (.inr v26) h25 e28) q622 q623 q624 q93 q625 okn_X2_meets ⟨by rw [hRf]; exact Nat.le_of_ble_eq_true rfl, by rw [hRl]; exact Nat.le_of_ble_eq_true rfl⟩ (As := [.int v23]) (rest := []) rfl (by first | exact Nat.le_of_ble_eq_true rfl | simp [cat_rf, cat_i, cat_j, cat_f, cat_d]) dX1_doneBeside_92 (ac_v ?_)
          cases hF
          exact g_iret X hr dX1_doneBeside_95
      · have hF := (if_neg sc1_77).symm.trans hF
        by_cases sc1_78 : a2 = (78 : Int32)
        · have hF := (if_pos sc1_78).symm.trans hF
          refine g_tableIn X 129 dX1_doneBeside_1 (by rw [sc1_78]; decide) (by rw [sc1_78]; decide) (off := 128) (by rw [sc1_78]; rfl) (by decide) ?_
          refine g_aload_n X dX1_doneBeside_129 rfl rfl ?_
          refine g_aload_n X dX1_doneBeside_130 rfl rfl ?_
          refine g_iconst (v := (0 : Int32)) X dX1_doneBeside_131 (by decide) ?_
          obtain ⟨v29, ev29, hF⟩ := bnd hF
          refine g_iald X ev29 dX1_doneBeside_132 ?_
          refine g_aload_n X dX1_doneBeside_133 rfl rfl ?_
          refine g_iconst (v := (1 : Int32)) X dX1_doneBeside_134 (by decide) ?_
          obtain ⟨v30, ev30, hF⟩ := bnd hF
          refine g_iald X ev30 dX1_doneBeside_135 ?_
          refine g_aload_n X dX1_doneBeside_136 rfl rfl ?_
          refine g_iconst (v := (2 : Int32)) X dX1_doneBeside_137 (by decide) ?_
          obtain ⟨v31, ev31, hF⟩ := bnd hF
          refine g_iald X ev31 dX1_doneBeside_138 ?_
          refine g_aload_n X dX1_doneBeside_139 rfl rfl ?_
          refine g_iconst (v := (3 : Int32)) X dX1_doneBeside_140 (by decide) ?_
          obtain ⟨v32, ev32, hF⟩ := bnd hF
          refine g_iald X ev32 dX1_doneBeside_141 ?_
          obtain ⟨ob33, eob33, hF⟩ := bnd hF
          rcases thr_some hF with ⟨q36, h34, e37, hF⟩ | ⟨v35, h34, e37, hF⟩
          · refine g_callV X eob33 rfl rfl (w_X2_wants l hl D dA h0 ob33 v29 v30 v31 v32 (.inl q36) h34 e37) q656 q657 q658 q93 q659 okn_X2_wants ⟨by rw [hRf]; exact Nat.le_of_ble_eq_true rfl, by rw [hRl]; exact Nat.le_of_ble_eq_true rfl⟩ (As := [.int v29, .int v30, .int v31, .int v32]) (rest := []) rfl (by first | exact Nat.le_of_ble_eq_true rfl | simp [cat_rf, cat_i, cat_j, cat_f, cat_d]) dX1_doneBeside_142 (ac_x ?_)
            cases hF
            exact gx_out X (fun x hx => nomatch hx)
          · refine g_callV X eob33 rfl rfl (w_X2_wants l hl D dA h0 ob33 v29 v30 v31 v32 (.inr v35) h34 e37) q656 q657 q658 q93 q659 okn_X2_wants ⟨by rw [hRf]; exact Nat.le_of_ble_eq_true rfl, by rw [hRl]; exact Nat.le_of_ble_eq_true rfl⟩ (As := [.int v29, .int v30, .int v31, .int v32]) (rest := []) rfl (by first | exact Nat.le_of_ble_eq_true rfl | simp [cat_rf, cat_i, cat_j, cat_f, cat_d]) dX1_doneBeside_142 (ac_v ?_)
            cases hF
            exact g_iret X hr dX1_doneBeside_145
        · have hF := (if_neg sc1_78).symm.trans hF
          by_cases sc1_80 : a2 = (80 : Int32)
          · have hF := (if_pos sc1_80).symm.trans hF
            refine g_tableIn X 80 dX1_doneBeside_1 (by rw [sc1_80]; decide) (by rw [sc1_80]; decide) (off := 79) (by rw [sc1_80]; rfl) (by decide) ?_
            refine g_aload_n X dX1_doneBeside_80 rfl rfl ?_
            refine g_aload_n X dX1_doneBeside_81 rfl rfl ?_
            refine g_iconst (v := (0 : Int32)) X dX1_doneBeside_82 (by decide) ?_
            obtain ⟨v38, ev38, hF⟩ := bnd hF
            refine g_iald X ev38 dX1_doneBeside_83 ?_
            obtain ⟨ob39, eob39, hF⟩ := bnd hF
            rcases thr_some hF with ⟨q42, h40, e43, hF⟩ | ⟨v41, h40, e43, hF⟩
            · refine g_callV X eob39 rfl rfl (w_X2_puts l hl D dA h0 ob39 v38 (.inl q42) h40 e43) q615 q616 q617 q93 q618 okn_X2_puts ⟨by rw [hRf]; exact Nat.le_of_ble_eq_true rfl, by rw [hRl]; exact Nat.le_of_ble_eq_true rfl⟩ (As := [.int v38]) (rest := []) rfl (by first | exact Nat.le_of_ble_eq_true rfl | simp [cat_rf, cat_i, cat_j, cat_f, cat_d]) dX1_doneBeside_84 (ac_x ?_)
              cases hF
              exact gx_out X (fun x hx => nomatch hx)
            · refine g_callV X eob39 rfl rfl (w_X2_puts l hl D dA h0 ob39 v38 (.inr v41) h40 e43) q615 q616 q617 q93 q618 okn_X2_puts ⟨by rw [hRf]; exact Nat.le_of_ble_eq_true rfl, by rw [hRl]; exact Nat.le_of_ble_eq_true rfl⟩ (As := [.int v38]) (rest := []) rfl (by first | exact Nat.le_of_ble_eq_true rfl | simp [cat_rf, cat_i, cat_j, cat_f, cat_d]) dX1_doneBeside_84 (ac_v ?_)
              cases hF
              exact g_iret X hr dX1_doneBeside_87
          · have hF := (if_neg sc1_80).symm.trans hF
            by_cases sc1_87 : a2 = (87 : Int32)
            · have hF := (if_pos sc1_87).symm.trans hF
              refine g_tableIn X 96 dX1_doneBeside_1 (by rw [sc1_87]; decide) (by rw [sc1_87]; decide) (off := 95) (by rw [sc1_87]; rfl) (by decide) ?_
              refine g_aload_n X dX1_doneBeside_96 rfl rfl ?_
              refine g_aload_n X dX1_doneBeside_97 rfl rfl ?_
              refine g_iconst (v := (0 : Int32)) X dX1_doneBeside_98 (by decide) ?_
              obtain ⟨v44, ev44, hF⟩ := bnd hF
              refine g_iald X ev44 dX1_doneBeside_99 ?_
              obtain ⟨ob45, eob45, hF⟩ := bnd hF
              rcases thr_some hF with ⟨q48, h46, e49, hF⟩ | ⟨v47, h46, e49, hF⟩
              · refine g_callV X eob45 rfl rfl (w_X2_wraps l hl D dA h0 ob45 v44 (.inl q48) h46 e49) q631 q632 q633 q93 q634 okn_X2_wraps ⟨by rw [hRf]; exact Nat.le_of_ble_eq_true rfl, by rw [hRl]; exact Nat.le_of_ble_eq_true rfl⟩ (As := [.int v44]) (rest := []) rfl (by first | exact Nat.le_of_ble_eq_true rfl | simp [cat_rf, cat_i, cat_j, cat_f, cat_d]) dX1_doneBeside_100 (ac_x ?_)
                cases hF
                exact gx_out X (fun x hx => nomatch hx)
              · refine g_callV X eob45 rfl rfl (w_X2_wraps l hl D dA h0 ob45 v44 (.inr v47) h46 e49) q631 q632 q633 q93 q634 okn_X2_wraps ⟨by rw [hRf]; exact Nat.le_of_ble_eq_true rfl, by rw [hRl]; exact Nat.le_of_ble_eq_true rfl⟩ (As := [.int v44]) (rest := []) rfl (by first | exact Nat.le_of_ble_eq_true rfl | simp [cat_rf, cat_i, cat_j, cat_f, cat_d]) dX1_doneBeside_100 (ac_v ?_)
                cases hF
                exact g_iret X hr dX1_doneBeside_103
            · have hF := (if_neg sc1_87).symm.trans hF
              have t_sc1_72 := sw_ne (k := 72) sc1_72 (by decide)
              have t_sc1_76 := sw_ne (k := 76) sc1_76 (by decide)
              have t_sc1_77 := sw_ne (k := 77) sc1_77 (by decide)
              have t_sc1_78 := sw_ne (k := 78) sc1_78 (by decide)
              have t_sc1_80 := sw_ne (k := 80) sc1_80 (by decide)
              have t_sc1_87 := sw_ne (k := 87) sc1_87 (by decide)
              rcases sw_range a2 72 87 with hx | hx
              · refine g_tableOut X 146 dX1_doneBeside_1 hx (by decide) ?_
                refine G.drop [true, false, true] rfl ?_
                exact T146 _ hF
              · obtain ⟨hx1, hx2⟩ := hx
                obtain ⟨j, hj, hxj⟩ : ∃ j : Nat, j ≤ 15 ∧ a2.toInt = 72 + (j : Int) := ⟨(a2.toInt - 72).toNat, by omega, by omega⟩
                refine g_tableIn X 146 dX1_doneBeside_1 (by omega) (by omega) (off := 145) ?_ (by decide) ?_
                · rw [hxj, show ((72 : Int) + (j : Int) - 72).toNat = j by omega]
                  have hd : j ∈ [1, 2, 3, 7, 9, 10, 11, 12, 13, 14] := by
                    simp only [List.mem_cons, List.not_mem_nil, or_false]; omega
                  revert hd; generalize j = jj; simp only [List.mem_cons, List.not_mem_nil, or_false]; rintro (rfl | rfl | rfl | rfl | rfl | rfl | rfl | rfl | rfl | rfl) <;> rfl
                · skip
                  refine G.drop [true, false, true] rfl ?_
                  exact T146 _ hF
def F_X1_done (a1 : Option Nat) (a2 : Int32) (a3 : Option Nat) (h0 : HH) : Option (((Nat × String) ⊕ Int32) × HH) :=
  if a2 = (98 : Int32) then (
    Option.bind (isO h0 2 a1) fun ob1 =>
    thr (F_X2_goesBack ob1 h0) (fun q4 h2 =>
      some (.inl q4, h2)
    ) (fun v3 h2 =>
      some (.inr v3, h2)
    )
  ) else (
    if a2 = (99 : Int32) then (
      Option.bind (aldI h0 0 a3 (0 : Int32)) fun v6 =>
      Option.bind (aldI h0 0 a3 (1 : Int32)) fun v7 =>
      Option.bind (isO h0 2 a1) fun ob8 =>
      thr (F_X2_copies ob8 v6 v7 h0) (fun q11 h9 =>
        some (.inl q11, h9)
      ) (fun v10 h9 =>
        some (.inr v10, h9)
      )
    ) else (
      if a2 = (100 : Int32) then (
        Option.bind (aldI h0 0 a3 (0 : Int32)) fun v13 =>
        Option.bind (aldI h0 0 a3 (1 : Int32)) fun v14 =>
        Option.bind (aldI h0 0 a3 (2 : Int32)) fun v15 =>
        Option.bind (isO h0 2 a1) fun ob16 =>
        thr (F_X2_tells ob16 v13 v14 v15 h0) (fun q19 h17 =>
          some (.inl q19, h17)
        ) (fun v18 h17 =>
          some (.inr v18, h17)
        )
      ) else (
        if a2 = (102 : Int32) then (
          Option.bind (aldI h0 0 a3 (0 : Int32)) fun v21 =>
          Option.bind (isO h0 2 a1) fun ob22 =>
          thr (F_X2_frees ob22 v21 h0) (fun q25 h23 =>
            some (.inl q25, h23)
          ) (fun v24 h23 =>
            some (.inr v24, h23)
          )
        ) else (
          if a2 = (108 : Int32) then (
            Option.bind (aldI h0 0 a3 (0 : Int32)) fun v27 =>
            Option.bind (aldI h0 0 a3 (1 : Int32)) fun v28 =>
            Option.bind (isO h0 2 a1) fun ob29 =>
            thr (F_X2_tells ob29 (3 : Int32) v27 (-v28) h0) (fun q32 h30 =>
              some (.inl q32, h30)
            ) (fun v31 h30 =>
              some (.inr v31, h30)
            )
          ) else (
            if a2 = (109 : Int32) then (
              Option.bind (aldI h0 0 a3 (0 : Int32)) fun v34 =>
              Option.bind (aldI h0 0 a3 (1 : Int32)) fun v35 =>
              Option.bind (isO h0 2 a1) fun ob36 =>
              thr (F_X2_tells ob36 v34 (3 : Int32) v35 h0) (fun q39 h37 =>
                some (.inl q39, h37)
              ) (fun v38 h37 =>
                some (.inr v38, h37)
              )
            ) else (
              if a2 = (114 : Int32) then (
                Option.bind (aldI h0 0 a3 (0 : Int32)) fun v41 =>
                Option.bind (aldI h0 0 a3 (1 : Int32)) fun v42 =>
                Option.bind (isO h0 2 a1) fun ob43 =>
                thr (F_X2_resets ob43 v41 v42 h0) (fun q46 h44 =>
                  some (.inl q46, h44)
                ) (fun v45 h44 =>
                  some (.inr v45, h44)
                )
              ) else (
                if a2 = (115 : Int32) then (
                  Option.bind (aldI h0 0 a3 (0 : Int32)) fun v48 =>
                  Option.bind (aldI h0 0 a3 (1 : Int32)) fun v49 =>
                  Option.bind (isO h0 2 a1) fun ob50 =>
                  thr (F_X2_shifts ob50 v48 v49 h0) (fun q53 h51 =>
                    some (.inl q53, h51)
                  ) (fun v52 h51 =>
                    some (.inr v52, h51)
                  )
                ) else (
                  if a2 = (116 : Int32) then (
                    Option.bind (isO h0 2 a1) fun ob55 =>
                    thr (F_X2_tightens ob55 h0) (fun q58 h56 =>
                      some (.inl q58, h56)
                    ) (fun v57 h56 =>
                      some (.inr v57, h56)
                    )
                  ) else (
                    if a2 = (119 : Int32) then (
                      Option.bind (isO h0 2 a1) fun ob60 =>
                      thr (F_X2_delays ob60 h0) (fun q63 h61 =>
                        some (.inl q63, h61)
                      ) (fun v62 h61 =>
                        some (.inr v62, h61)
                      )
                    ) else (
                      if a2 = (120 : Int32) then (
                        Option.bind (aldI h0 0 a3 (0 : Int32)) fun v65 =>
                        Option.bind (aldI h0 0 a3 (1 : Int32)) fun v66 =>
                        Option.bind (isO h0 2 a1) fun ob67 =>
                        thr (F_X2_forgets ob67 v65 v66 h0) (fun q70 h68 =>
                          some (.inl q70, h68)
                        ) (fun v69 h68 =>
                          some (.inr v69, h68)
                        )
                      ) else (
                        if a2 = (121 : Int32) then (
                          Option.bind (isO h0 2 a1) fun ob72 =>
                          thr (F_X2_forgetsAll ob72 h0) (fun q75 h73 =>
                            some (.inl q75, h73)
                          ) (fun v74 h73 =>
                            some (.inr v74, h73)
                          )
                        ) else (
                          thr (F_X1_doneBeside a1 a2 a3 h0) (fun q79 h77 =>
                            some (.inl q79, h77)
                          ) (fun v78 h77 =>
                            some (.inr v78, h77)
                          )
                        )
                      )
                    )
                  )
                )
              )
            )
          )
        )
      )
    )
  )
set_option maxHeartbeats 4000000 in
theorem w_X1_done (l : Launch) (hl : l.stackTraces = false) (D : va_G) (dA : Nat → ClassId) (h0 : HH) (a1 : Option Nat) (a2 : Int32) (a3 : Option Nat) (oE : (Nat × String) ⊕ Int32) (hE : HH) (hF : F_X1_done a1 a2 a3 h0 = some (oE, hE)) : MC D dA l yX1_done cX1_done 3 (Option.some Jvm.ClassFile.FieldType.int) [] 14 390 [va_rf a1, .int a2, va_rf a3] h0 (rsI oE, hE) := by
  refine mc_of hl (plainFor_of_name pn_X1) (by simp [lg_sl, cat_rf, cat_i, cat_j, cat_f, cat_d]) ?_
  intro p e s m args below meth c R hRf hRl X hr hnm
  unfold F_X1_done at hF
  rw [show argL [va_rf a1, .int a2, va_rf a3] = [some (va_rf a1), some (.int a2), some (va_rf a3)] from by simp [argL, cat_rf, cat_i, cat_j, cat_f, cat_d]]
  refine g_iload_n X dX1_done_0 rfl rfl ?_
  by_cases sc1_98 : a2 = (98 : Int32)
  · have hF := (if_pos sc1_98).symm.trans hF
    refine g_tableIn X 188 dX1_done_1 (by rw [sc1_98]; decide) (by rw [sc1_98]; decide) (off := 187) (by rw [sc1_98]; rfl) (by decide) ?_
    refine g_aload_n X dX1_done_188 rfl rfl ?_
    obtain ⟨ob1, eob1, hF⟩ := bnd hF
    rcases thr_some hF with ⟨q4, h2, e5, hF⟩ | ⟨v3, h2, e5, hF⟩
    · refine g_callV X eob1 rfl rfl (w_X2_goesBack l hl D dA h0 ob1  (.inl q4) h2 e5) q580 q581 q582 q93 q583 okn_X2_goesBack ⟨by rw [hRf]; exact Nat.le_of_ble_eq_true rfl, by rw [hRl]; exact Nat.le_of_ble_eq_true rfl⟩ (As := []) (rest := []) rfl (by first | exact Nat.le_of_ble_eq_true rfl | simp [cat_rf, cat_i, cat_j, cat_f, cat_d]) dX1_done_189 (ac_x ?_)
      cases hF
      exact gx_out X (fun x hx => nomatch hx)
    · refine g_callV X eob1 rfl rfl (w_X2_goesBack l hl D dA h0 ob1  (.inr v3) h2 e5) q580 q581 q582 q93 q583 okn_X2_goesBack ⟨by rw [hRf]; exact Nat.le_of_ble_eq_true rfl, by rw [hRl]; exact Nat.le_of_ble_eq_true rfl⟩ (As := []) (rest := []) rfl (by first | exact Nat.le_of_ble_eq_true rfl | simp [cat_rf, cat_i, cat_j, cat_f, cat_d]) dX1_done_189 (ac_v ?_)
      cases hF
      exact g_iret X hr dX1_done_192
  · have hF := (if_neg sc1_98).symm.trans hF
    by_cases sc1_99 : a2 = (99 : Int32)
    · have hF := (if_pos sc1_99).symm.trans hF
      refine g_tableIn X 201 dX1_done_1 (by rw [sc1_99]; decide) (by rw [sc1_99]; decide) (off := 200) (by rw [sc1_99]; rfl) (by decide) ?_
      refine g_aload_n X dX1_done_201 rfl rfl ?_
      refine g_aload_n X dX1_done_202 rfl rfl ?_
      refine g_iconst (v := (0 : Int32)) X dX1_done_203 (by decide) ?_
      obtain ⟨v6, ev6, hF⟩ := bnd hF
      refine g_iald X ev6 dX1_done_204 ?_
      refine g_aload_n X dX1_done_205 rfl rfl ?_
      refine g_iconst (v := (1 : Int32)) X dX1_done_206 (by decide) ?_
      obtain ⟨v7, ev7, hF⟩ := bnd hF
      refine g_iald X ev7 dX1_done_207 ?_
      obtain ⟨ob8, eob8, hF⟩ := bnd hF
      rcases thr_some hF with ⟨q11, h9, e12, hF⟩ | ⟨v10, h9, e12, hF⟩
      · refine g_callV X eob8 rfl rfl (w_X2_copies l hl D dA h0 ob8 v6 v7 (.inl q11) h9 e12) q596 q597 q598 q93 q599 okn_X2_copies ⟨by rw [hRf]; exact Nat.le_of_ble_eq_true rfl, by rw [hRl]; exact Nat.le_of_ble_eq_true rfl⟩ (As := [.int v6, .int v7]) (rest := []) rfl (by first | exact Nat.le_of_ble_eq_true rfl | simp [cat_rf, cat_i, cat_j, cat_f, cat_d]) dX1_done_208 (ac_x ?_)
        cases hF
        exact gx_out X (fun x hx => nomatch hx)
      · refine g_callV X eob8 rfl rfl (w_X2_copies l hl D dA h0 ob8 v6 v7 (.inr v10) h9 e12) q596 q597 q598 q93 q599 okn_X2_copies ⟨by rw [hRf]; exact Nat.le_of_ble_eq_true rfl, by rw [hRl]; exact Nat.le_of_ble_eq_true rfl⟩ (As := [.int v6, .int v7]) (rest := []) rfl (by first | exact Nat.le_of_ble_eq_true rfl | simp [cat_rf, cat_i, cat_j, cat_f, cat_d]) dX1_done_208 (ac_v ?_)
        cases hF
        exact g_iret X hr dX1_done_211
    · have hF := (if_neg sc1_99).symm.trans hF
      by_cases sc1_100 : a2 = (100 : Int32)
      · have hF := (if_pos sc1_100).symm.trans hF
        refine g_tableIn X 137 dX1_done_1 (by rw [sc1_100]; decide) (by rw [sc1_100]; decide) (off := 136) (by rw [sc1_100]; rfl) (by decide) ?_
        refine g_aload_n X dX1_done_137 rfl rfl ?_
        refine g_aload_n X dX1_done_138 rfl rfl ?_
        refine g_iconst (v := (0 : Int32)) X dX1_done_139 (by decide) ?_
        obtain ⟨v13, ev13, hF⟩ := bnd hF
        refine g_iald X ev13 dX1_done_140 ?_
        refine g_aload_n X dX1_done_141 rfl rfl ?_
        refine g_iconst (v := (1 : Int32)) X dX1_done_142 (by decide) ?_
        obtain ⟨v14, ev14, hF⟩ := bnd hF
        refine g_iald X ev14 dX1_done_143 ?_
        refine g_aload_n X dX1_done_144 rfl rfl ?_
        refine g_iconst (v := (2 : Int32)) X dX1_done_145 (by decide) ?_
        obtain ⟨v15, ev15, hF⟩ := bnd hF
        refine g_iald X ev15 dX1_done_146 ?_
        obtain ⟨ob16, eob16, hF⟩ := bnd hF
        rcases thr_some hF with ⟨q19, h17, e20, hF⟩ | ⟨v18, h17, e20, hF⟩
        · refine g_callV X eob16 rfl rfl (w_X2_tells l hl D dA h0 ob16 v13 v14 v15 (.inl q19) h17 e20) q406 q407 q408 q93 q409 okn_X2_tells ⟨by rw [hRf]; exact Nat.le_of_ble_eq_true rfl, by rw [hRl]; exact Nat.le_of_ble_eq_true rfl⟩ (As := [.int v13, .int v14, .int v15]) (rest := []) rfl (by first | exact Nat.le_of_ble_eq_true rfl | simp [cat_rf, cat_i, cat_j, cat_f, cat_d]) dX1_done_147 (ac_x ?_)
          cases hF
          exact gx_out X (fun x hx => nomatch hx)
        · refine g_callV X eob16 rfl rfl (w_X2_tells l hl D dA h0 ob16 v13 v14 v15 (.inr v18) h17 e20) q406 q407 q408 q93 q409 okn_X2_tells ⟨by rw [hRf]; exact Nat.le_of_ble_eq_true rfl, by rw [hRl]; exact Nat.le_of_ble_eq_true rfl⟩ (As := [.int v13, .int v14, .int v15]) (rest := []) rfl (by first | exact Nat.le_of_ble_eq_true rfl | simp [cat_rf, cat_i, cat_j, cat_f, cat_d]) dX1_done_147 (ac_v ?_)
          cases hF
          exact g_iret X hr dX1_done_150
      · have hF := (if_neg sc1_100).symm.trans hF
        by_cases sc1_102 : a2 = (102 : Int32)
        · have hF := (if_pos sc1_102).symm.trans hF
          refine g_tableIn X 193 dX1_done_1 (by rw [sc1_102]; decide) (by rw [sc1_102]; decide) (off := 192) (by rw [sc1_102]; rfl) (by decide) ?_
          refine g_aload_n X dX1_done_193 rfl rfl ?_
          refine g_aload_n X dX1_done_194 rfl rfl ?_
          refine g_iconst (v := (0 : Int32)) X dX1_done_195 (by decide) ?_
          obtain ⟨v21, ev21, hF⟩ := bnd hF
          refine g_iald X ev21 dX1_done_196 ?_
          obtain ⟨ob22, eob22, hF⟩ := bnd hF
          rcases thr_some hF with ⟨q25, h23, e26, hF⟩ | ⟨v24, h23, e26, hF⟩
          · refine g_callV X eob22 rfl rfl (w_X2_frees l hl D dA h0 ob22 v21 (.inl q25) h23 e26) q588 q589 q590 q93 q591 okn_X2_frees ⟨by rw [hRf]; exact Nat.le_of_ble_eq_true rfl, by rw [hRl]; exact Nat.le_of_ble_eq_true rfl⟩ (As := [.int v21]) (rest := []) rfl (by first | exact Nat.le_of_ble_eq_true rfl | simp [cat_rf, cat_i, cat_j, cat_f, cat_d]) dX1_done_197 (ac_x ?_)
            cases hF
            exact gx_out X (fun x hx => nomatch hx)
          · refine g_callV X eob22 rfl rfl (w_X2_frees l hl D dA h0 ob22 v21 (.inr v24) h23 e26) q588 q589 q590 q93 q591 okn_X2_frees ⟨by rw [hRf]; exact Nat.le_of_ble_eq_true rfl, by rw [hRl]; exact Nat.le_of_ble_eq_true rfl⟩ (As := [.int v21]) (rest := []) rfl (by first | exact Nat.le_of_ble_eq_true rfl | simp [cat_rf, cat_i, cat_j, cat_f, cat_d]) dX1_done_197 (ac_v ?_)
            cases hF
            exact g_iret X hr dX1_done_200
        · have hF := (if_neg sc1_102).symm.trans hF
          by_cases sc1_108 : a2 = (108 : Int32)
          · have hF := (if_pos sc1_108).symm.trans hF
            refine g_tableIn X 124 dX1_done_1 (by rw [sc1_108]; decide) (by rw [sc1_108]; decide) (off := 123) (by rw [sc1_108]; rfl) (by decide) ?_
            refine g_aload_n X dX1_done_124 rfl rfl ?_
            refine g_iconst (v := (3 : Int32)) X dX1_done_125 (by decide) ?_
            refine g_aload_n X dX1_done_126 rfl rfl ?_
            refine g_iconst (v := (0 : Int32)) X dX1_done_127 (by decide) ?_
            obtain ⟨v27, ev27, hF⟩ := bnd hF
            refine g_iald X ev27 dX1_done_128 ?_
            refine g_aload_n X dX1_done_129 rfl rfl ?_
            refine g_iconst (v := (1 : Int32)) X dX1_done_130 (by decide) ?_
            obtain ⟨v28, ev28, hF⟩ := bnd hF
            refine g_iald X ev28 dX1_done_131 ?_
            refine g_ineg X dX1_done_132 ?_
            obtain ⟨ob29, eob29, hF⟩ := bnd hF
            rcases thr_some hF with ⟨q32, h30, e33, hF⟩ | ⟨v31, h30, e33, hF⟩
            · refine g_callV X eob29 rfl rfl (w_X2_tells l hl D dA h0 ob29 (3 : Int32) v27 (-v28) (.inl q32) h30 e33) q406 q407 q408 q93 q409 okn_X2_tells ⟨by rw [hRf]; exact Nat.le_of_ble_eq_true rfl, by rw [hRl]; exact Nat.le_of_ble_eq_true rfl⟩ (As := [.int (3 : Int32), .int v27, .int (-v28)]) (rest := []) rfl (by first | exact Nat.le_of_ble_eq_true rfl | simp [cat_rf, cat_i, cat_j, cat_f, cat_d]) dX1_done_133 (ac_x ?_)
              cases hF
              exact gx_out X (fun x hx => nomatch hx)
            · refine g_callV X eob29 rfl rfl (w_X2_tells l hl D dA h0 ob29 (3 : Int32) v27 (-v28) (.inr v31) h30 e33) q406 q407 q408 q93 q409 okn_X2_tells ⟨by rw [hRf]; exact Nat.le_of_ble_eq_true rfl, by rw [hRl]; exact Nat.le_of_ble_eq_true rfl⟩ (As := [.int (3 : Int32), .int v27, .int (-v28)]) (rest := []) rfl (by first | exact Nat.le_of_ble_eq_true rfl | simp [cat_rf, cat_i, cat_j, cat_f, cat_d]) dX1_done_133 (ac_v ?_)
              cases hF
              exact g_iret X hr dX1_done_136
          · have hF := (if_neg sc1_108).symm.trans hF
            by_cases sc1_109 : a2 = (109 : Int32)
            · have hF := (if_pos sc1_109).symm.trans hF
              refine g_tableIn X 112 dX1_done_1 (by rw [sc1_109]; decide) (by rw [sc1_109]; decide) (off := 111) (by rw [sc1_109]; rfl) (by decide) ?_
              refine g_aload_n X dX1_done_112 rfl rfl ?_
              refine g_aload_n X dX1_done_113 rfl rfl ?_
              refine g_iconst (v := (0 : Int32)) X dX1_done_114 (by decide) ?_
              obtain ⟨v34, ev34, hF⟩ := bnd hF
              refine g_iald X ev34 dX1_done_115 ?_
              refine g_iconst (v := (3 : Int32)) X dX1_done_116 (by decide) ?_
              refine g_aload_n X dX1_done_117 rfl rfl ?_
              refine g_iconst (v := (1 : Int32)) X dX1_done_118 (by decide) ?_
              obtain ⟨v35, ev35, hF⟩ := bnd hF
              refine g_iald X ev35 dX1_done_119 ?_
              obtain ⟨ob36, eob36, hF⟩ := bnd hF
              rcases thr_some hF with ⟨q39, h37, e40, hF⟩ | ⟨v38, h37, e40, hF⟩
              · refine g_callV X eob36 rfl rfl (w_X2_tells l hl D dA h0 ob36 v34 (3 : Int32) v35 (.inl q39) h37 e40) q406 q407 q408 q93 q409 okn_X2_tells ⟨by rw [hRf]; exact Nat.le_of_ble_eq_true rfl, by rw [hRl]; exact Nat.le_of_ble_eq_true rfl⟩ (As := [.int v34, .int (3 : Int32), .int v35]) (rest := []) rfl (by first | exact Nat.le_of_ble_eq_true rfl | simp [cat_rf, cat_i, cat_j, cat_f, cat_d]) dX1_done_120 (ac_x ?_)
                cases hF
                exact gx_out X (fun x hx => nomatch hx)
              · refine g_callV X eob36 rfl rfl (w_X2_tells l hl D dA h0 ob36 v34 (3 : Int32) v35 (.inr v38) h37 e40) q406 q407 q408 q93 q409 okn_X2_tells ⟨by rw [hRf]; exact Nat.le_of_ble_eq_true rfl, by rw [hRl]; exact Nat.le_of_ble_eq_true rfl⟩ (As := [.int v34, .int (3 : Int32), .int v35]) (rest := []) rfl (by first | exact Nat.le_of_ble_eq_true rfl | simp [cat_rf, cat_i, cat_j, cat_f, cat_d]) dX1_done_120 (ac_v ?_)
                cases hF
                exact g_iret X hr dX1_done_123
            · have hF := (if_neg sc1_109).symm.trans hF
              by_cases sc1_114 : a2 = (114 : Int32)
              · have hF := (if_pos sc1_114).symm.trans hF
                refine g_tableIn X 172 dX1_done_1 (by rw [sc1_114]; decide) (by rw [sc1_114]; decide) (off := 171) (by rw [sc1_114]; rfl) (by decide) ?_
                refine g_aload_n X dX1_done_172 rfl rfl ?_
                refine g_aload_n X dX1_done_173 rfl rfl ?_
                refine g_iconst (v := (0 : Int32)) X dX1_done_174 (by decide) ?_
                obtain ⟨v41, ev41, hF⟩ := bnd hF
                refine g_iald X ev41 dX1_done_175 ?_
                refine g_aload_n X dX1_done_176 rfl rfl ?_
                refine g_iconst (v := (1 : Int32)) X dX1_done_177 (by decide) ?_
                obtain ⟨v42, ev42, hF⟩ := bnd hF
                refine g_iald X ev42 dX1_done_178 ?_
                obtain ⟨ob43, eob43, hF⟩ := bnd hF
                rcases thr_some hF with ⟨q46, h44, e47, hF⟩ | ⟨v45, h44, e47, hF⟩
                · refine g_callV X eob43 rfl rfl (w_X2_resets l hl D dA h0 ob43 v41 v42 (.inl q46) h44 e47) q555 q556 q557 q93 q558 okn_X2_resets ⟨by rw [hRf]; exact Nat.le_of_ble_eq_true rfl, by rw [hRl]; exact Nat.le_of_ble_eq_true rfl⟩ (As := [.int v41, .int v42]) (rest := []) rfl (by first | exact Nat.le_of_ble_eq_true rfl | simp [cat_rf, cat_i, cat_j, cat_f, cat_d]) dX1_done_179 (ac_x ?_)
                  cases hF
                  exact gx_out X (fun x hx => nomatch hx)
                · refine g_callV X eob43 rfl rfl (w_X2_resets l hl D dA h0 ob43 v41 v42 (.inr v45) h44 e47) q555 q556 q557 q93 q558 okn_X2_resets ⟨by rw [hRf]; exact Nat.le_of_ble_eq_true rfl, by rw [hRl]; exact Nat.le_of_ble_eq_true rfl⟩ (As := [.int v41, .int v42]) (rest := []) rfl (by first | exact Nat.le_of_ble_eq_true rfl | simp [cat_rf, cat_i, cat_j, cat_f, cat_d]) dX1_done_179 (ac_v ?_)
                  cases hF
                  exact g_iret X hr dX1_done_182
              · have hF := (if_neg sc1_114).symm.trans hF
                by_cases sc1_115 : a2 = (115 : Int32)
                · have hF := (if_pos sc1_115).symm.trans hF
                  refine g_tableIn X 212 dX1_done_1 (by rw [sc1_115]; decide) (by rw [sc1_115]; decide) (off := 211) (by rw [sc1_115]; rfl) (by decide) ?_
                  refine g_aload_n X dX1_done_212 rfl rfl ?_
                  refine g_aload_n X dX1_done_213 rfl rfl ?_
                  refine g_iconst (v := (0 : Int32)) X dX1_done_214 (by decide) ?_
                  obtain ⟨v48, ev48, hF⟩ := bnd hF
                  refine g_iald X ev48 dX1_done_215 ?_
                  refine g_aload_n X dX1_done_216 rfl rfl ?_
                  refine g_iconst (v := (1 : Int32)) X dX1_done_217 (by decide) ?_
                  obtain ⟨v49, ev49, hF⟩ := bnd hF
                  refine g_iald X ev49 dX1_done_218 ?_
                  obtain ⟨ob50, eob50, hF⟩ := bnd hF
                  rcases thr_some hF with ⟨q53, h51, e54, hF⟩ | ⟨v52, h51, e54, hF⟩
                  · refine g_callV X eob50 rfl rfl (w_X2_shifts l hl D dA h0 ob50 v48 v49 (.inl q53) h51 e54) q604 q605 q606 q93 q607 okn_X2_shifts ⟨by rw [hRf]; exact Nat.le_of_ble_eq_true rfl, by rw [hRl]; exact Nat.le_of_ble_eq_true rfl⟩ (As := [.int v48, .int v49]) (rest := []) rfl (by first | exact Nat.le_of_ble_eq_true rfl | simp [cat_rf, cat_i, cat_j, cat_f, cat_d]) dX1_done_219 (ac_x ?_)
                    cases hF
                    exact gx_out X (fun x hx => nomatch hx)
                  · refine g_callV X eob50 rfl rfl (w_X2_shifts l hl D dA h0 ob50 v48 v49 (.inr v52) h51 e54) q604 q605 q606 q93 q607 okn_X2_shifts ⟨by rw [hRf]; exact Nat.le_of_ble_eq_true rfl, by rw [hRl]; exact Nat.le_of_ble_eq_true rfl⟩ (As := [.int v48, .int v49]) (rest := []) rfl (by first | exact Nat.le_of_ble_eq_true rfl | simp [cat_rf, cat_i, cat_j, cat_f, cat_d]) dX1_done_219 (ac_v ?_)
                    cases hF
                    exact g_iret X hr dX1_done_222
                · have hF := (if_neg sc1_115).symm.trans hF
                  by_cases sc1_116 : a2 = (116 : Int32)
                  · have hF := (if_pos sc1_116).symm.trans hF
                    refine g_tableIn X 167 dX1_done_1 (by rw [sc1_116]; decide) (by rw [sc1_116]; decide) (off := 166) (by rw [sc1_116]; rfl) (by decide) ?_
                    refine g_aload_n X dX1_done_167 rfl rfl ?_
                    obtain ⟨ob55, eob55, hF⟩ := bnd hF
                    rcases thr_some hF with ⟨q58, h56, e59, hF⟩ | ⟨v57, h56, e59, hF⟩
                    · refine g_callV X eob55 rfl rfl (w_X2_tightens l hl D dA h0 ob55  (.inl q58) h56 e59) q547 q548 q549 q93 q550 okn_X2_tightens ⟨by rw [hRf]; exact Nat.le_of_ble_eq_true rfl, by rw [hRl]; exact Nat.le_of_ble_eq_true rfl⟩ (As := []) (rest := []) rfl (by first | exact Nat.le_of_ble_eq_true rfl | simp [cat_rf, cat_i, cat_j, cat_f, cat_d]) dX1_done_168 (ac_x ?_)
                      cases hF
                      exact gx_out X (fun x hx => nomatch hx)
                    · refine g_callV X eob55 rfl rfl (w_X2_tightens l hl D dA h0 ob55  (.inr v57) h56 e59) q547 q548 q549 q93 q550 okn_X2_tightens ⟨by rw [hRf]; exact Nat.le_of_ble_eq_true rfl, by rw [hRl]; exact Nat.le_of_ble_eq_true rfl⟩ (As := []) (rest := []) rfl (by first | exact Nat.le_of_ble_eq_true rfl | simp [cat_rf, cat_i, cat_j, cat_f, cat_d]) dX1_done_168 (ac_v ?_)
                      cases hF
                      exact g_iret X hr dX1_done_171
                  · have hF := (if_neg sc1_116).symm.trans hF
                    by_cases sc1_119 : a2 = (119 : Int32)
                    · have hF := (if_pos sc1_119).symm.trans hF
                      refine g_tableIn X 183 dX1_done_1 (by rw [sc1_119]; decide) (by rw [sc1_119]; decide) (off := 182) (by rw [sc1_119]; rfl) (by decide) ?_
                      refine g_aload_n X dX1_done_183 rfl rfl ?_
                      obtain ⟨ob60, eob60, hF⟩ := bnd hF
                      rcases thr_some hF with ⟨q63, h61, e64, hF⟩ | ⟨v62, h61, e64, hF⟩
                      · refine g_callV X eob60 rfl rfl (w_X2_delays l hl D dA h0 ob60  (.inl q63) h61 e64) q572 q573 q574 q93 q575 okn_X2_delays ⟨by rw [hRf]; exact Nat.le_of_ble_eq_true rfl, by rw [hRl]; exact Nat.le_of_ble_eq_true rfl⟩ (As := []) (rest := []) rfl (by first | exact Nat.le_of_ble_eq_true rfl | simp [cat_rf, cat_i, cat_j, cat_f, cat_d]) dX1_done_184 (ac_x ?_)
                        cases hF
                        exact gx_out X (fun x hx => nomatch hx)
                      · refine g_callV X eob60 rfl rfl (w_X2_delays l hl D dA h0 ob60  (.inr v62) h61 e64) q572 q573 q574 q93 q575 okn_X2_delays ⟨by rw [hRf]; exact Nat.le_of_ble_eq_true rfl, by rw [hRl]; exact Nat.le_of_ble_eq_true rfl⟩ (As := []) (rest := []) rfl (by first | exact Nat.le_of_ble_eq_true rfl | simp [cat_rf, cat_i, cat_j, cat_f, cat_d]) dX1_done_184 (ac_v ?_)
                        cases hF
                        exact g_iret X hr dX1_done_187
                    · have hF := (if_neg sc1_119).symm.trans hF
                      by_cases sc1_120 : a2 = (120 : Int32)
                      · have hF := (if_pos sc1_120).symm.trans hF
                        refine g_tableIn X 151 dX1_done_1 (by rw [sc1_120]; decide) (by rw [sc1_120]; decide) (off := 150) (by rw [sc1_120]; rfl) (by decide) ?_
                        refine g_aload_n X dX1_done_151 rfl rfl ?_
                        refine g_aload_n X dX1_done_152 rfl rfl ?_
                        refine g_iconst (v := (0 : Int32)) X dX1_done_153 (by decide) ?_
                        obtain ⟨v65, ev65, hF⟩ := bnd hF
                        refine g_iald X ev65 dX1_done_154 ?_
                        refine g_aload_n X dX1_done_155 rfl rfl ?_
                        refine g_iconst (v := (1 : Int32)) X dX1_done_156 (by decide) ?_
                        obtain ⟨v66, ev66, hF⟩ := bnd hF
                        refine g_iald X ev66 dX1_done_157 ?_
                        obtain ⟨ob67, eob67, hF⟩ := bnd hF
                        rcases thr_some hF with ⟨q70, h68, e71, hF⟩ | ⟨v69, h68, e71, hF⟩
                        · refine g_callV X eob67 rfl rfl (w_X2_forgets l hl D dA h0 ob67 v65 v66 (.inl q70) h68 e71) q537 q538 q539 q93 q540 okn_X2_forgets ⟨by rw [hRf]; exact Nat.le_of_ble_eq_true rfl, by rw [hRl]; exact Nat.le_of_ble_eq_true rfl⟩ (As := [.int v65, .int v66]) (rest := []) rfl (by first | exact Nat.le_of_ble_eq_true rfl | simp [cat_rf, cat_i, cat_j, cat_f, cat_d]) dX1_done_158 (ac_x ?_)
                          cases hF
                          exact gx_out X (fun x hx => nomatch hx)
                        · refine g_callV X eob67 rfl rfl (w_X2_forgets l hl D dA h0 ob67 v65 v66 (.inr v69) h68 e71) q537 q538 q539 q93 q540 okn_X2_forgets ⟨by rw [hRf]; exact Nat.le_of_ble_eq_true rfl, by rw [hRl]; exact Nat.le_of_ble_eq_true rfl⟩ (As := [.int v65, .int v66]) (rest := []) rfl (by first | exact Nat.le_of_ble_eq_true rfl | simp [cat_rf, cat_i, cat_j, cat_f, cat_d]) dX1_done_158 (ac_v ?_)
                          cases hF
                          exact g_iret X hr dX1_done_161
                      · have hF := (if_neg sc1_120).symm.trans hF
                        by_cases sc1_121 : a2 = (121 : Int32)
                        · have hF := (if_pos sc1_121).symm.trans hF
                          refine g_tableIn X 162 dX1_done_1 (by rw [sc1_121]; decide) (by rw [sc1_121]; decide) (off := 161) (by rw [sc1_121]; rfl) (by decide) ?_
                          refine g_aload_n X dX1_done_162 rfl rfl ?_
                          obtain ⟨ob72, eob72, hF⟩ := bnd hF
                          rcases thr_some hF with ⟨q75, h73, e76, hF⟩ | ⟨v74, h73, e76, hF⟩
                          · refine g_callV X eob72 rfl rfl (w_X2_forgetsAll l hl D dA h0 ob72  (.inl q75) h73 e76) q543 q544 q545 q93 q546 okn_X2_forgetsAll ⟨by rw [hRf]; exact Nat.le_of_ble_eq_true rfl, by rw [hRl]; exact Nat.le_of_ble_eq_true rfl⟩ (As := []) (rest := []) rfl (by first | exact Nat.le_of_ble_eq_true rfl | simp [cat_rf, cat_i, cat_j, cat_f, cat_d]) dX1_done_163 (ac_x ?_)
                            cases hF
                            exact gx_out X (fun x hx => nomatch hx)
                          · refine g_callV X eob72 rfl rfl (w_X2_forgetsAll l hl D dA h0 ob72  (.inr v74) h73 e76) q543 q544 q545 q93 q546 okn_X2_forgetsAll ⟨by rw [hRf]; exact Nat.le_of_ble_eq_true rfl, by rw [hRl]; exact Nat.le_of_ble_eq_true rfl⟩ (As := []) (rest := []) rfl (by first | exact Nat.le_of_ble_eq_true rfl | simp [cat_rf, cat_i, cat_j, cat_f, cat_d]) dX1_done_163 (ac_v ?_)
                            cases hF
                            exact g_iret X hr dX1_done_166
                        · have hF := (if_neg sc1_121).symm.trans hF
                          have t_sc1_98 := sw_ne (k := 98) sc1_98 (by decide)
                          have t_sc1_99 := sw_ne (k := 99) sc1_99 (by decide)
                          have t_sc1_100 := sw_ne (k := 100) sc1_100 (by decide)
                          have t_sc1_102 := sw_ne (k := 102) sc1_102 (by decide)
                          have t_sc1_108 := sw_ne (k := 108) sc1_108 (by decide)
                          have t_sc1_109 := sw_ne (k := 109) sc1_109 (by decide)
                          have t_sc1_114 := sw_ne (k := 114) sc1_114 (by decide)
                          have t_sc1_115 := sw_ne (k := 115) sc1_115 (by decide)
                          have t_sc1_116 := sw_ne (k := 116) sc1_116 (by decide)
                          have t_sc1_119 := sw_ne (k := 119) sc1_119 (by decide)
                          have t_sc1_120 := sw_ne (k := 120) sc1_120 (by decide)
                          have t_sc1_121 := sw_ne (k := 121) sc1_121 (by decide)
                          rcases sw_range a2 98 121 with hx | hx
                          · refine g_tableOut X 223 dX1_done_1 hx (by decide) ?_
                            refine g_aload_n X dX1_done_223 rfl rfl ?_
                            refine g_iload_n X dX1_done_224 rfl rfl ?_
                            refine g_aload_n X dX1_done_225 rfl rfl ?_
                            rcases thr_some hF with ⟨q79, h77, e80, hF⟩ | ⟨v78, h77, e80, hF⟩
                            · refine g_callS X (w_X1_doneBeside l hl D dA h0 a1 a2 a3 (.inl q79) h77 e80) q612 q613 q92 q614 okn_X1_doneBeside ⟨by rw [hRf]; exact Nat.le_of_ble_eq_true rfl, by rw [hRl]; exact Nat.le_of_ble_eq_true rfl⟩ (As := [va_rf a1, .int a2, va_rf a3]) (rest := []) rfl (by first | exact Nat.le_of_ble_eq_true rfl | simp [cat_rf, cat_i, cat_j, cat_f, cat_d]) dX1_done_226 (ac_x ?_)
                              cases hF
                              exact gx_out X (fun x hx => nomatch hx)
                            · refine g_callS X (w_X1_doneBeside l hl D dA h0 a1 a2 a3 (.inr v78) h77 e80) q612 q613 q92 q614 okn_X1_doneBeside ⟨by rw [hRf]; exact Nat.le_of_ble_eq_true rfl, by rw [hRl]; exact Nat.le_of_ble_eq_true rfl⟩ (As := [va_rf a1, .int a2, va_rf a3]) (rest := []) rfl (by first | exact Nat.le_of_ble_eq_true rfl | simp [cat_rf, cat_i, cat_j, cat_f, cat_d]) dX1_done_226 (ac_v ?_)
                              cases hF
                              exact g_iret X hr dX1_done_229
                          · obtain ⟨hx1, hx2⟩ := hx
                            obtain ⟨j, hj, hxj⟩ : ∃ j : Nat, j ≤ 23 ∧ a2.toInt = 98 + (j : Int) := ⟨(a2.toInt - 98).toNat, by omega, by omega⟩
                            refine g_tableIn X 223 dX1_done_1 (by omega) (by omega) (off := 222) ?_ (by decide) ?_
                            · rw [hxj, show ((98 : Int) + (j : Int) - 98).toNat = j by omega]
                              have hd : j ∈ [3, 5, 6, 7, 8, 9, 12, 13, 14, 15, 19, 20] := by
                                simp only [List.mem_cons, List.not_mem_nil, or_false]; omega
                              revert hd; generalize j = jj; simp only [List.mem_cons, List.not_mem_nil, or_false]; rintro (rfl | rfl | rfl | rfl | rfl | rfl | rfl | rfl | rfl | rfl | rfl | rfl) <;> rfl
                            · skip
                              refine g_aload_n X dX1_done_223 rfl rfl ?_
                              refine g_iload_n X dX1_done_224 rfl rfl ?_
                              refine g_aload_n X dX1_done_225 rfl rfl ?_
                              rcases thr_some hF with ⟨q79, h77, e80, hF⟩ | ⟨v78, h77, e80, hF⟩
                              · refine g_callS X (w_X1_doneBeside l hl D dA h0 a1 a2 a3 (.inl q79) h77 e80) q612 q613 q92 q614 okn_X1_doneBeside ⟨by rw [hRf]; exact Nat.le_of_ble_eq_true rfl, by rw [hRl]; exact Nat.le_of_ble_eq_true rfl⟩ (As := [va_rf a1, .int a2, va_rf a3]) (rest := []) rfl (by first | exact Nat.le_of_ble_eq_true rfl | simp [cat_rf, cat_i, cat_j, cat_f, cat_d]) dX1_done_226 (ac_x ?_)
                                cases hF
                                exact gx_out X (fun x hx => nomatch hx)
                              · refine g_callS X (w_X1_doneBeside l hl D dA h0 a1 a2 a3 (.inr v78) h77 e80) q612 q613 q92 q614 okn_X1_doneBeside ⟨by rw [hRf]; exact Nat.le_of_ble_eq_true rfl, by rw [hRl]; exact Nat.le_of_ble_eq_true rfl⟩ (As := [va_rf a1, .int a2, va_rf a3]) (rest := []) rfl (by first | exact Nat.le_of_ble_eq_true rfl | simp [cat_rf, cat_i, cat_j, cat_f, cat_d]) dX1_done_226 (ac_v ?_)
                                cases hF
                                exact g_iret X hr dX1_done_229
def F_J6_checkIndex (a1 : Int32) (a2 : Int32) (h0 : HH) : Option Unit :=
  Option.bind (F_J9_checkIndex a1 a2 none h0) fun v1 =>
  some ()
set_option maxHeartbeats 4000000 in
theorem w_J6_checkIndex (l : Launch) (hl : l.stackTraces = false) (D : va_G) (dA : Nat → ClassId) (h0 : HH) (a1 : Int32) (a2 : Int32) (hF : F_J6_checkIndex a1 a2 h0 = some ()) : MC D dA l yJ6_checkIndex cJ6_checkIndex 2 (Option.none : Option Jvm.ClassFile.FieldType) [] 1 22 [.int a1, .int a2] h0 (.inr none, h0) := by
  refine mc_of hl (plainFor_of_name pn_J6) (by simp [lg_sl, cat_rf, cat_i, cat_j, cat_f, cat_d]) ?_
  intro p e s m args below meth c R hRf hRl X hr hnm
  unfold F_J6_checkIndex at hF
  rw [show argL [.int a1, .int a2] = [some (.int a1), some (.int a2)] from by simp [argL, cat_rf, cat_i, cat_j, cat_f, cat_d]]
  refine g_iload_n X dJ6_checkIndex_0 rfl rfl ?_
  refine g_iload_n X dJ6_checkIndex_1 rfl rfl ?_
  refine g_getsU X q988 dJ6_checkIndex_2 (fun uSIO => ?_)
  obtain ⟨v1, ev1, hF⟩ := bnd hF
  refine g_callS X (w_J9_checkIndex l hl D dA h0 a1 a2 uSIO v1 ev1) q1593 q302 q106 q303 okn_J9_checkIndex ⟨by rw [hRf]; exact Nat.le_of_ble_eq_true rfl, by rw [hRl]; exact Nat.le_of_ble_eq_true rfl⟩ (As := [.int a1, .int a2, va_rf uSIO]) (rest := []) rfl (by first | exact Nat.le_of_ble_eq_true rfl | simp [cat_rf, cat_i, cat_j, cat_f, cat_d]) dJ6_checkIndex_5 (ac_v ?_)
  refine g_pop X dJ6_checkIndex_8 rfl ?_
  cases hF
  exact g_vret X hr dJ6_checkIndex_9
def F_J4_charAt (this : Nat) (a1 : Int32) (h0 : HH) : Option Int32 :=
  Option.bind (getI h0 10 1 (some this)) fun v1 =>
  Option.bind (getR h0 10 0 (some this)) fun v2 =>
  Option.bind (getI h0 10 3 (some this)) fun v3 =>
  Option.bind (alen h0 v2) fun v4 =>
  Option.bind (F_J6_checkIndex a1 (F_J11_min v3 (v4 >>> (v1 &&& 31))) h0) fun v5 =>
  if v1 = 0 then (
    Option.bind (aldI h0 1 v2 a1) fun v7 =>
    Option.bind (okC (((v7 &&& (255 : Int32)).toUInt32 % 65536).toInt32)) fun _ =>
    some (((v7 &&& (255 : Int32)).toUInt32 % 65536).toInt32)
  ) else (
    none
  )
set_option maxHeartbeats 4000000 in
theorem w_J4_charAt (l : Launch) (hl : l.stackTraces = false) (D : va_G) (dA : Nat → ClassId) (h0 : HH) (this : Nat) (a1 : Int32) (rE : Int32) (hF : F_J4_charAt this a1 h0 = some rE) : MC D dA l yJ4_charAt cJ4_charAt 5 (Option.some Jvm.ClassFile.FieldType.char) [] 2 43 [va_rf (some this), .int a1] h0 (.inr (some (.int rE)), h0) := by
  refine mc_of hl (plainFor_of_name pn_J4) (by simp [lg_sl, cat_rf, cat_i, cat_j, cat_f, cat_d]) ?_
  intro p e s m args below meth c R hRf hRl X hr hnm
  unfold F_J4_charAt at hF
  rw [show argL [va_rf (some this), .int a1] = [some (va_rf (some this)), some (.int a1)] from by simp [argL, cat_rf, cat_i, cat_j, cat_f, cat_d]]
  refine G.pad 3 (L' := [some (va_rf (some this)), some (.int a1), none, none, none]) rfl ?_
  refine g_aload_n X dJ4_charAt_0 rfl rfl ?_
  obtain ⟨v1, ev1, hF⟩ := bnd hF
  refine g_get (k := 1) X in_J5 rfl (by decide) q240 (Or.inl rfl) (getI_V ev1) dJ4_charAt_1 ?_
  refine g_istore_n (L' := [some (va_rf (some this)), some (.int a1), some (.int v1), none, none]) X dJ4_charAt_4 rfl (Nat.le_of_ble_eq_true rfl) (by first | rfl | simp [stL, rm1, clr2, cat_rf, cat_i, cat_j, cat_f, cat_d]) ?_
  refine g_aload_n X dJ4_charAt_5 rfl rfl ?_
  obtain ⟨v2, ev2, hF⟩ := bnd hF
  refine g_get (k := 0) X in_J5 rfl (by decide) q239 (Or.inl rfl) (getR_V ev2) dJ4_charAt_6 ?_
  refine g_astore_n (L' := [some (va_rf (some this)), some (.int a1), some (.int v1), some (va_rf v2), none]) X dJ4_charAt_9 rfl (Nat.le_of_ble_eq_true rfl) (by first | rfl | simp [stL, rm1, clr2, cat_rf, cat_i, cat_j, cat_f, cat_d]) ?_
  refine g_aload_n X dJ4_charAt_10 rfl rfl ?_
  obtain ⟨v3, ev3, hF⟩ := bnd hF
  refine g_get (k := 3) X in_J5 rfl (by decide) q243 (Or.inl rfl) (getI_V ev3) dJ4_charAt_11 ?_
  refine g_aload_n X dJ4_charAt_14 rfl rfl ?_
  obtain ⟨v4, ev4, hF⟩ := bnd hF
  refine g_alen X ev4 dJ4_charAt_15 ?_
  refine g_iload_n X dJ4_charAt_16 rfl rfl ?_
  refine g_ishr X dJ4_charAt_17 ?_
  refine g_callS X (w_J11_min l hl D dA h0 v3 (v4 >>> (v1 &&& 31))) q1660 q391 q108 q392 okn_J11_min ⟨by rw [hRf]; exact Nat.le_of_ble_eq_true rfl, by rw [hRl]; exact Nat.le_of_ble_eq_true rfl⟩ (As := [.int v3, .int (v4 >>> (v1 &&& 31))]) (rest := []) rfl (by first | exact Nat.le_of_ble_eq_true rfl | simp [cat_rf, cat_i, cat_j, cat_f, cat_d]) dJ4_charAt_18 (ac_v ?_)
  refine g_istore (L' := [some (va_rf (some this)), some (.int a1), some (.int v1), some (va_rf v2), some (.int (F_J11_min v3 (v4 >>> (v1 &&& 31))))]) X dJ4_charAt_21 (Nat.le_of_ble_eq_true rfl) (by first | rfl | simp [stL, rm1, clr2, cat_rf, cat_i, cat_j, cat_f, cat_d]) ?_
  refine g_iload_n X dJ4_charAt_23 rfl rfl ?_
  refine g_iload X dJ4_charAt_24 rfl ?_
  obtain ⟨v5, ev5, hF⟩ := bnd hF
  refine g_callS X (w_J6_checkIndex l hl D dA h0 a1 (F_J11_min v3 (v4 >>> (v1 &&& 31))) ev5) q1661 q1591 q101 q1592 okn_J6_checkIndex ⟨by rw [hRf]; exact Nat.le_of_ble_eq_true rfl, by rw [hRl]; exact Nat.le_of_ble_eq_true rfl⟩ (As := [.int a1, .int (F_J11_min v3 (v4 >>> (v1 &&& 31)))]) (rest := []) rfl (by first | exact Nat.le_of_ble_eq_true rfl | simp [cat_rf, cat_i, cat_j, cat_f, cat_d]) dJ4_charAt_26 (ac_0 ?_)
  refine g_iload_n X dJ4_charAt_29 rfl rfl ?_
  refine g_if_ne X 42 dJ4_charAt_30 (by decide) (fun c6 => ?_) (fun c6 => ?_)
  · have hF := (if_neg c6).symm.trans hF
    cases hF
  · have hF := (if_pos c6).symm.trans hF
    refine g_aload_n X dJ4_charAt_33 rfl rfl ?_
    refine g_iload_n X dJ4_charAt_34 rfl rfl ?_
    obtain ⟨v7, ev7, hF⟩ := bnd hF
    refine g_bald X ev7 dJ4_charAt_35 ?_
    refine g_sipush (v := (255 : Int32)) X dJ4_charAt_36 (by decide) ?_
    refine g_iand X dJ4_charAt_39 ?_
    refine g_i2c X dJ4_charAt_40 ?_
    obtain ⟨_, z8, hF⟩ := bnd hF
    cases hF
    exact g_zret X hr (narC z8) dJ4_charAt_41
def F_J5_charAt (this : Nat) (a1 : Int32) (h0 : HH) : Option Int32 :=
  Option.bind (isO h0 10 (some this)) fun ob1 =>
  Option.bind (F_J4_charAt ob1 a1 h0) fun v2 =>
  Option.bind (okC v2) fun _ =>
  some v2
set_option maxHeartbeats 4000000 in
theorem w_J5_charAt (l : Launch) (hl : l.stackTraces = false) (D : va_G) (dA : Nat → ClassId) (h0 : HH) (this : Nat) (a1 : Int32) (rE : Int32) (hF : F_J5_charAt this a1 h0 = some rE) : MC D dA l yJ5_charAt cJ5_charAt 2 (Option.some Jvm.ClassFile.FieldType.char) [] 3 67 [va_rf (some this), .int a1] h0 (.inr (some (.int rE)), h0) := by
  refine mc_of hl (plainFor_of_name pn_J5) (by simp [lg_sl, cat_rf, cat_i, cat_j, cat_f, cat_d]) ?_
  intro p e s m args below meth c R hRf hRl X hr hnm
  unfold F_J5_charAt at hF
  rw [show argL [va_rf (some this), .int a1] = [some (va_rf (some this)), some (.int a1)] from by simp [argL, cat_rf, cat_i, cat_j, cat_f, cat_d]]
  refine g_aload_n X dJ5_charAt_0 rfl rfl ?_
  refine g_iload_n X dJ5_charAt_1 rfl rfl ?_
  obtain ⟨ob1, eob1, hF⟩ := bnd hF
  obtain ⟨v2, ev2, hF⟩ := bnd hF
  refine g_callSU X eob1 rfl (w_J4_charAt l hl D dA h0 ob1 a1 v2 ev2) q1657 q1658 q2401 q252 (by decide) q99 q1659 okn_J4_charAt ⟨by rw [hRf]; exact Nat.le_of_ble_eq_true rfl, by rw [hRl]; exact Nat.le_of_ble_eq_true rfl⟩ (As := [.int a1]) (rest := []) rfl (by first | exact Nat.le_of_ble_eq_true rfl | simp [cat_rf, cat_i, cat_j, cat_f, cat_d]) dJ5_charAt_2 (ac_v ?_)
  obtain ⟨_, z3, hF⟩ := bnd hF
  cases hF
  exact g_zret X hr (narC z3) dJ5_charAt_5
def F_J4_length (this : Nat) (h0 : HH) : Option Int32 :=
  Option.bind (getI h0 10 3 (some this)) fun v1 =>
  some v1
set_option maxHeartbeats 4000000 in
theorem w_J4_length (l : Launch) (hl : l.stackTraces = false) (D : va_G) (dA : Nat → ClassId) (h0 : HH) (this : Nat) (rE : Int32) (hF : F_J4_length this h0 = some rE) : MC D dA l yJ4_length cJ4_length 1 (Option.some Jvm.ClassFile.FieldType.int) [] 0 0 [va_rf (some this)] h0 (.inr (some (.int rE)), h0) := by
  refine mc_of hl (plainFor_of_name pn_J4) (by simp [lg_sl, cat_rf, cat_i, cat_j, cat_f, cat_d]) ?_
  intro p e s m args below meth c R hRf hRl X hr hnm
  unfold F_J4_length at hF
  rw [show argL [va_rf (some this)] = [some (va_rf (some this))] from by simp [argL, cat_rf, cat_i, cat_j, cat_f, cat_d]]
  refine g_aload_n X dJ4_length_0 rfl rfl ?_
  obtain ⟨v1, ev1, hF⟩ := bnd hF
  refine g_get (k := 3) X in_J5 rfl (by decide) q243 (Or.inl rfl) (getI_V ev1) dJ4_length_1 ?_
  cases hF
  exact g_iret X hr dJ4_length_4
def F_J5_length (this : Nat) (h0 : HH) : Option Int32 :=
  Option.bind (isO h0 10 (some this)) fun ob1 =>
  Option.bind (F_J4_length ob1 h0) fun v2 =>
  some v2
set_option maxHeartbeats 4000000 in
theorem w_J5_length (l : Launch) (hl : l.stackTraces = false) (D : va_G) (dA : Nat → ClassId) (h0 : HH) (this : Nat) (rE : Int32) (hF : F_J5_length this h0 = some rE) : MC D dA l yJ5_length cJ5_length 1 (Option.some Jvm.ClassFile.FieldType.int) [] 1 20 [va_rf (some this)] h0 (.inr (some (.int rE)), h0) := by
  refine mc_of hl (plainFor_of_name pn_J5) (by simp [lg_sl, cat_rf, cat_i, cat_j, cat_f, cat_d]) ?_
  intro p e s m args below meth c R hRf hRl X hr hnm
  unfold F_J5_length at hF
  rw [show argL [va_rf (some this)] = [some (va_rf (some this))] from by simp [argL, cat_rf, cat_i, cat_j, cat_f, cat_d]]
  refine g_aload_n X dJ5_length_0 rfl rfl ?_
  obtain ⟨ob1, eob1, hF⟩ := bnd hF
  obtain ⟨v2, ev2, hF⟩ := bnd hF
  refine g_callSU X eob1 rfl (w_J4_length l hl D dA h0 ob1  v2 ev2) q919 q920 q2389 q252 (by decide) q99 q921 okn_J4_length ⟨by rw [hRf]; exact Nat.le_of_ble_eq_true rfl, by rw [hRl]; exact Nat.le_of_ble_eq_true rfl⟩ (As := []) (rest := []) rfl (by first | exact Nat.le_of_ble_eq_true rfl | simp [cat_rf, cat_i, cat_j, cat_f, cat_d]) dJ5_length_1 (ac_v ?_)
  cases hF
  exact g_iret X hr dJ5_length_4
def F_X8_accepts_T40 (this : Nat) (a1 : Int32) (y0_40 : Int32) (h_40 : HH) : Option (Int32 × HH) :=
  Option.bind (getI h_40 6 2 (some this)) fun v6 =>
  Option.bind (putV h_40 6 2 (some this) (.int (v6 + (if y0_40 = 0 then (0 : Int32) else (1 : Int32))))) fun h8 =>
  Option.bind (okZ y0_40) fun _ =>
  some (y0_40, h8)
def F_X8_accepts (this : Nat) (a1 : Int32) (h0 : HH) : Option (Int32 × HH) :=
  Option.bind (getI h0 6 2 (some this)) fun v1 =>
  Option.bind (getR h0 6 7 (some this)) fun v2 =>
  Option.bind (getR h0 0 3 v2) fun v3 =>
  Option.bind (isO h0 10 v3) fun ob4 =>
  Option.bind (F_J5_length ob4 h0) fun v5 =>
  if v5 ≤ v1 then (
    F_X8_accepts_T40 this a1 (0 : Int32) h0
  ) else (
    Option.bind (getR h0 6 7 (some this)) fun v11 =>
    Option.bind (getR h0 0 3 v11) fun v12 =>
    Option.bind (getI h0 6 2 (some this)) fun v13 =>
    Option.bind (isO h0 10 v12) fun ob14 =>
    Option.bind (F_J5_charAt ob14 v13 h0) fun v15 =>
    if v15 = a1 then (
      F_X8_accepts_T40 this a1 (1 : Int32) h0
    ) else (
      F_X8_accepts_T40 this a1 (0 : Int32) h0
    )
  )
set_option maxHeartbeats 4000000 in
theorem w_X8_accepts (l : Launch) (hl : l.stackTraces = false) (D : va_G) (dA : Nat → ClassId) (h0 : HH) (this : Nat) (a1 : Int32) (rE : Int32) (hE : HH) (hF : F_X8_accepts this a1 h0 = some (rE, hE)) : MC D dA l yX8_accepts cX8_accepts 3 (Option.some Jvm.ClassFile.FieldType.boolean) [] 4 88 [va_rf (some this), .int a1] h0 (.inr (some (.int rE)), hE) := by
  refine mc_of hl (plainFor_of_name pn_X8) (by simp [lg_sl, cat_rf, cat_i, cat_j, cat_f, cat_d]) ?_
  intro p e s m args below meth c R hRf hRl X hr hnm
  unfold F_X8_accepts at hF
  rw [show argL [va_rf (some this), .int a1] = [some (va_rf (some this)), some (.int a1)] from by simp [argL, cat_rf, cat_i, cat_j, cat_f, cat_d]]
  refine G.pad 1 (L' := [some (va_rf (some this)), some (.int a1), none]) rfl ?_
  refine g_aload_n X dX8_accepts_0 rfl rfl ?_
  obtain ⟨v1, ev1, hF⟩ := bnd hF
  refine g_get (k := 2) X in_X8 rfl (by decide) q1616 (Or.inl rfl) (getI_V ev1) dX8_accepts_1 ?_
  refine g_aload_n X dX8_accepts_4 rfl rfl ?_
  obtain ⟨v2, ev2, hF⟩ := bnd hF
  refine g_get (k := 7) X in_X8 rfl (by decide) q1625 (Or.inl rfl) (getR_V ev2) dX8_accepts_5 ?_
  obtain ⟨v3, ev3, hF⟩ := bnd hF
  refine g_getN (k := 3) X in_X1 rfl (by decide) (nw_in q258 rfl) rfl (getR_V ev3) dX8_accepts_8 ?_
  obtain ⟨ob4, eob4, hF⟩ := bnd hF
  obtain ⟨v5, ev5, hF⟩ := bnd hF
  refine g_callV X eob4 rfl rfl (w_J5_length l hl D dA h0 ob4  v5 ev5) q1647 q916 q917 q100 q918 okn_J5_length ⟨by rw [hRf]; exact Nat.le_of_ble_eq_true rfl, by rw [hRl]; exact Nat.le_of_ble_eq_true rfl⟩ (As := []) (rest := [.int v1]) rfl (by first | exact Nat.le_of_ble_eq_true rfl | simp [cat_rf, cat_i, cat_j, cat_f, cat_d]) dX8_accepts_11 (ac_v ?_)
  have T40 : ∀ (y0_40 : Int32) (h_40 : HH) , F_X8_accepts_T40 this a1 y0_40 h_40 = some (rE, hE) → G p l e R s m args below meth c (RQ D dA h0 (.inr (some (.int rE)), hE) below s) D dA h0 3 h_40 40 [some (va_rf (some this)), none, none] [.int y0_40] := by
    intro y0_40 h_40  hF 
    unfold F_X8_accepts_T40 at hF
    refine g_istore_n (L' := [some (va_rf (some this)), none, some (.int y0_40)]) X dX8_accepts_40 rfl (Nat.le_of_ble_eq_true rfl) (by first | rfl | simp [stL, rm1, clr2, cat_rf, cat_i, cat_j, cat_f, cat_d]) ?_
    refine g_aload_n X dX8_accepts_41 rfl rfl ?_
    refine g_dup X dX8_accepts_42 (cat_rf _) ?_
    obtain ⟨v6, ev6, hF⟩ := bnd hF
    refine g_get (k := 2) X in_X8 rfl (by decide) q1616 (Or.inl rfl) (getI_V ev6) dX8_accepts_43 ?_
    refine g_iload_n X dX8_accepts_46 rfl rfl ?_
    suffices K : G p l e R s m args below meth c (RQ D dA h0 (.inr (some (.int rE)), hE) below s) D dA h0 3 h_40 55 [none, none, some (.int y0_40)] [.int (if y0_40 = 0 then (0 : Int32) else (1 : Int32)), .int v6, va_rf (some this)] by
      refine g_if_eq X 54 dX8_accepts_47 (by decide) (fun c7 => ?_) (fun c7 => ?_)
      · (try simp only [if_pos c7] at K)
        refine g_iconst (v := (0 : Int32)) X dX8_accepts_54 (by decide) ?_
        refine G.drop [false, false, true] rfl ?_
        first | exact K | (simp only [if_pos c7]; exact K)
      · (try simp only [if_neg c7] at K)
        refine g_iconst (v := (1 : Int32)) X dX8_accepts_50 (by decide) ?_
        refine g_goto X 55 dX8_accepts_51 (by decide) ?_
        refine G.drop [false, false, true] rfl ?_
        first | exact K | (simp only [if_neg c7]; exact K)
    refine g_iadd X dX8_accepts_55 ?_
    obtain ⟨h8, eh8, hF⟩ := bnd hF
    refine g_put (k := 2) X in_X8 tyX8 tyX8_ok nmX8 rfl (by decide) q1616 (Or.inl rfl) rfl (tyX8_ok 2 (by decide)) rfl rfl eh8 dX8_accepts_56 ?_
    refine g_iload_n X dX8_accepts_59 rfl rfl ?_
    obtain ⟨_, z9, hF⟩ := bnd hF
    cases hF
    exact g_zret X hr (narZ z9) dX8_accepts_60
  refine g_icmp_ge X 39 dX8_accepts_14 (by decide) (fun c10 => ?_) (fun c10 => ?_)
  · have hF := (if_pos c10).symm.trans hF
    refine g_iconst (v := (0 : Int32)) X dX8_accepts_39 (by decide) ?_
    refine G.drop [true, false, false] rfl ?_
    exact T40 _ _ hF
  · have hF := (if_neg c10).symm.trans hF
    refine g_aload_n X dX8_accepts_17 rfl rfl ?_
    obtain ⟨v11, ev11, hF⟩ := bnd hF
    refine g_get (k := 7) X in_X8 rfl (by decide) q1625 (Or.inl rfl) (getR_V ev11) dX8_accepts_18 ?_
    obtain ⟨v12, ev12, hF⟩ := bnd hF
    refine g_getN (k := 3) X in_X1 rfl (by decide) (nw_in q258 rfl) rfl (getR_V ev12) dX8_accepts_21 ?_
    refine g_aload_n X dX8_accepts_24 rfl rfl ?_
    obtain ⟨v13, ev13, hF⟩ := bnd hF
    refine g_get (k := 2) X in_X8 rfl (by decide) q1616 (Or.inl rfl) (getI_V ev13) dX8_accepts_25 ?_
    obtain ⟨ob14, eob14, hF⟩ := bnd hF
    obtain ⟨v15, ev15, hF⟩ := bnd hF
    refine g_callV X eob14 rfl rfl (w_J5_charAt l hl D dA h0 ob14 v13 v15 ev15) q1653 q1654 q1655 q100 q1656 okn_J5_charAt ⟨by rw [hRf]; exact Nat.le_of_ble_eq_true rfl, by rw [hRl]; exact Nat.le_of_ble_eq_true rfl⟩ (As := [.int v13]) (rest := []) rfl (by first | exact Nat.le_of_ble_eq_true rfl | simp [cat_rf, cat_i, cat_j, cat_f, cat_d]) dX8_accepts_28 (ac_v ?_)
    refine g_iload_n X dX8_accepts_31 rfl rfl ?_
    refine g_icmp_ne X 39 dX8_accepts_32 (by decide) (fun c16 => ?_) (fun c16 => ?_)
    · have hF := (if_neg c16).symm.trans hF
      refine g_iconst (v := (0 : Int32)) X dX8_accepts_39 (by decide) ?_
      refine G.drop [true, false, false] rfl ?_
      exact T40 _ _ hF
    · have hF := (if_pos c16).symm.trans hF
      refine g_iconst (v := (1 : Int32)) X dX8_accepts_35 (by decide) ?_
      refine g_goto X 40 dX8_accepts_36 (by decide) ?_
      refine G.drop [true, false, false] rfl ?_
      exact T40 _ _ hF
def F_X8_reads_T80 (this : Nat) (a1 : Int32) (y0_49 : Int32) (y0_80 : Int32) (y1_80 : Int32) (y2_80 : Option Nat) (h_80 : HH) : Option (Int32 × HH) :=
  Option.bind (astI h_80 y2_80 y1_80 y0_80) fun h7 =>
  Option.bind (getI h7 6 2 (some this)) fun v8 =>
  Option.bind (putV h7 6 2 (some this) (.int (v8 + (if y0_49 = 0 then (0 : Int32) else (1 : Int32))))) fun h10 =>
  Option.bind (okZ y0_49) fun _ =>
  some (y0_49, h10)
def F_X8_reads_T49 (this : Nat) (a1 : Int32) (y0_49 : Int32) (h_49 : HH) : Option (Int32 × HH) :=
  Option.bind (getR h_49 6 1 (some this)) fun v6 =>
  if y0_49 = 0 then (
    F_X8_reads_T80 this a1 y0_49 (0 : Int32) a1 v6 h_49
  ) else (
    Option.bind (getR h_49 6 7 (some this)) fun v13 =>
    Option.bind (getR h_49 0 3 v13) fun v14 =>
    Option.bind (getI h_49 6 2 (some this)) fun v15 =>
    Option.bind (isO h_49 10 v14) fun ob16 =>
    Option.bind (F_J5_charAt ob16 v15 h_49) fun v17 =>
    F_X8_reads_T80 this a1 y0_49 (v17 - (48 : Int32)) a1 v6 h_49
  )
def F_X8_reads (this : Nat) (a1 : Int32) (h0 : HH) : Option (Int32 × HH) :=
  Option.bind (getI h0 6 2 (some this)) fun v1 =>
  Option.bind (getR h0 6 7 (some this)) fun v2 =>
  Option.bind (getR h0 0 3 v2) fun v3 =>
  Option.bind (isO h0 10 v3) fun ob4 =>
  Option.bind (F_J5_length ob4 h0) fun v5 =>
  if v5 ≤ v1 then (
    F_X8_reads_T49 this a1 (0 : Int32) h0
  ) else (
    Option.bind (getR h0 6 7 (some this)) fun v19 =>
    Option.bind (getR h0 0 3 v19) fun v20 =>
    Option.bind (getI h0 6 2 (some this)) fun v21 =>
    Option.bind (isO h0 10 v20) fun ob22 =>
    Option.bind (F_J5_charAt ob22 v21 h0) fun v23 =>
    if (F_X1_isBetween (v23.toInt64) (48 : Int64) (57 : Int64)) = 0 then (
      F_X8_reads_T49 this a1 (0 : Int32) h0
    ) else (
      F_X8_reads_T49 this a1 (1 : Int32) h0
    )
  )
set_option maxHeartbeats 4000000 in
theorem w_X8_reads (l : Launch) (hl : l.stackTraces = false) (D : va_G) (dA : Nat → ClassId) (h0 : HH) (this : Nat) (a1 : Int32) (rE : Int32) (hE : HH) (hF : F_X8_reads this a1 h0 = some (rE, hE)) : MC D dA l yX8_reads cX8_reads 3 (Option.some Jvm.ClassFile.FieldType.boolean) [] 4 88 [va_rf (some this), .int a1] h0 (.inr (some (.int rE)), hE) := by
  refine mc_of hl (plainFor_of_name pn_X8) (by simp [lg_sl, cat_rf, cat_i, cat_j, cat_f, cat_d]) ?_
  intro p e s m args below meth c R hRf hRl X hr hnm
  unfold F_X8_reads at hF
  rw [show argL [va_rf (some this), .int a1] = [some (va_rf (some this)), some (.int a1)] from by simp [argL, cat_rf, cat_i, cat_j, cat_f, cat_d]]
  refine G.pad 1 (L' := [some (va_rf (some this)), some (.int a1), none]) rfl ?_
  refine g_aload_n X dX8_reads_0 rfl rfl ?_
  obtain ⟨v1, ev1, hF⟩ := bnd hF
  refine g_get (k := 2) X in_X8 rfl (by decide) q1616 (Or.inl rfl) (getI_V ev1) dX8_reads_1 ?_
  refine g_aload_n X dX8_reads_4 rfl rfl ?_
  obtain ⟨v2, ev2, hF⟩ := bnd hF
  refine g_get (k := 7) X in_X8 rfl (by decide) q1625 (Or.inl rfl) (getR_V ev2) dX8_reads_5 ?_
  obtain ⟨v3, ev3, hF⟩ := bnd hF
  refine g_getN (k := 3) X in_X1 rfl (by decide) (nw_in q258 rfl) rfl (getR_V ev3) dX8_reads_8 ?_
  obtain ⟨ob4, eob4, hF⟩ := bnd hF
  obtain ⟨v5, ev5, hF⟩ := bnd hF
  refine g_callV X eob4 rfl rfl (w_J5_length l hl D dA h0 ob4  v5 ev5) q1647 q916 q917 q100 q918 okn_J5_length ⟨by rw [hRf]; exact Nat.le_of_ble_eq_true rfl, by rw [hRl]; exact Nat.le_of_ble_eq_true rfl⟩ (As := []) (rest := [.int v1]) rfl (by first | exact Nat.le_of_ble_eq_true rfl | simp [cat_rf, cat_i, cat_j, cat_f, cat_d]) dX8_reads_11 (ac_v ?_)
  have T49 : ∀ (y0_49 : Int32) (h_49 : HH) , F_X8_reads_T49 this a1 y0_49 h_49 = some (rE, hE) → G p l e R s m args below meth c (RQ D dA h0 (.inr (some (.int rE)), hE) below s) D dA h0 3 h_49 49 [some (va_rf (some this)), some (.int a1), none] [.int y0_49] := by
    intro y0_49 h_49  hF 
    unfold F_X8_reads_T49 at hF
    refine g_istore_n (L' := [some (va_rf (some this)), some (.int a1), some (.int y0_49)]) X dX8_reads_49 rfl (Nat.le_of_ble_eq_true rfl) (by first | rfl | simp [stL, rm1, clr2, cat_rf, cat_i, cat_j, cat_f, cat_d]) ?_
    refine g_aload_n X dX8_reads_50 rfl rfl ?_
    obtain ⟨v6, ev6, hF⟩ := bnd hF
    refine g_get (k := 1) X in_X8 rfl (by decide) q1615 (Or.inl rfl) (getR_V ev6) dX8_reads_51 ?_
    refine g_iload_n X dX8_reads_54 rfl rfl ?_
    refine g_iload_n X dX8_reads_55 rfl rfl ?_
    have T80 : ∀ (y0_80 : Int32) (y1_80 : Int32) (y2_80 : Option Nat) (h_80 : HH) , F_X8_reads_T80 this a1 y0_49 y0_80 y1_80 y2_80 h_80 = some (rE, hE) → G p l e R s m args below meth c (RQ D dA h0 (.inr (some (.int rE)), hE) below s) D dA h0 3 h_80 80 [some (va_rf (some this)), none, some (.int y0_49)] [.int y0_80, .int y1_80, va_rf y2_80] := by
      intro y0_80 y1_80 y2_80 h_80  hF 
      unfold F_X8_reads_T80 at hF
      obtain ⟨h7, eh7, hF⟩ := bnd hF
      refine g_iast X eh7 dX8_reads_80 ?_
      refine g_aload_n X dX8_reads_81 rfl rfl ?_
      refine g_dup X dX8_reads_82 (cat_rf _) ?_
      obtain ⟨v8, ev8, hF⟩ := bnd hF
      refine g_get (k := 2) X in_X8 rfl (by decide) q1616 (Or.inl rfl) (getI_V ev8) dX8_reads_83 ?_
      refine g_iload_n X dX8_reads_86 rfl rfl ?_
      suffices K : G p l e R s m args below meth c (RQ D dA h0 (.inr (some (.int rE)), hE) below s) D dA h0 3 h7 95 [none, none, some (.int y0_49)] [.int (if y0_49 = 0 then (0 : Int32) else (1 : Int32)), .int v8, va_rf (some this)] by
        refine g_if_eq X 94 dX8_reads_87 (by decide) (fun c9 => ?_) (fun c9 => ?_)
        · (try simp only [if_pos c9] at K)
          refine g_iconst (v := (0 : Int32)) X dX8_reads_94 (by decide) ?_
          refine G.drop [false, false, true] rfl ?_
          first | exact K | (simp only [if_pos c9]; exact K)
        · (try simp only [if_neg c9] at K)
          refine g_iconst (v := (1 : Int32)) X dX8_reads_90 (by decide) ?_
          refine g_goto X 95 dX8_reads_91 (by decide) ?_
          refine G.drop [false, false, true] rfl ?_
          first | exact K | (simp only [if_neg c9]; exact K)
      refine g_iadd X dX8_reads_95 ?_
      obtain ⟨h10, eh10, hF⟩ := bnd hF
      refine g_put (k := 2) X in_X8 tyX8 tyX8_ok nmX8 rfl (by decide) q1616 (Or.inl rfl) rfl (tyX8_ok 2 (by decide)) rfl rfl eh10 dX8_reads_96 ?_
      refine g_iload_n X dX8_reads_99 rfl rfl ?_
      obtain ⟨_, z11, hF⟩ := bnd hF
      cases hF
      exact g_zret X hr (narZ z11) dX8_reads_100
    refine g_if_eq X 79 dX8_reads_56 (by decide) (fun c12 => ?_) (fun c12 => ?_)
    · have hF := (if_pos c12).symm.trans hF
      refine g_iconst (v := (0 : Int32)) X dX8_reads_79 (by decide) ?_
      refine G.drop [true, false, true] rfl ?_
      exact T80 _ _ _ _ hF
    · have hF := (if_neg c12).symm.trans hF
      refine g_aload_n X dX8_reads_59 rfl rfl ?_
      obtain ⟨v13, ev13, hF⟩ := bnd hF
      refine g_get (k := 7) X in_X8 rfl (by decide) q1625 (Or.inl rfl) (getR_V ev13) dX8_reads_60 ?_
      obtain ⟨v14, ev14, hF⟩ := bnd hF
      refine g_getN (k := 3) X in_X1 rfl (by decide) (nw_in q258 rfl) rfl (getR_V ev14) dX8_reads_63 ?_
      refine g_aload_n X dX8_reads_66 rfl rfl ?_
      obtain ⟨v15, ev15, hF⟩ := bnd hF
      refine g_get (k := 2) X in_X8 rfl (by decide) q1616 (Or.inl rfl) (getI_V ev15) dX8_reads_67 ?_
      obtain ⟨ob16, eob16, hF⟩ := bnd hF
      obtain ⟨v17, ev17, hF⟩ := bnd hF
      refine g_callV X eob16 rfl rfl (w_J5_charAt l hl D dA h_49 ob16 v15 v17 ev17) q1653 q1654 q1655 q100 q1656 okn_J5_charAt ⟨by rw [hRf]; exact Nat.le_of_ble_eq_true rfl, by rw [hRl]; exact Nat.le_of_ble_eq_true rfl⟩ (As := [.int v15]) (rest := [.int a1, va_rf v6]) rfl (by first | exact Nat.le_of_ble_eq_true rfl | simp [cat_rf, cat_i, cat_j, cat_f, cat_d]) dX8_reads_70 (ac_v ?_)
      refine g_bipush (v := (48 : Int32)) X dX8_reads_73 (by decide) ?_
      refine g_isub X dX8_reads_75 ?_
      refine g_goto X 80 dX8_reads_76 (by decide) ?_
      refine G.drop [true, false, true] rfl ?_
      exact T80 _ _ _ _ hF
  refine g_icmp_ge X 48 dX8_reads_14 (by decide) (fun c18 => ?_) (fun c18 => ?_)
  · have hF := (if_pos c18).symm.trans hF
    refine g_iconst (v := (0 : Int32)) X dX8_reads_48 (by decide) ?_
    exact T49 _ _ hF
  · have hF := (if_neg c18).symm.trans hF
    refine g_aload_n X dX8_reads_17 rfl rfl ?_
    obtain ⟨v19, ev19, hF⟩ := bnd hF
    refine g_get (k := 7) X in_X8 rfl (by decide) q1625 (Or.inl rfl) (getR_V ev19) dX8_reads_18 ?_
    obtain ⟨v20, ev20, hF⟩ := bnd hF
    refine g_getN (k := 3) X in_X1 rfl (by decide) (nw_in q258 rfl) rfl (getR_V ev20) dX8_reads_21 ?_
    refine g_aload_n X dX8_reads_24 rfl rfl ?_
    obtain ⟨v21, ev21, hF⟩ := bnd hF
    refine g_get (k := 2) X in_X8 rfl (by decide) q1616 (Or.inl rfl) (getI_V ev21) dX8_reads_25 ?_
    obtain ⟨ob22, eob22, hF⟩ := bnd hF
    obtain ⟨v23, ev23, hF⟩ := bnd hF
    refine g_callV X eob22 rfl rfl (w_J5_charAt l hl D dA h0 ob22 v21 v23 ev23) q1653 q1654 q1655 q100 q1656 okn_J5_charAt ⟨by rw [hRf]; exact Nat.le_of_ble_eq_true rfl, by rw [hRl]; exact Nat.le_of_ble_eq_true rfl⟩ (As := [.int v21]) (rest := []) rfl (by first | exact Nat.le_of_ble_eq_true rfl | simp [cat_rf, cat_i, cat_j, cat_f, cat_d]) dX8_reads_28 (ac_v ?_)
    refine g_i2l X dX8_reads_31 ?_
    refine g_ldc2 (v := (48 : Int64)) X q1727 dX8_reads_32 ?_
    refine g_ldc2 (v := (57 : Int64)) X q1728 dX8_reads_35 ?_
    refine g_callSN X (w_X1_isBetween l hl D dA h0 (v23.toInt64) (48 : Int64) (57 : Int64)) (nw_in q1729 rfl) q415 q92 q416 okn_X1_isBetween ⟨by rw [hRf]; exact Nat.le_of_ble_eq_true rfl, by rw [hRl]; exact Nat.le_of_ble_eq_true rfl⟩ (As := [.long (v23.toInt64), .long (48 : Int64), .long (57 : Int64)]) (rest := []) rfl (by first | exact Nat.le_of_ble_eq_true rfl | simp [cat_rf, cat_i, cat_j, cat_f, cat_d]) dX8_reads_38 (ac_v ?_)
    refine g_if_eq X 48 dX8_reads_41 (by decide) (fun c24 => ?_) (fun c24 => ?_)
    · have hF := (if_pos c24).symm.trans hF
      refine g_iconst (v := (0 : Int32)) X dX8_reads_48 (by decide) ?_
      exact T49 _ _ hF
    · have hF := (if_neg c24).symm.trans hF
      refine g_iconst (v := (1 : Int32)) X dX8_reads_44 (by decide) ?_
      refine g_goto X 49 dX8_reads_45 (by decide) ?_
      exact T49 _ _ hF
def F_X8_isOfForm_B12 (this : Nat) (a1 : Int32) (x2_2 : Int32) (x3_2 : Int32) (h_2 : HH) : Option ((Int32 × Int32 × HH) ⊕ (Int32 × HH)) :=
  if a1 ≤ x3_2 then (
    some (.inr (x2_2, h_2))
  ) else (
    if x2_2 = 0 then (
      some (.inr (x2_2, h_2))
    ) else (
      if x3_2 = 0 then (
        Option.bind (isO h_2 6 (some this)) fun ob6 =>
        b2 (F_X8_reads ob6 x3_2 h_2) fun v8 h7 =>
        some (.inl ((if v8 = 0 then (0 : Int32) else (1 : Int32)), (x3_2 + (1 : Int32)), h7))
      ) else (
        Option.bind (isO h_2 6 (some this)) fun ob10 =>
        b2 (F_X8_accepts ob10 (44 : Int32) h_2) fun v12 h11 =>
        if v12 = 0 then (
          some (.inl ((0 : Int32), (x3_2 + (1 : Int32)), h11))
        ) else (
          Option.bind (isO h11 6 (some this)) fun ob14 =>
          b2 (F_X8_reads ob14 x3_2 h11) fun v16 h15 =>
          some (.inl ((if v16 = 0 then (0 : Int32) else (1 : Int32)), (x3_2 + (1 : Int32)), h15))
        )
      )
    )
  )
def F_X8_isOfForm (this : Nat) (a1 : Int32) (h0 : HH) : Option (Int32 × HH) :=
  Option.bind (lp (fun z => F_X8_isOfForm_B12 this a1 z.1 z.2.1 z.2.2) 100000 ((if a1 < 0 then (0 : Int32) else (1 : Int32)), (0 : Int32), h0)) fun (v18, h19) =>
  if v18 = 0 then (
    some ((0 : Int32), h19)
  ) else (
    Option.bind (isO h19 6 (some this)) fun ob21 =>
    b2 (F_X8_accepts ob21 (59 : Int32) h19) fun v23 h22 =>
    some ((if v23 = 0 then (0 : Int32) else (1 : Int32)), h22)
  )
set_option maxHeartbeats 4000000 in
theorem w_X8_isOfForm (l : Launch) (hl : l.stackTraces = false) (D : va_G) (dA : Nat → ClassId) (h0 : HH) (this : Nat) (a1 : Int32) (rE : Int32) (hE : HH) (hF : F_X8_isOfForm this a1 h0 = some (rE, hE)) : MC D dA l yX8_isOfForm cX8_isOfForm 4 (Option.some Jvm.ClassFile.FieldType.boolean) [] 5 110 [va_rf (some this), .int a1] h0 (.inr (some (.int rE)), hE) := by
  refine mc_of hl (plainFor_of_name pn_X8) (by simp [lg_sl, cat_rf, cat_i, cat_j, cat_f, cat_d]) ?_
  intro p e s m args below meth c R hRf hRl X hr hnm
  unfold F_X8_isOfForm at hF
  rw [show argL [va_rf (some this), .int a1] = [some (va_rf (some this)), some (.int a1)] from by simp [argL, cat_rf, cat_i, cat_j, cat_f, cat_d]]
  refine G.pad 2 (L' := [some (va_rf (some this)), some (.int a1), none, none]) rfl ?_
  refine g_iload_n X dX8_isOfForm_0 rfl rfl ?_
  suffices K : G p l e R s m args below meth c (RQ D dA h0 (.inr (some (.int rE)), hE) below s) D dA h0 4 h0 9 [some (va_rf (some this)), some (.int a1), none, none] [.int (if a1 < 0 then (0 : Int32) else (1 : Int32))] by
    refine g_if_lt X 8 dX8_isOfForm_1 (by decide) (fun c1 => ?_) (fun c1 => ?_)
    · (try simp only [if_pos c1] at K)
      refine g_iconst (v := (0 : Int32)) X dX8_isOfForm_8 (by decide) ?_
      first | exact K | (simp only [if_pos c1]; exact K)
    · (try simp only [if_neg c1] at K)
      refine g_iconst (v := (1 : Int32)) X dX8_isOfForm_4 (by decide) ?_
      refine g_goto X 9 dX8_isOfForm_5 (by decide) ?_
      first | exact K | (simp only [if_neg c1]; exact K)
  refine g_istore_n (L' := [some (va_rf (some this)), some (.int a1), some (.int (if a1 < 0 then (0 : Int32) else (1 : Int32))), none]) X dX8_isOfForm_9 rfl (Nat.le_of_ble_eq_true rfl) (by first | rfl | simp [stL, rm1, clr2, cat_rf, cat_i, cat_j, cat_f, cat_d]) ?_
  refine g_iconst (v := (0 : Int32)) X dX8_isOfForm_10 (by decide) ?_
  refine g_istore_n (L' := [some (va_rf (some this)), some (.int a1), some (.int (if a1 < 0 then (0 : Int32) else (1 : Int32))), some (.int (0 : Int32))]) X dX8_isOfForm_11 rfl (Nat.le_of_ble_eq_true rfl) (by first | rfl | simp [stL, rm1, clr2, cat_rf, cat_i, cat_j, cat_f, cat_d]) ?_
  obtain ⟨⟨v18, h19⟩, e25, hF⟩ := bnd hF
  dsimp only at hF
  refine lp_ind (Gs := (fun z => G p l e R s m args below meth c (RQ D dA h0 (.inr (some (.int rE)), hE) below s) D dA h0 4 z.2.2 12 [some (va_rf (some this)), some (.int a1), some (.int z.1), some (.int z.2.1)] [])) (Ge := (fun z => G p l e R s m args below meth c (RQ D dA h0 (.inr (some (.int rE)), hE) below s) D dA h0 4 z.2 54 [some (va_rf (some this)), none, some (.int z.1), none] [])) ?_ _ _ _ e25 ?_
  · rintro ⟨x2_2, x3_2, h_2⟩ o hF hgo hr
    change F_X8_isOfForm_B12 this a1 x2_2 x3_2 h_2 = some o at hF
    unfold F_X8_isOfForm_B12 at hF
    show G p l e R s m args below meth c (RQ D dA h0 (.inr (some (.int rE)), hE) below s) D dA h0 4 h_2 12 [some (va_rf (some this)), some (.int a1), some (.int x2_2), some (.int x3_2)] []
    refine g_iload_n X dX8_isOfForm_12 rfl rfl ?_
    refine g_iload_n X dX8_isOfForm_13 rfl rfl ?_
    refine g_icmp_ge X 54 dX8_isOfForm_14 (by decide) (fun c3 => ?_) (fun c3 => ?_)
    · have hF := (if_pos c3).symm.trans hF
      refine G.drop [true, false, true, false] rfl ?_
      cases hF
      exact hr _ rfl
    · have hF := (if_neg c3).symm.trans hF
      refine g_iload_n X dX8_isOfForm_17 rfl rfl ?_
      refine g_if_eq X 54 dX8_isOfForm_18 (by decide) (fun c4 => ?_) (fun c4 => ?_)
      · have hF := (if_pos c4).symm.trans hF
        refine G.drop [true, false, true, false] rfl ?_
        cases hF
        exact hr _ rfl
      · have hF := (if_neg c4).symm.trans hF
        refine g_iload_n X dX8_isOfForm_21 rfl rfl ?_
        refine g_if_eq X 34 dX8_isOfForm_22 (by decide) (fun c5 => ?_) (fun c5 => ?_)
        · have hF := (if_pos c5).symm.trans hF
          refine g_aload_n X dX8_isOfForm_34 rfl rfl ?_
          refine g_iload_n X dX8_isOfForm_35 rfl rfl ?_
          obtain ⟨ob6, eob6, hF⟩ := bnd hF
          obtain ⟨v8, h7, eh7, hF⟩ := b2_some hF
          refine g_callV X eob6 rfl rfl (w_X8_reads l hl D dA h_2 ob6 x3_2 v8 h7 eh7) q1723 q1725 qs29 q124 q1726 okn_X8_reads ⟨by rw [hRf]; exact Nat.le_of_ble_eq_true rfl, by rw [hRl]; exact Nat.le_of_ble_eq_true rfl⟩ (As := [.int x3_2]) (rest := []) rfl (by first | exact Nat.le_of_ble_eq_true rfl | simp [cat_rf, cat_i, cat_j, cat_f, cat_d]) dX8_isOfForm_36 (ac_v ?_)
          suffices K : G p l e R s m args below meth c (RQ D dA h0 (.inr (some (.int rE)), hE) below s) D dA h0 4 h7 47 [some (va_rf (some this)), some (.int a1), none, some (.int x3_2)] [.int (if v8 = 0 then (0 : Int32) else (1 : Int32))] by
            refine g_if_eq X 46 dX8_isOfForm_39 (by decide) (fun c9 => ?_) (fun c9 => ?_)
            · (try simp only [if_pos c9] at K)
              refine g_iconst (v := (0 : Int32)) X dX8_isOfForm_46 (by decide) ?_
              refine G.drop [true, true, false, true] rfl ?_
              first | exact K | (simp only [if_pos c9]; exact K)
            · (try simp only [if_neg c9] at K)
              refine g_iconst (v := (1 : Int32)) X dX8_isOfForm_42 (by decide) ?_
              refine g_goto X 47 dX8_isOfForm_43 (by decide) ?_
              refine G.drop [true, true, false, true] rfl ?_
              first | exact K | (simp only [if_neg c9]; exact K)
          refine g_istore_n (L' := [some (va_rf (some this)), some (.int a1), some (.int (if v8 = 0 then (0 : Int32) else (1 : Int32))), some (.int x3_2)]) X dX8_isOfForm_47 rfl (Nat.le_of_ble_eq_true rfl) (by first | rfl | simp [stL, rm1, clr2, cat_rf, cat_i, cat_j, cat_f, cat_d]) ?_
          refine g_iinc (v := (x3_2 + (1 : Int32))) (L' := [some (va_rf (some this)), some (.int a1), some (.int (if v8 = 0 then (0 : Int32) else (1 : Int32))), some (.int (x3_2 + (1 : Int32)))]) X dX8_isOfForm_48 (Nat.le_of_ble_eq_true rfl) rfl rfl (by first | rfl | simp [stL, rm1, clr2, cat_rf, cat_i, cat_j, cat_f, cat_d]) ?_
          refine g_goto X 12 dX8_isOfForm_51 (by decide) ?_
          cases hF
          exact hgo _ rfl
        · have hF := (if_neg c5).symm.trans hF
          refine g_aload_n X dX8_isOfForm_25 rfl rfl ?_
          refine g_bipush (v := (44 : Int32)) X dX8_isOfForm_26 (by decide) ?_
          obtain ⟨ob10, eob10, hF⟩ := bnd hF
          obtain ⟨v12, h11, eh11, hF⟩ := b2_some hF
          refine g_callV X eob10 rfl rfl (w_X8_accepts l hl D dA h_2 ob10 (44 : Int32) v12 h11 eh11) q1719 q1721 qs28 q124 q1722 okn_X8_accepts ⟨by rw [hRf]; exact Nat.le_of_ble_eq_true rfl, by rw [hRl]; exact Nat.le_of_ble_eq_true rfl⟩ (As := [.int (44 : Int32)]) (rest := []) rfl (by first | exact Nat.le_of_ble_eq_true rfl | simp [cat_rf, cat_i, cat_j, cat_f, cat_d]) dX8_isOfForm_28 (ac_v ?_)
          refine g_if_eq X 46 dX8_isOfForm_31 (by decide) (fun c13 => ?_) (fun c13 => ?_)
          · have hF := (if_pos c13).symm.trans hF
            refine g_iconst (v := (0 : Int32)) X dX8_isOfForm_46 (by decide) ?_
            refine g_istore_n (L' := [some (va_rf (some this)), some (.int a1), some (.int (0 : Int32)), some (.int x3_2)]) X dX8_isOfForm_47 rfl (Nat.le_of_ble_eq_true rfl) (by first | rfl | simp [stL, rm1, clr2, cat_rf, cat_i, cat_j, cat_f, cat_d]) ?_
            refine g_iinc (v := (x3_2 + (1 : Int32))) (L' := [some (va_rf (some this)), some (.int a1), some (.int (0 : Int32)), some (.int (x3_2 + (1 : Int32)))]) X dX8_isOfForm_48 (Nat.le_of_ble_eq_true rfl) rfl rfl (by first | rfl | simp [stL, rm1, clr2, cat_rf, cat_i, cat_j, cat_f, cat_d]) ?_
            refine g_goto X 12 dX8_isOfForm_51 (by decide) ?_
            cases hF
            exact hgo _ rfl
          · have hF := (if_neg c13).symm.trans hF
            refine g_aload_n X dX8_isOfForm_34 rfl rfl ?_
            refine g_iload_n X dX8_isOfForm_35 rfl rfl ?_
            obtain ⟨ob14, eob14, hF⟩ := bnd hF
            obtain ⟨v16, h15, eh15, hF⟩ := b2_some hF
            refine g_callV X eob14 rfl rfl (w_X8_reads l hl D dA h11 ob14 x3_2 v16 h15 eh15) q1723 q1725 qs29 q124 q1726 okn_X8_reads ⟨by rw [hRf]; exact Nat.le_of_ble_eq_true rfl, by rw [hRl]; exact Nat.le_of_ble_eq_true rfl⟩ (As := [.int x3_2]) (rest := []) rfl (by first | exact Nat.le_of_ble_eq_true rfl | simp [cat_rf, cat_i, cat_j, cat_f, cat_d]) dX8_isOfForm_36 (ac_v ?_)
            suffices K : G p l e R s m args below meth c (RQ D dA h0 (.inr (some (.int rE)), hE) below s) D dA h0 4 h15 47 [some (va_rf (some this)), some (.int a1), none, some (.int x3_2)] [.int (if v16 = 0 then (0 : Int32) else (1 : Int32))] by
              refine g_if_eq X 46 dX8_isOfForm_39 (by decide) (fun c17 => ?_) (fun c17 => ?_)
              · (try simp only [if_pos c17] at K)
                refine g_iconst (v := (0 : Int32)) X dX8_isOfForm_46 (by decide) ?_
                refine G.drop [true, true, false, true] rfl ?_
                first | exact K | (simp only [if_pos c17]; exact K)
              · (try simp only [if_neg c17] at K)
                refine g_iconst (v := (1 : Int32)) X dX8_isOfForm_42 (by decide) ?_
                refine g_goto X 47 dX8_isOfForm_43 (by decide) ?_
                refine G.drop [true, true, false, true] rfl ?_
                first | exact K | (simp only [if_neg c17]; exact K)
            refine g_istore_n (L' := [some (va_rf (some this)), some (.int a1), some (.int (if v16 = 0 then (0 : Int32) else (1 : Int32))), some (.int x3_2)]) X dX8_isOfForm_47 rfl (Nat.le_of_ble_eq_true rfl) (by first | rfl | simp [stL, rm1, clr2, cat_rf, cat_i, cat_j, cat_f, cat_d]) ?_
            refine g_iinc (v := (x3_2 + (1 : Int32))) (L' := [some (va_rf (some this)), some (.int a1), some (.int (if v16 = 0 then (0 : Int32) else (1 : Int32))), some (.int (x3_2 + (1 : Int32)))]) X dX8_isOfForm_48 (Nat.le_of_ble_eq_true rfl) rfl rfl (by first | rfl | simp [stL, rm1, clr2, cat_rf, cat_i, cat_j, cat_f, cat_d]) ?_
            refine g_goto X 12 dX8_isOfForm_51 (by decide) ?_
            cases hF
            exact hgo _ rfl
  show G p l e R s m args below meth c (RQ D dA h0 (.inr (some (.int rE)), hE) below s) D dA h0 4 h19 54 [some (va_rf (some this)), none, some (.int v18), none] []
  refine g_iload_n X dX8_isOfForm_54 rfl rfl ?_
  refine g_if_eq X 71 dX8_isOfForm_55 (by decide) (fun c20 => ?_) (fun c20 => ?_)
  · have hF := (if_pos c20).symm.trans hF
    refine g_iconst (v := (0 : Int32)) X dX8_isOfForm_71 (by decide) ?_
    cases hF
    exact g_zret X hr rfl dX8_isOfForm_72
  · have hF := (if_neg c20).symm.trans hF
    refine g_aload_n X dX8_isOfForm_58 rfl rfl ?_
    refine g_bipush (v := (59 : Int32)) X dX8_isOfForm_59 (by decide) ?_
    obtain ⟨ob21, eob21, hF⟩ := bnd hF
    obtain ⟨v23, h22, eh22, hF⟩ := b2_some hF
    refine g_callV X eob21 rfl rfl (w_X8_accepts l hl D dA h19 ob21 (59 : Int32) v23 h22 eh22) q1719 q1721 qs28 q124 q1722 okn_X8_accepts ⟨by rw [hRf]; exact Nat.le_of_ble_eq_true rfl, by rw [hRl]; exact Nat.le_of_ble_eq_true rfl⟩ (As := [.int (59 : Int32)]) (rest := []) rfl (by first | exact Nat.le_of_ble_eq_true rfl | simp [cat_rf, cat_i, cat_j, cat_f, cat_d]) dX8_isOfForm_61 (ac_v ?_)
    suffices K : G p l e R s m args below meth c (RQ D dA h0 (.inr (some (.int rE)), hE) below s) D dA h0 4 h22 72 [none, none, none, none] [.int (if v23 = 0 then (0 : Int32) else (1 : Int32))] by
      refine g_if_eq X 71 dX8_isOfForm_64 (by decide) (fun c24 => ?_) (fun c24 => ?_)
      · (try simp only [if_pos c24] at K)
        refine g_iconst (v := (0 : Int32)) X dX8_isOfForm_71 (by decide) ?_
        refine G.drop [false, false, false, false] rfl ?_
        first | exact K | (simp only [if_pos c24]; exact K)
      · (try simp only [if_neg c24] at K)
        refine g_iconst (v := (1 : Int32)) X dX8_isOfForm_67 (by decide) ?_
        refine g_goto X 72 dX8_isOfForm_68 (by decide) ?_
        refine G.drop [false, false, false, false] rfl ?_
        first | exact K | (simp only [if_neg c24]; exact K)
    cases hF
    exact g_zret X hr (by (repeat' split) <;> rfl) dX8_isOfForm_72
def F_J6_isLatin1 (this : Nat) (h0 : HH) : Option Int32 :=
  if (1 : Int32) = 0 then (
    some (0 : Int32)
  ) else (
    Option.bind (getI h0 11 1 (some this)) fun v2 =>
    some (if v2 = 0 then (1 : Int32) else (0 : Int32))
  )
set_option maxHeartbeats 4000000 in
theorem w_J6_isLatin1 (l : Launch) (hl : l.stackTraces = false) (D : va_G) (dA : Nat → ClassId) (h0 : HH) (this : Nat) (rE : Int32) (hF : F_J6_isLatin1 this h0 = some rE) : MC D dA l yJ6_isLatin1 cJ6_isLatin1 1 (Option.some Jvm.ClassFile.FieldType.boolean) [] 0 0 [va_rf (some this)] h0 (.inr (some (.int rE)), h0) := by
  refine mc_of hl (plainFor_of_name pn_J6) (by simp [lg_sl, cat_rf, cat_i, cat_j, cat_f, cat_d]) ?_
  intro p e s m args below meth c R hRf hRl X hr hnm
  unfold F_J6_isLatin1 at hF
  rw [show argL [va_rf (some this)] = [some (va_rf (some this))] from by simp [argL, cat_rf, cat_i, cat_j, cat_f, cat_d]]
  refine g_getsC X q1010 rfl dJ6_isLatin1_0 ?_
  refine g_if_eq X 17 dJ6_isLatin1_3 (by decide) (fun c1 => ?_) (fun c1 => ?_)
  · have hF := (if_pos c1).symm.trans hF
    refine g_iconst (v := (0 : Int32)) X dJ6_isLatin1_17 (by decide) ?_
    cases hF
    exact g_zret X hr rfl dJ6_isLatin1_18
  · have hF := (if_neg c1).symm.trans hF
    refine g_aload_n X dJ6_isLatin1_6 rfl rfl ?_
    obtain ⟨v2, ev2, hF⟩ := bnd hF
    refine g_get (k := 1) X in_S6 rfl (by decide) q1117 (Or.inl rfl) (getI_V ev2) dJ6_isLatin1_7 ?_
    suffices K : G p l e R s m args below meth c (RQ D dA h0 (.inr (some (.int rE)), h0) below s) D dA h0 1 h0 18 [none] [.int (if v2 = 0 then (1 : Int32) else (0 : Int32))] by
      refine g_if_ne X 17 dJ6_isLatin1_10 (by decide) (fun c3 => ?_) (fun c3 => ?_)
      · (try simp only [if_neg c3] at K)
        refine g_iconst (v := (0 : Int32)) X dJ6_isLatin1_17 (by decide) ?_
        refine G.drop [false] rfl ?_
        first | exact K | (simp only [if_neg c3]; exact K)
      · (try simp only [if_pos c3] at K)
        refine g_iconst (v := (1 : Int32)) X dJ6_isLatin1_13 (by decide) ?_
        refine g_goto X 18 dJ6_isLatin1_14 (by decide) ?_
        refine G.drop [false] rfl ?_
        first | exact K | (simp only [if_pos c3]; exact K)
    cases hF
    exact g_zret X hr (by (repeat' split) <;> rfl) dJ6_isLatin1_18
def F_J6_coder (this : Nat) (h0 : HH) : Option Int32 :=
  if (1 : Int32) = 0 then (
    Option.bind (okB (1 : Int32)) fun _ =>
    some (1 : Int32)
  ) else (
    Option.bind (getI h0 11 1 (some this)) fun v3 =>
    Option.bind (okB v3) fun _ =>
    some v3
  )
set_option maxHeartbeats 4000000 in
theorem w_J6_coder (l : Launch) (hl : l.stackTraces = false) (D : va_G) (dA : Nat → ClassId) (h0 : HH) (this : Nat) (rE : Int32) (hF : F_J6_coder this h0 = some rE) : MC D dA l yJ6_coder cJ6_coder 1 (Option.some Jvm.ClassFile.FieldType.byte) [] 0 0 [va_rf (some this)] h0 (.inr (some (.int rE)), h0) := by
  refine mc_of hl (plainFor_of_name pn_J6) (by simp [lg_sl, cat_rf, cat_i, cat_j, cat_f, cat_d]) ?_
  intro p e s m args below meth c R hRf hRl X hr hnm
  unfold F_J6_coder at hF
  rw [show argL [va_rf (some this)] = [some (va_rf (some this))] from by simp [argL, cat_rf, cat_i, cat_j, cat_f, cat_d]]
  refine g_getsC X q1010 rfl dJ6_coder_0 ?_
  refine g_if_eq X 13 dJ6_coder_3 (by decide) (fun c1 => ?_) (fun c1 => ?_)
  · have hF := (if_pos c1).symm.trans hF
    refine g_iconst (v := (1 : Int32)) X dJ6_coder_13 (by decide) ?_
    obtain ⟨_, z2, hF⟩ := bnd hF
    cases hF
    exact g_zret X hr (narB z2) dJ6_coder_14
  · have hF := (if_neg c1).symm.trans hF
    refine g_aload_n X dJ6_coder_6 rfl rfl ?_
    obtain ⟨v3, ev3, hF⟩ := bnd hF
    refine g_get (k := 1) X in_S6 rfl (by decide) q1117 (Or.inl rfl) (getI_V ev3) dJ6_coder_7 ?_
    refine g_goto X 14 dJ6_coder_10 (by decide) ?_
    obtain ⟨_, z4, hF⟩ := bnd hF
    cases hF
    exact g_zret X hr (narB z4) dJ6_coder_14
def F_J6_length (this : Nat) (h0 : HH) : Option Int32 :=
  Option.bind (getR h0 11 0 (some this)) fun v1 =>
  Option.bind (alen h0 v1) fun v2 =>
  Option.bind (isO h0 11 (some this)) fun ob3 =>
  Option.bind (F_J6_coder ob3 h0) fun v4 =>
  some (v2 >>> (v4 &&& 31))
set_option maxHeartbeats 4000000 in
theorem w_J6_length (l : Launch) (hl : l.stackTraces = false) (D : va_G) (dA : Nat → ClassId) (h0 : HH) (this : Nat) (rE : Int32) (hF : F_J6_length this h0 = some rE) : MC D dA l yJ6_length cJ6_length 1 (Option.some Jvm.ClassFile.FieldType.int) [] 1 20 [va_rf (some this)] h0 (.inr (some (.int rE)), h0) := by
  refine mc_of hl (plainFor_of_name pn_J6) (by simp [lg_sl, cat_rf, cat_i, cat_j, cat_f, cat_d]) ?_
  intro p e s m args below meth c R hRf hRl X hr hnm
  unfold F_J6_length at hF
  rw [show argL [va_rf (some this)] = [some (va_rf (some this))] from by simp [argL, cat_rf, cat_i, cat_j, cat_f, cat_d]]
  refine g_aload_n X dJ6_length_0 rfl rfl ?_
  obtain ⟨v1, ev1, hF⟩ := bnd hF
  refine g_get (k := 0) X in_S6 rfl (by decide) q1116 (Or.inl rfl) (getR_V ev1) dJ6_length_1 ?_
  obtain ⟨v2, ev2, hF⟩ := bnd hF
  refine g_alen X ev2 dJ6_length_4 ?_
  refine g_aload_n X dJ6_length_5 rfl rfl ?_
  obtain ⟨ob3, eob3, hF⟩ := bnd hF
  obtain ⟨v4, ev4, hF⟩ := bnd hF
  refine g_callV X eob3 rfl rfl (w_J6_coder l hl D dA h0 ob3  v4 ev4) q1006 q1007 q1008 q101 q1009 okn_J6_coder ⟨by rw [hRf]; exact Nat.le_of_ble_eq_true rfl, by rw [hRl]; exact Nat.le_of_ble_eq_true rfl⟩ (As := []) (rest := [.int v2]) rfl (by first | exact Nat.le_of_ble_eq_true rfl | simp [cat_rf, cat_i, cat_j, cat_f, cat_d]) dJ6_length_6 (ac_v ?_)
  refine g_ishr X dJ6_length_9 ?_
  cases hF
  exact g_iret X hr dJ6_length_10
def F_J21_canEncode_2 (a1 : Int32) : Int32 :=
  (if a1 < 0 then (0 : Int32) else (if (255 : Int32) < a1 then (0 : Int32) else (1 : Int32)))
set_option maxHeartbeats 4000000 in
theorem w_J21_canEncode_2 (l : Launch) (hl : l.stackTraces = false) (D : va_G) (dA : Nat → ClassId) (h0 : HH) (a1 : Int32) : MC D dA l yJ21_canEncode_2 cJ21_canEncode_2 1 (Option.some Jvm.ClassFile.FieldType.boolean) [] 0 0 [.int a1] h0 (.inr (some (.int (F_J21_canEncode_2 a1))), h0) := by
  refine mc_of hl (plainFor_of_name pn_J21) (by simp [lg_sl, cat_rf, cat_i, cat_j, cat_f, cat_d]) ?_
  intro p e s m args below meth c R hRf hRl X hr hnm
  generalize hF : F_J21_canEncode_2 a1 = rE
  unfold F_J21_canEncode_2 at hF
  rw [show argL [.int a1] = [some (.int a1)] from by simp [argL, cat_rf, cat_i, cat_j, cat_f, cat_d]]
  refine g_iload_n X dJ21_canEncode_2_0 rfl rfl ?_
  suffices K : G p l e R s m args below meth c (RQ D dA h0 (.inr (some (.int rE)), h0) below s) D dA h0 1 h0 16 [none] [.int (if a1 < 0 then (0 : Int32) else (if (255 : Int32) < a1 then (0 : Int32) else (1 : Int32)))] by
    refine g_if_lt X 15 dJ21_canEncode_2_1 (by decide) (fun c1 => ?_) (fun c1 => ?_)
    · (try simp only [if_pos c1] at K)
      refine g_iconst (v := (0 : Int32)) X dJ21_canEncode_2_15 (by decide) ?_
      refine G.drop [false] rfl ?_
      first | exact K | (simp only [if_pos c1]; exact K)
    · (try simp only [if_neg c1] at K)
      refine g_iload_n X dJ21_canEncode_2_4 rfl rfl ?_
      refine g_sipush (v := (255 : Int32)) X dJ21_canEncode_2_5 (by decide) ?_
      refine g_icmp_gt X 15 dJ21_canEncode_2_8 (by decide) (fun c2 => ?_) (fun c2 => ?_)
      · (try simp only [if_pos c2] at K)
        refine g_iconst (v := (0 : Int32)) X dJ21_canEncode_2_15 (by decide) ?_
        refine G.drop [false] rfl ?_
        first | exact K | (simp only [if_neg c1, if_pos c2]; exact K)
      · (try simp only [if_neg c2] at K)
        refine g_iconst (v := (1 : Int32)) X dJ21_canEncode_2_11 (by decide) ?_
        refine g_goto X 16 dJ21_canEncode_2_12 (by decide) ?_
        refine G.drop [false] rfl ?_
        first | exact K | (simp only [if_neg c1, if_neg c2]; exact K)
  cases hF
  exact g_zret X hr (by (repeat' split) <;> rfl) dJ21_canEncode_2_16
def F_J21_indexOfChar_B7 (a1 : Option Nat) (a2 : Int32) (a3 : Int32) (a4 : Int32) (k4_1 : Int32) (x5_1 : Int32) (h0 : HH) : Option (Int32 ⊕ Int32) :=
  if a4 ≤ x5_1 then (
    some (.inr (-1 : Int32))
  ) else (
    Option.bind (aldI h0 1 a1 x5_1) fun v3 =>
    if v3 = k4_1 then (
      some (.inr x5_1)
    ) else (
      some (.inl (x5_1 + (1 : Int32)))
    )
  )
def F_J21_indexOfChar (a1 : Option Nat) (a2 : Int32) (a3 : Int32) (a4 : Int32) (h0 : HH) : Option Int32 :=
  Option.bind (lp (fun z => F_J21_indexOfChar_B7 a1 a2 a3 a4 (a2.toInt8.toInt32) z h0) 100000 a3) fun r5 =>
  some r5
set_option maxHeartbeats 4000000 in
theorem w_J21_indexOfChar (l : Launch) (hl : l.stackTraces = false) (D : va_G) (dA : Nat → ClassId) (h0 : HH) (a1 : Option Nat) (a2 : Int32) (a3 : Int32) (a4 : Int32) (rE : Int32) (hF : F_J21_indexOfChar a1 a2 a3 a4 h0 = some rE) : MC D dA l yJ21_indexOfChar cJ21_indexOfChar 6 (Option.some Jvm.ClassFile.FieldType.int) [] 0 0 [va_rf a1, .int a2, .int a3, .int a4] h0 (.inr (some (.int rE)), h0) := by
  refine mc_of hl (plainFor_of_name pn_J21) (by simp [lg_sl, cat_rf, cat_i, cat_j, cat_f, cat_d]) ?_
  intro p e s m args below meth c R hRf hRl X hr hnm
  unfold F_J21_indexOfChar at hF
  rw [show argL [va_rf a1, .int a2, .int a3, .int a4] = [some (va_rf a1), some (.int a2), some (.int a3), some (.int a4)] from by simp [argL, cat_rf, cat_i, cat_j, cat_f, cat_d]]
  refine G.pad 2 (L' := [some (va_rf a1), some (.int a2), some (.int a3), some (.int a4), none, none]) rfl ?_
  refine g_iload_n X dJ21_indexOfChar_0 rfl rfl ?_
  refine g_i2b X dJ21_indexOfChar_1 ?_
  refine g_istore (L' := [some (va_rf a1), some (.int a2), some (.int a3), some (.int a4), some (.int (a2.toInt8.toInt32)), none]) X dJ21_indexOfChar_2 (Nat.le_of_ble_eq_true rfl) (by first | rfl | simp [stL, rm1, clr2, cat_rf, cat_i, cat_j, cat_f, cat_d]) ?_
  refine g_iload_n X dJ21_indexOfChar_4 rfl rfl ?_
  refine g_istore (L' := [some (va_rf a1), some (.int a2), some (.int a3), some (.int a4), some (.int (a2.toInt8.toInt32)), some (.int a3)]) X dJ21_indexOfChar_5 (Nat.le_of_ble_eq_true rfl) (by first | rfl | simp [stL, rm1, clr2, cat_rf, cat_i, cat_j, cat_f, cat_d]) ?_
  refine G.drop [true, false, false, true, true, true] rfl ?_
  obtain ⟨r5, e6, hF⟩ := bnd hF
  refine lp_ind (Gs := (fun z => G p l e R s m args below meth c (RQ D dA h0 (.inr (some (.int rE)), h0) below s) D dA h0 6 h0 7 [some (va_rf a1), none, none, some (.int a4), some (.int (a2.toInt8.toInt32)), some (.int z)] [])) (Ge := (fun (z : Int32) => z = rE)) ?_ _ _ _ e6 ?_
  · intro x5_1 o hF hgo hr9
    change F_J21_indexOfChar_B7 a1 a2 a3 a4 (a2.toInt8.toInt32) x5_1 h0 = some o at hF
    generalize (a2.toInt8.toInt32) = k4_1 at hF hgo hr9 ⊢
    unfold F_J21_indexOfChar_B7 at hF
    show G p l e R s m args below meth c (RQ D dA h0 (.inr (some (.int rE)), h0) below s) D dA h0 6 h0 7 [some (va_rf a1), none, none, some (.int a4), some (.int k4_1), some (.int x5_1)] []
    refine g_iload X dJ21_indexOfChar_7 rfl ?_
    refine g_iload_n X dJ21_indexOfChar_9 rfl rfl ?_
    refine g_icmp_ge X 31 dJ21_indexOfChar_10 (by decide) (fun c2 => ?_) (fun c2 => ?_)
    · have hF := (if_pos c2).symm.trans hF
      refine g_iconst (v := (-1 : Int32)) X dJ21_indexOfChar_31 (by decide) ?_
      cases hF
      have hx : (-1 : Int32) = rE := hr9 _ rfl
      cases hx
      exact g_iret X hr dJ21_indexOfChar_32
    · have hF := (if_neg c2).symm.trans hF
      refine g_aload_n X dJ21_indexOfChar_13 rfl rfl ?_
      refine g_iload X dJ21_indexOfChar_14 rfl ?_
      obtain ⟨v3, ev3, hF⟩ := bnd hF
      refine g_bald X ev3 dJ21_indexOfChar_16 ?_
      refine g_iload X dJ21_indexOfChar_17 rfl ?_
      refine g_icmp_ne X 25 dJ21_indexOfChar_19 (by decide) (fun c4 => ?_) (fun c4 => ?_)
      · have hF := (if_neg c4).symm.trans hF
        refine g_iinc (v := (x5_1 + (1 : Int32))) (L' := [some (va_rf a1), none, none, some (.int a4), some (.int k4_1), some (.int (x5_1 + (1 : Int32)))]) X dJ21_indexOfChar_25 (Nat.le_of_ble_eq_true rfl) rfl rfl (by first | rfl | simp [stL, rm1, clr2, cat_rf, cat_i, cat_j, cat_f, cat_d]) ?_
        refine g_goto X 7 dJ21_indexOfChar_28 (by decide) ?_
        cases hF
        exact hgo _ rfl
      · have hF := (if_pos c4).symm.trans hF
        refine g_iload X dJ21_indexOfChar_22 rfl ?_
        cases hF
        have hx : x5_1 = rE := hr9 _ rfl
        cases hx
        exact g_iret X hr dJ21_indexOfChar_24
  exact Option.some.inj hF
def F_J21_indexOf (a1 : Option Nat) (a2 : Int32) (a3 : Int32) (a4 : Int32) (h0 : HH) : Option Int32 :=
  if (F_J21_canEncode_2 a2) = 0 then (
    some (-1 : Int32)
  ) else (
    Option.bind (alen h0 a1) fun v2 =>
    if (F_J11_max a3 (0 : Int32)) < (F_J11_min a4 v2) then (
      Option.bind (F_J21_indexOfChar a1 a2 (F_J11_max a3 (0 : Int32)) (F_J11_min a4 v2) h0) fun v4 =>
      some v4
    ) else (
      some (-1 : Int32)
    )
  )
set_option maxHeartbeats 4000000 in
theorem w_J21_indexOf (l : Launch) (hl : l.stackTraces = false) (D : va_G) (dA : Nat → ClassId) (h0 : HH) (a1 : Option Nat) (a2 : Int32) (a3 : Int32) (a4 : Int32) (rE : Int32) (hF : F_J21_indexOf a1 a2 a3 a4 h0 = some rE) : MC D dA l yJ21_indexOf cJ21_indexOf 4 (Option.some Jvm.ClassFile.FieldType.int) [] 1 25 [va_rf a1, .int a2, .int a3, .int a4] h0 (.inr (some (.int rE)), h0) := by
  refine mc_of hl (plainFor_of_name pn_J21) (by simp [lg_sl, cat_rf, cat_i, cat_j, cat_f, cat_d]) ?_
  intro p e s m args below meth c R hRf hRl X hr hnm
  unfold F_J21_indexOf at hF
  rw [show argL [va_rf a1, .int a2, .int a3, .int a4] = [some (va_rf a1), some (.int a2), some (.int a3), some (.int a4)] from by simp [argL, cat_rf, cat_i, cat_j, cat_f, cat_d]]
  refine g_iload_n X dJ21_indexOf_0 rfl rfl ?_
  refine g_callS X (w_J21_canEncode_2 l hl D dA h0 a2) q1680 q1681 q122 q1682 okn_J21_canEncode_2 ⟨by rw [hRf]; exact Nat.le_of_ble_eq_true rfl, by rw [hRl]; exact Nat.le_of_ble_eq_true rfl⟩ (As := [.int a2]) (rest := []) rfl (by first | exact Nat.le_of_ble_eq_true rfl | simp [cat_rf, cat_i, cat_j, cat_f, cat_d]) dJ21_indexOf_1 (ac_v ?_)
  refine g_if_ne X 9 dJ21_indexOf_4 (by decide) (fun c1 => ?_) (fun c1 => ?_)
  · have hF := (if_neg c1).symm.trans hF
    refine g_iload_n X dJ21_indexOf_9 rfl rfl ?_
    refine g_iconst (v := (0 : Int32)) X dJ21_indexOf_10 (by decide) ?_
    refine g_callS X (w_J11_max l hl D dA h0 a3 (0 : Int32)) q1683 q357 q108 q358 okn_J11_max ⟨by rw [hRf]; exact Nat.le_of_ble_eq_true rfl, by rw [hRl]; exact Nat.le_of_ble_eq_true rfl⟩ (As := [.int a3, .int (0 : Int32)]) (rest := []) rfl (by first | exact Nat.le_of_ble_eq_true rfl | simp [cat_rf, cat_i, cat_j, cat_f, cat_d]) dJ21_indexOf_11 (ac_v ?_)
    refine g_istore_n (L' := [some (va_rf a1), some (.int a2), some (.int (F_J11_max a3 (0 : Int32))), some (.int a4)]) X dJ21_indexOf_14 rfl (Nat.le_of_ble_eq_true rfl) (by first | rfl | simp [stL, rm1, clr2, cat_rf, cat_i, cat_j, cat_f, cat_d]) ?_
    refine g_iload_n X dJ21_indexOf_15 rfl rfl ?_
    refine g_aload_n X dJ21_indexOf_16 rfl rfl ?_
    obtain ⟨v2, ev2, hF⟩ := bnd hF
    refine g_alen X ev2 dJ21_indexOf_17 ?_
    refine g_callS X (w_J11_min l hl D dA h0 a4 v2) q1684 q391 q108 q392 okn_J11_min ⟨by rw [hRf]; exact Nat.le_of_ble_eq_true rfl, by rw [hRl]; exact Nat.le_of_ble_eq_true rfl⟩ (As := [.int a4, .int v2]) (rest := []) rfl (by first | exact Nat.le_of_ble_eq_true rfl | simp [cat_rf, cat_i, cat_j, cat_f, cat_d]) dJ21_indexOf_18 (ac_v ?_)
    refine g_istore_n (L' := [some (va_rf a1), some (.int a2), some (.int (F_J11_max a3 (0 : Int32))), some (.int (F_J11_min a4 v2))]) X dJ21_indexOf_21 rfl (Nat.le_of_ble_eq_true rfl) (by first | rfl | simp [stL, rm1, clr2, cat_rf, cat_i, cat_j, cat_f, cat_d]) ?_
    refine g_iload_n X dJ21_indexOf_22 rfl rfl ?_
    refine g_iload_n X dJ21_indexOf_23 rfl rfl ?_
    refine g_icmp_lt X 29 dJ21_indexOf_24 (by decide) (fun c3 => ?_) (fun c3 => ?_)
    · have hF := (if_pos c3).symm.trans hF
      refine g_aload_n X dJ21_indexOf_29 rfl rfl ?_
      refine g_iload_n X dJ21_indexOf_30 rfl rfl ?_
      refine g_iload_n X dJ21_indexOf_31 rfl rfl ?_
      refine g_iload_n X dJ21_indexOf_32 rfl rfl ?_
      obtain ⟨v4, ev4, hF⟩ := bnd hF
      refine g_callS X (w_J21_indexOfChar l hl D dA h0 a1 a2 (F_J11_max a3 (0 : Int32)) (F_J11_min a4 v2) v4 ev4) q1685 q1686 q122 q1687 okn_J21_indexOfChar ⟨by rw [hRf]; exact Nat.le_of_ble_eq_true rfl, by rw [hRl]; exact Nat.le_of_ble_eq_true rfl⟩ (As := [va_rf a1, .int a2, .int (F_J11_max a3 (0 : Int32)), .int (F_J11_min a4 v2)]) (rest := []) rfl (by first | exact Nat.le_of_ble_eq_true rfl | simp [cat_rf, cat_i, cat_j, cat_f, cat_d]) dJ21_indexOf_33 (ac_v ?_)
      cases hF
      exact g_iret X hr dJ21_indexOf_36
    · have hF := (if_neg c3).symm.trans hF
      refine g_iconst (v := (-1 : Int32)) X dJ21_indexOf_27 (by decide) ?_
      cases hF
      exact g_iret X hr dJ21_indexOf_28
  · have hF := (if_pos c1).symm.trans hF
    refine g_iconst (v := (-1 : Int32)) X dJ21_indexOf_7 (by decide) ?_
    cases hF
    exact g_iret X hr dJ21_indexOf_8
def F_J6_indexOf_2 (this : Nat) (a1 : Int32) (a2 : Int32) (h0 : HH) : Option Int32 :=
  Option.bind (isO h0 11 (some this)) fun ob1 =>
  Option.bind (F_J6_isLatin1 ob1 h0) fun v2 =>
  if v2 = 0 then (
    none
  ) else (
    Option.bind (getR h0 11 0 (some this)) fun v4 =>
    Option.bind (isO h0 11 (some this)) fun ob5 =>
    Option.bind (F_J6_length ob5 h0) fun v6 =>
    Option.bind (F_J21_indexOf v4 a1 a2 v6 h0) fun v7 =>
    some v7
  )
set_option maxHeartbeats 4000000 in
theorem w_J6_indexOf_2 (l : Launch) (hl : l.stackTraces = false) (D : va_G) (dA : Nat → ClassId) (h0 : HH) (this : Nat) (a1 : Int32) (a2 : Int32) (rE : Int32) (hF : F_J6_indexOf_2 this a1 a2 h0 = some rE) : MC D dA l yJ6_indexOf_2 cJ6_indexOf_2 3 (Option.some Jvm.ClassFile.FieldType.int) [] 2 48 [va_rf (some this), .int a1, .int a2] h0 (.inr (some (.int rE)), h0) := by
  refine mc_of hl (plainFor_of_name pn_J6) (by simp [lg_sl, cat_rf, cat_i, cat_j, cat_f, cat_d]) ?_
  intro p e s m args below meth c R hRf hRl X hr hnm
  unfold F_J6_indexOf_2 at hF
  rw [show argL [va_rf (some this), .int a1, .int a2] = [some (va_rf (some this)), some (.int a1), some (.int a2)] from by simp [argL, cat_rf, cat_i, cat_j, cat_f, cat_d]]
  refine g_aload_n X dJ6_indexOf_2_0 rfl rfl ?_
  obtain ⟨ob1, eob1, hF⟩ := bnd hF
  obtain ⟨v2, ev2, hF⟩ := bnd hF
  refine g_callV X eob1 rfl rfl (w_J6_isLatin1 l hl D dA h0 ob1  v2 ev2) q1672 q1673 q1674 q101 q1675 okn_J6_isLatin1 ⟨by rw [hRf]; exact Nat.le_of_ble_eq_true rfl, by rw [hRl]; exact Nat.le_of_ble_eq_true rfl⟩ (As := []) (rest := []) rfl (by first | exact Nat.le_of_ble_eq_true rfl | simp [cat_rf, cat_i, cat_j, cat_f, cat_d]) dJ6_indexOf_2_1 (ac_v ?_)
  refine g_if_eq X 23 dJ6_indexOf_2_4 (by decide) (fun c3 => ?_) (fun c3 => ?_)
  · have hF := (if_pos c3).symm.trans hF
    cases hF
  · have hF := (if_neg c3).symm.trans hF
    refine g_aload_n X dJ6_indexOf_2_7 rfl rfl ?_
    obtain ⟨v4, ev4, hF⟩ := bnd hF
    refine g_get (k := 0) X in_S6 rfl (by decide) q1116 (Or.inl rfl) (getR_V ev4) dJ6_indexOf_2_8 ?_
    refine g_iload_n X dJ6_indexOf_2_11 rfl rfl ?_
    refine g_iload_n X dJ6_indexOf_2_12 rfl rfl ?_
    refine g_aload_n X dJ6_indexOf_2_13 rfl rfl ?_
    obtain ⟨ob5, eob5, hF⟩ := bnd hF
    obtain ⟨v6, ev6, hF⟩ := bnd hF
    refine g_callV X eob5 rfl rfl (w_J6_length l hl D dA h0 ob5  v6 ev6) q1676 q1003 q1004 q101 q1005 okn_J6_length ⟨by rw [hRf]; exact Nat.le_of_ble_eq_true rfl, by rw [hRl]; exact Nat.le_of_ble_eq_true rfl⟩ (As := []) (rest := [.int a2, .int a1, va_rf v4]) rfl (by first | exact Nat.le_of_ble_eq_true rfl | simp [cat_rf, cat_i, cat_j, cat_f, cat_d]) dJ6_indexOf_2_14 (ac_v ?_)
    obtain ⟨v7, ev7, hF⟩ := bnd hF
    refine g_callS X (w_J21_indexOf l hl D dA h0 v4 a1 a2 v6 v7 ev7) q1677 q1678 q122 q1679 okn_J21_indexOf ⟨by rw [hRf]; exact Nat.le_of_ble_eq_true rfl, by rw [hRl]; exact Nat.le_of_ble_eq_true rfl⟩ (As := [va_rf v4, .int a1, .int a2, .int v6]) (rest := []) rfl (by first | exact Nat.le_of_ble_eq_true rfl | simp [cat_rf, cat_i, cat_j, cat_f, cat_d]) dJ6_indexOf_2_17 (ac_v ?_)
    refine g_goto X 36 dJ6_indexOf_2_20 (by decide) ?_
    cases hF
    exact g_iret X hr dJ6_indexOf_2_36
def F_J6_indexOf (this : Nat) (a1 : Int32) (h0 : HH) : Option Int32 :=
  Option.bind (isO h0 11 (some this)) fun ob1 =>
  Option.bind (F_J6_indexOf_2 ob1 a1 (0 : Int32) h0) fun v2 =>
  some v2
set_option maxHeartbeats 4000000 in
theorem w_J6_indexOf (l : Launch) (hl : l.stackTraces = false) (D : va_G) (dA : Nat → ClassId) (h0 : HH) (this : Nat) (a1 : Int32) (rE : Int32) (hF : F_J6_indexOf this a1 h0 = some rE) : MC D dA l yJ6_indexOf cJ6_indexOf 2 (Option.some Jvm.ClassFile.FieldType.int) [] 3 70 [va_rf (some this), .int a1] h0 (.inr (some (.int rE)), h0) := by
  refine mc_of hl (plainFor_of_name pn_J6) (by simp [lg_sl, cat_rf, cat_i, cat_j, cat_f, cat_d]) ?_
  intro p e s m args below meth c R hRf hRl X hr hnm
  unfold F_J6_indexOf at hF
  rw [show argL [va_rf (some this), .int a1] = [some (va_rf (some this)), some (.int a1)] from by simp [argL, cat_rf, cat_i, cat_j, cat_f, cat_d]]
  refine g_aload_n X dJ6_indexOf_0 rfl rfl ?_
  refine g_iload_n X dJ6_indexOf_1 rfl rfl ?_
  refine g_iconst (v := (0 : Int32)) X dJ6_indexOf_2 (by decide) ?_
  obtain ⟨ob1, eob1, hF⟩ := bnd hF
  obtain ⟨v2, ev2, hF⟩ := bnd hF
  refine g_callV X eob1 rfl rfl (w_J6_indexOf_2 l hl D dA h0 ob1 a1 (0 : Int32) v2 ev2) q1668 q1669 q1670 q101 q1671 okn_J6_indexOf_2 ⟨by rw [hRf]; exact Nat.le_of_ble_eq_true rfl, by rw [hRl]; exact Nat.le_of_ble_eq_true rfl⟩ (As := [.int a1, .int (0 : Int32)]) (rest := []) rfl (by first | exact Nat.le_of_ble_eq_true rfl | simp [cat_rf, cat_i, cat_j, cat_f, cat_d]) dJ6_indexOf_3 (ac_v ?_)
  cases hF
  exact g_iret X hr dJ6_indexOf_6
def F_X8_one_T62 (this : Nat) (t1_62 : Int32) (y0_62 : Int32) (h_62 : HH) : Option HH :=
  Option.bind (getI h_62 6 2 (some this)) fun v6 =>
  Option.bind (putV h_62 6 2 (some this) (.int (v6 + (if 0 ≤ y0_62 then (1 : Int32) else (0 : Int32))))) fun h8 =>
  Option.bind (isO h8 6 (some this)) fun ob9 =>
  b2 (F_X8_isOfForm ob9 y0_62 h8) fun v11 h10 =>
  if v11 = 0 then (
    Option.bind (putV h10 6 4 (some this) (.int (1 : Int32))) fun h25 =>
    Option.bind (getI h25 6 2 (some this)) fun v26 =>
    Option.bind (getI h25 6 3 (some this)) fun v27 =>
    Option.bind (putV h25 6 5 (some this) (.int (v26 - v27))) fun h28 =>
    some h28
  ) else (
    Option.bind (getR h10 6 0 (some this)) fun v13 =>
    Option.bind (getR h10 6 1 (some this)) fun v14 =>
    thr (F_X1_done v13 t1_62 v14 h10) (fun q17 h15 =>
      if q17.2 = "FerryClocks$Refused" then (
        Option.bind (putV h15 6 4 (some this) (.int (2 : Int32))) fun h22 =>
        Option.bind (getI h22 7 0 (some q17.1)) fun v23 =>
        Option.bind (putV h22 6 5 (some this) (.int v23)) fun h24 =>
        some h24
      ) else (
        none
      )
    ) (fun v16 h15 =>
      Option.bind (getI h15 6 6 (some this)) fun v19 =>
      Option.bind (putV h15 6 6 (some this) (.int (v19 + (1 : Int32)))) fun h20 =>
      some h20
    )
  )
def F_X8_one (this : Nat) (h0 : HH) : Option HH :=
  Option.bind (getR h0 6 7 (some this)) fun v1 =>
  Option.bind (getR h0 0 3 v1) fun v2 =>
  Option.bind (getI h0 6 2 (some this)) fun v3 =>
  Option.bind (isO h0 10 v2) fun ob4 =>
  Option.bind (F_J5_charAt ob4 v3 h0) fun v5 =>
  if v5 = (100 : Int32) then (
    F_X8_one_T62 this v5 (3 : Int32) h0
  ) else (
    Option.bind (isO h0 11 (some (hSa h0 5))) fun ob30 =>
    Option.bind (F_J6_indexOf ob30 v5 h0) fun v31 =>
    if v31 < 0 then (
      if v5 = (102 : Int32) then (
        F_X8_one_T62 this v5 (1 : Int32) h0
      ) else (
        Option.bind (isO h0 11 (some (hSa h0 6))) fun ob34 =>
        Option.bind (F_J6_indexOf ob34 v5 h0) fun v35 =>
        if v35 < 0 then (
          F_X8_one_T62 this v5 (-1 : Int32) h0
        ) else (
          F_X8_one_T62 this v5 (0 : Int32) h0
        )
      )
    ) else (
      F_X8_one_T62 this v5 (2 : Int32) h0
    )
  )
set_option maxHeartbeats 4000000 in
theorem w_X8_one (l : Launch) (hl : l.stackTraces = false) (D : va_G) (dA : Nat → ClassId) (h0 : HH) (this : Nat) (hE : HH) (hF : F_X8_one this h0 = some hE) : MC D dA l yX8_one cX8_one 4 (Option.none : Option Jvm.ClassFile.FieldType) [(108, 131, 134, 94)] 15 412 [va_rf (some this)] h0 (.inr none, hE) := by
  refine mc_of hl (plainFor_of_name pn_X8) (by simp [lg_sl, cat_rf, cat_i, cat_j, cat_f, cat_d]) ?_
  intro p e s m args below meth c R hRf hRl X hr hnm
  unfold F_X8_one at hF
  rw [show argL [va_rf (some this)] = [some (va_rf (some this))] from by simp [argL, cat_rf, cat_i, cat_j, cat_f, cat_d]]
  refine G.pad 3 (L' := [some (va_rf (some this)), none, none, none]) rfl ?_
  refine g_aload_n X dX8_one_0 rfl rfl ?_
  obtain ⟨v1, ev1, hF⟩ := bnd hF
  refine g_get (k := 7) X in_X8 rfl (by decide) q1625 (Or.inl rfl) (getR_V ev1) dX8_one_1 ?_
  obtain ⟨v2, ev2, hF⟩ := bnd hF
  refine g_getN (k := 3) X in_X1 rfl (by decide) (nw_in q258 rfl) rfl (getR_V ev2) dX8_one_4 ?_
  refine g_aload_n X dX8_one_7 rfl rfl ?_
  obtain ⟨v3, ev3, hF⟩ := bnd hF
  refine g_get (k := 2) X in_X8 rfl (by decide) q1616 (Or.inl rfl) (getI_V ev3) dX8_one_8 ?_
  obtain ⟨ob4, eob4, hF⟩ := bnd hF
  obtain ⟨v5, ev5, hF⟩ := bnd hF
  refine g_callV X eob4 rfl rfl (w_J5_charAt l hl D dA h0 ob4 v3 v5 ev5) q1653 q1654 q1655 q100 q1656 okn_J5_charAt ⟨by rw [hRf]; exact Nat.le_of_ble_eq_true rfl, by rw [hRl]; exact Nat.le_of_ble_eq_true rfl⟩ (As := [.int v3]) (rest := []) rfl (by first | exact Nat.le_of_ble_eq_true rfl | simp [cat_rf, cat_i, cat_j, cat_f, cat_d]) dX8_one_11 (ac_v ?_)
  refine g_istore_n (L' := [some (va_rf (some this)), some (.int v5), none, none]) X dX8_one_14 rfl (Nat.le_of_ble_eq_true rfl) (by first | rfl | simp [stL, rm1, clr2, cat_rf, cat_i, cat_j, cat_f, cat_d]) ?_
  refine g_iload_n X dX8_one_15 rfl rfl ?_
  refine g_bipush (v := (100 : Int32)) X dX8_one_16 (by decide) ?_
  have T62 : ∀ (t1_62 : Int32) (y0_62 : Int32) (h_62 : HH) , F_X8_one_T62 this t1_62 y0_62 h_62 = some hE → G p l e R s m args below meth c (RQ D dA h0 (.inr none, hE) below s) D dA h0 4 h_62 62 [some (va_rf (some this)), some (.int t1_62), none, none] [.int y0_62] := by
    intro t1_62 y0_62 h_62  hF 
    unfold F_X8_one_T62 at hF
    refine g_istore_n (L' := [some (va_rf (some this)), some (.int t1_62), some (.int y0_62), none]) X dX8_one_62 rfl (Nat.le_of_ble_eq_true rfl) (by first | rfl | simp [stL, rm1, clr2, cat_rf, cat_i, cat_j, cat_f, cat_d]) ?_
    refine g_aload_n X dX8_one_63 rfl rfl ?_
    refine g_dup X dX8_one_64 (cat_rf _) ?_
    obtain ⟨v6, ev6, hF⟩ := bnd hF
    refine g_get (k := 2) X in_X8 rfl (by decide) q1616 (Or.inl rfl) (getI_V ev6) dX8_one_65 ?_
    refine g_iload_n X dX8_one_68 rfl rfl ?_
    suffices K : G p l e R s m args below meth c (RQ D dA h0 (.inr none, hE) below s) D dA h0 4 h_62 77 [some (va_rf (some this)), some (.int t1_62), some (.int y0_62), none] [.int (if 0 ≤ y0_62 then (1 : Int32) else (0 : Int32)), .int v6, va_rf (some this)] by
      refine g_if_ge X 76 dX8_one_69 (by decide) (fun c7 => ?_) (fun c7 => ?_)
      · (try simp only [if_pos c7] at K)
        refine g_iconst (v := (1 : Int32)) X dX8_one_76 (by decide) ?_
        first | exact K | (simp only [if_pos c7]; exact K)
      · (try simp only [if_neg c7] at K)
        refine g_iconst (v := (0 : Int32)) X dX8_one_72 (by decide) ?_
        refine g_goto X 77 dX8_one_73 (by decide) ?_
        first | exact K | (simp only [if_neg c7]; exact K)
    refine g_iadd X dX8_one_77 ?_
    obtain ⟨h8, eh8, hF⟩ := bnd hF
    refine g_put (k := 2) X in_X8 tyX8 tyX8_ok nmX8 rfl (by decide) q1616 (Or.inl rfl) rfl (tyX8_ok 2 (by decide)) rfl rfl eh8 dX8_one_78 ?_
    refine g_aload_n X dX8_one_81 rfl rfl ?_
    refine g_iload_n X dX8_one_82 rfl rfl ?_
    obtain ⟨ob9, eob9, hF⟩ := bnd hF
    obtain ⟨v11, h10, eh10, hF⟩ := b2_some hF
    refine g_callV X eob9 rfl rfl (w_X8_isOfForm l hl D dA h8 ob9 y0_62 v11 h10 eh10) q1715 q1717 qs27 q124 q1718 okn_X8_isOfForm ⟨by rw [hRf]; exact Nat.le_of_ble_eq_true rfl, by rw [hRl]; exact Nat.le_of_ble_eq_true rfl⟩ (As := [.int y0_62]) (rest := []) rfl (by first | exact Nat.le_of_ble_eq_true rfl | simp [cat_rf, cat_i, cat_j, cat_f, cat_d]) dX8_one_83 (ac_v ?_)
    refine g_if_ne X 108 dX8_one_86 (by decide) (fun c12 => ?_) (fun c12 => ?_)
    · have hF := (if_neg c12).symm.trans hF
      refine g_aload_n X dX8_one_108 rfl rfl ?_
      obtain ⟨v13, ev13, hF⟩ := bnd hF
      refine g_get (k := 0) X in_X8 rfl (by decide) q1613 (Or.inl rfl) (getR_V ev13) dX8_one_109 ?_
      refine g_iload_n X dX8_one_112 rfl rfl ?_
      refine g_aload_n X dX8_one_113 rfl rfl ?_
      obtain ⟨v14, ev14, hF⟩ := bnd hF
      refine g_get (k := 1) X in_X8 rfl (by decide) q1615 (Or.inl rfl) (getR_V ev14) dX8_one_114 ?_
      rcases thr_some hF with ⟨q17, h15, e18, hF⟩ | ⟨v16, h15, e18, hF⟩
      · refine g_callSN X (w_X1_done l hl D dA h10 v13 t1_62 v14 (.inl q17) h15 e18) (nw_in q1730 rfl) q404 q92 q405 okn_X1_done ⟨by rw [hRf]; exact Nat.le_of_ble_eq_true rfl, by rw [hRl]; exact Nat.le_of_ble_eq_true rfl⟩ (As := [va_rf v13, .int t1_62, va_rf v14]) (rest := []) rfl (by first | exact Nat.le_of_ble_eq_true rfl | simp [cat_rf, cat_i, cat_j, cat_f, cat_d]) dX8_one_117 (ac_x ?_)
        by_cases c21 : q17.2 = "FerryClocks$Refused"
        · have hF := (if_pos c21).symm.trans hF
          refine gx_catch X (name := "FerryClocks$Refused") [] ⟨108, 131, 134, 94⟩ [] rfl (fun z hz => nomatch hz) rfl (by decide) q1652 (by rw [c21]; exact nw_in q424 rfl) ?_
          refine G.drop [true, false, false, false] rfl ?_
          refine g_astore_n (L' := [some (va_rf (some this)), none, none, some (va_rf (some q17.1))]) X dX8_one_134 rfl (Nat.le_of_ble_eq_true rfl) (by first | rfl | simp [stL, rm1, clr2, cat_rf, cat_i, cat_j, cat_f, cat_d]) ?_
          refine g_aload_n X dX8_one_135 rfl rfl ?_
          refine g_iconst (v := (2 : Int32)) X dX8_one_136 (by decide) ?_
          obtain ⟨h22, eh22, hF⟩ := bnd hF
          refine g_put (k := 4) X in_X8 tyX8 tyX8_ok nmX8 rfl (by decide) q1619 (Or.inl rfl) rfl (tyX8_ok 4 (by decide)) rfl rfl eh22 dX8_one_137 ?_
          refine g_aload_n X dX8_one_140 rfl rfl ?_
          refine g_aload_n X dX8_one_141 rfl rfl ?_
          obtain ⟨v23, ev23, hF⟩ := bnd hF
          refine g_getN (k := 0) X in_K6 rfl (by decide) (nw_in q473 rfl) rfl (getI_V ev23) dX8_one_142 ?_
          obtain ⟨h24, eh24, hF⟩ := bnd hF
          refine g_put (k := 5) X in_X8 tyX8 tyX8_ok nmX8 rfl (by decide) q1621 (Or.inl rfl) rfl (tyX8_ok 5 (by decide)) rfl rfl eh24 dX8_one_145 ?_
          cases hF
          exact g_vret X hr dX8_one_148
        · have hF := (if_neg c21).symm.trans hF
          cases hF
      · refine g_callSN X (w_X1_done l hl D dA h10 v13 t1_62 v14 (.inr v16) h15 e18) (nw_in q1730 rfl) q404 q92 q405 okn_X1_done ⟨by rw [hRf]; exact Nat.le_of_ble_eq_true rfl, by rw [hRl]; exact Nat.le_of_ble_eq_true rfl⟩ (As := [va_rf v13, .int t1_62, va_rf v14]) (rest := []) rfl (by first | exact Nat.le_of_ble_eq_true rfl | simp [cat_rf, cat_i, cat_j, cat_f, cat_d]) dX8_one_117 (ac_v ?_)
        refine g_istore_n (L' := [some (va_rf (some this)), some (.int t1_62), some (.int y0_62), some (.int v16)]) X dX8_one_120 rfl (Nat.le_of_ble_eq_true rfl) (by first | rfl | simp [stL, rm1, clr2, cat_rf, cat_i, cat_j, cat_f, cat_d]) ?_
        refine g_aload_n X dX8_one_121 rfl rfl ?_
        refine g_dup X dX8_one_122 (cat_rf _) ?_
        obtain ⟨v19, ev19, hF⟩ := bnd hF
        refine g_get (k := 6) X in_X8 rfl (by decide) q1623 (Or.inl rfl) (getI_V ev19) dX8_one_123 ?_
        refine g_iconst (v := (1 : Int32)) X dX8_one_126 (by decide) ?_
        refine g_iadd X dX8_one_127 ?_
        obtain ⟨h20, eh20, hF⟩ := bnd hF
        refine g_put (k := 6) X in_X8 tyX8 tyX8_ok nmX8 rfl (by decide) q1623 (Or.inl rfl) rfl (tyX8_ok 6 (by decide)) rfl rfl eh20 dX8_one_128 ?_
        refine g_goto X 148 dX8_one_131 (by decide) ?_
        cases hF
        exact g_vret X hr dX8_one_148
    · have hF := (if_pos c12).symm.trans hF
      refine g_aload_n X dX8_one_89 rfl rfl ?_
      refine g_iconst (v := (1 : Int32)) X dX8_one_90 (by decide) ?_
      obtain ⟨h25, eh25, hF⟩ := bnd hF
      refine g_put (k := 4) X in_X8 tyX8 tyX8_ok nmX8 rfl (by decide) q1619 (Or.inl rfl) rfl (tyX8_ok 4 (by decide)) rfl rfl eh25 dX8_one_91 ?_
      refine g_aload_n X dX8_one_94 rfl rfl ?_
      refine g_aload_n X dX8_one_95 rfl rfl ?_
      obtain ⟨v26, ev26, hF⟩ := bnd hF
      refine g_get (k := 2) X in_X8 rfl (by decide) q1616 (Or.inl rfl) (getI_V ev26) dX8_one_96 ?_
      refine g_aload_n X dX8_one_99 rfl rfl ?_
      obtain ⟨v27, ev27, hF⟩ := bnd hF
      refine g_get (k := 3) X in_X8 rfl (by decide) q1617 (Or.inl rfl) (getI_V ev27) dX8_one_100 ?_
      refine g_isub X dX8_one_103 ?_
      obtain ⟨h28, eh28, hF⟩ := bnd hF
      refine g_put (k := 5) X in_X8 tyX8 tyX8_ok nmX8 rfl (by decide) q1621 (Or.inl rfl) rfl (tyX8_ok 5 (by decide)) rfl rfl eh28 dX8_one_104 ?_
      cases hF
      exact g_vret X hr dX8_one_107
  refine g_icmp_ne X 25 dX8_one_18 (by decide) (fun c29 => ?_) (fun c29 => ?_)
  · have hF := (if_neg c29).symm.trans hF
    refine g_ldcS X 4 rfl dX8_one_25 ?_
    refine g_iload_n X dX8_one_27 rfl rfl ?_
    obtain ⟨ob30, eob30, hF⟩ := bnd hF
    obtain ⟨v31, ev31, hF⟩ := bnd hF
    refine g_callV X eob30 rfl rfl (w_J6_indexOf l hl D dA h0 ob30 v5 v31 ev31) q1664 q1665 q1666 q101 q1667 okn_J6_indexOf ⟨by rw [hRf]; exact Nat.le_of_ble_eq_true rfl, by rw [hRl]; exact Nat.le_of_ble_eq_true rfl⟩ (As := [.int v5]) (rest := []) rfl (by first | exact Nat.le_of_ble_eq_true rfl | simp [cat_rf, cat_i, cat_j, cat_f, cat_d]) dX8_one_28 (ac_v ?_)
    refine g_if_lt X 38 dX8_one_31 (by decide) (fun c32 => ?_) (fun c32 => ?_)
    · have hF := (if_pos c32).symm.trans hF
      refine g_iload_n X dX8_one_38 rfl rfl ?_
      refine g_bipush (v := (102 : Int32)) X dX8_one_39 (by decide) ?_
      refine g_icmp_ne X 48 dX8_one_41 (by decide) (fun c33 => ?_) (fun c33 => ?_)
      · have hF := (if_neg c33).symm.trans hF
        refine g_ldcS X 5 rfl dX8_one_48 ?_
        refine g_iload_n X dX8_one_50 rfl rfl ?_
        obtain ⟨ob34, eob34, hF⟩ := bnd hF
        obtain ⟨v35, ev35, hF⟩ := bnd hF
        refine g_callV X eob34 rfl rfl (w_J6_indexOf l hl D dA h0 ob34 v5 v35 ev35) q1664 q1665 q1666 q101 q1667 okn_J6_indexOf ⟨by rw [hRf]; exact Nat.le_of_ble_eq_true rfl, by rw [hRl]; exact Nat.le_of_ble_eq_true rfl⟩ (As := [.int v5]) (rest := []) rfl (by first | exact Nat.le_of_ble_eq_true rfl | simp [cat_rf, cat_i, cat_j, cat_f, cat_d]) dX8_one_51 (ac_v ?_)
        refine g_if_lt X 61 dX8_one_54 (by decide) (fun c36 => ?_) (fun c36 => ?_)
        · have hF := (if_pos c36).symm.trans hF
          refine g_iconst (v := (-1 : Int32)) X dX8_one_61 (by decide) ?_
          exact T62 _ _ _ hF
        · have hF := (if_neg c36).symm.trans hF
          refine g_iconst (v := (0 : Int32)) X dX8_one_57 (by decide) ?_
          refine g_goto X 62 dX8_one_58 (by decide) ?_
          exact T62 _ _ _ hF
      · have hF := (if_pos c33).symm.trans hF
        refine g_iconst (v := (1 : Int32)) X dX8_one_44 (by decide) ?_
        refine g_goto X 62 dX8_one_45 (by decide) ?_
        exact T62 _ _ _ hF
    · have hF := (if_neg c32).symm.trans hF
      refine g_iconst (v := (2 : Int32)) X dX8_one_34 (by decide) ?_
      refine g_goto X 62 dX8_one_35 (by decide) ?_
      exact T62 _ _ _ hF
  · have hF := (if_pos c29).symm.trans hF
    refine g_iconst (v := (3 : Int32)) X dX8_one_21 (by decide) ?_
    refine g_goto X 62 dX8_one_22 (by decide) ?_
    exact T62 _ _ _ hF
def F_X8_isWell_B0 (this : Nat) (h_1 : HH) : Option (HH ⊕ HH) :=
  Option.bind (getI h_1 6 4 (some this)) fun v2 =>
  if v2 = 0 then (
    Option.bind (getI h_1 6 2 (some this)) fun v4 =>
    Option.bind (getR h_1 6 7 (some this)) fun v5 =>
    Option.bind (getR h_1 0 3 v5) fun v6 =>
    Option.bind (isO h_1 10 v6) fun ob7 =>
    Option.bind (F_J5_length ob7 h_1) fun v8 =>
    if v8 ≤ v4 then (
      some (.inr h_1)
    ) else (
      Option.bind (getI h_1 6 2 (some this)) fun v10 =>
      Option.bind (putV h_1 6 3 (some this) (.int v10)) fun h11 =>
      Option.bind (isO h11 6 (some this)) fun ob12 =>
      Option.bind (F_X8_one ob12 h11) fun h13 =>
      some (.inl h13)
    )
  ) else (
    some (.inr h_1)
  )
def F_X8_isWell (this : Nat) (h0 : HH) : Option (Int32 × HH) :=
  Option.bind (lp (fun z => F_X8_isWell_B0 this  z) 100000 h0) fun h14 =>
  Option.bind (getI h14 6 4 (some this)) fun v15 =>
  some ((if v15 = 0 then (1 : Int32) else (0 : Int32)), h14)
set_option maxHeartbeats 4000000 in
theorem w_X8_isWell (l : Launch) (hl : l.stackTraces = false) (D : va_G) (dA : Nat → ClassId) (h0 : HH) (this : Nat) (rE : Int32) (hE : HH) (hF : F_X8_isWell this h0 = some (rE, hE)) : MC D dA l yX8_isWell cX8_isWell 1 (Option.some Jvm.ClassFile.FieldType.boolean) [] 16 435 [va_rf (some this)] h0 (.inr (some (.int rE)), hE) := by
  refine mc_of hl (plainFor_of_name pn_X8) (by simp [lg_sl, cat_rf, cat_i, cat_j, cat_f, cat_d]) ?_
  intro p e s m args below meth c R hRf hRl X hr hnm
  unfold F_X8_isWell at hF
  rw [show argL [va_rf (some this)] = [some (va_rf (some this))] from by simp [argL, cat_rf, cat_i, cat_j, cat_f, cat_d]]
  obtain ⟨h14, e17, hF⟩ := bnd hF
  refine lp_ind (Gs := (fun z => G p l e R s m args below meth c (RQ D dA h0 (.inr (some (.int rE)), hE) below s) D dA h0 1 z 0 [some (va_rf (some this))] [])) (Ge := (fun z => G p l e R s m args below meth c (RQ D dA h0 (.inr (some (.int rE)), hE) below s) D dA h0 1 z 39 [some (va_rf (some this))] [])) ?_ _ _ _ e17 ?_
  · intro h_1 o hF hgo hr
    change F_X8_isWell_B0 this  h_1 = some o at hF
    unfold F_X8_isWell_B0 at hF
    show G p l e R s m args below meth c (RQ D dA h0 (.inr (some (.int rE)), hE) below s) D dA h0 1 h_1 0 [some (va_rf (some this))] []
    refine g_aload_n X dX8_isWell_0 rfl rfl ?_
    obtain ⟨v2, ev2, hF⟩ := bnd hF
    refine g_get (k := 4) X in_X8 rfl (by decide) q1619 (Or.inl rfl) (getI_V ev2) dX8_isWell_1 ?_
    refine g_if_ne X 39 dX8_isWell_4 (by decide) (fun c3 => ?_) (fun c3 => ?_)
    · have hF := (if_neg c3).symm.trans hF
      cases hF
      exact hr _ rfl
    · have hF := (if_pos c3).symm.trans hF
      refine g_aload_n X dX8_isWell_7 rfl rfl ?_
      obtain ⟨v4, ev4, hF⟩ := bnd hF
      refine g_get (k := 2) X in_X8 rfl (by decide) q1616 (Or.inl rfl) (getI_V ev4) dX8_isWell_8 ?_
      refine g_aload_n X dX8_isWell_11 rfl rfl ?_
      obtain ⟨v5, ev5, hF⟩ := bnd hF
      refine g_get (k := 7) X in_X8 rfl (by decide) q1625 (Or.inl rfl) (getR_V ev5) dX8_isWell_12 ?_
      obtain ⟨v6, ev6, hF⟩ := bnd hF
      refine g_getN (k := 3) X in_X1 rfl (by decide) (nw_in q258 rfl) rfl (getR_V ev6) dX8_isWell_15 ?_
      obtain ⟨ob7, eob7, hF⟩ := bnd hF
      obtain ⟨v8, ev8, hF⟩ := bnd hF
      refine g_callV X eob7 rfl rfl (w_J5_length l hl D dA h_1 ob7  v8 ev8) q1647 q916 q917 q100 q918 okn_J5_length ⟨by rw [hRf]; exact Nat.le_of_ble_eq_true rfl, by rw [hRl]; exact Nat.le_of_ble_eq_true rfl⟩ (As := []) (rest := [.int v4]) rfl (by first | exact Nat.le_of_ble_eq_true rfl | simp [cat_rf, cat_i, cat_j, cat_f, cat_d]) dX8_isWell_18 (ac_v ?_)
      refine g_icmp_ge X 39 dX8_isWell_21 (by decide) (fun c9 => ?_) (fun c9 => ?_)
      · have hF := (if_pos c9).symm.trans hF
        cases hF
        exact hr _ rfl
      · have hF := (if_neg c9).symm.trans hF
        refine g_aload_n X dX8_isWell_24 rfl rfl ?_
        refine g_aload_n X dX8_isWell_25 rfl rfl ?_
        obtain ⟨v10, ev10, hF⟩ := bnd hF
        refine g_get (k := 2) X in_X8 rfl (by decide) q1616 (Or.inl rfl) (getI_V ev10) dX8_isWell_26 ?_
        obtain ⟨h11, eh11, hF⟩ := bnd hF
        refine g_put (k := 3) X in_X8 tyX8 tyX8_ok nmX8 rfl (by decide) q1617 (Or.inl rfl) rfl (tyX8_ok 3 (by decide)) rfl rfl eh11 dX8_isWell_29 ?_
        refine g_aload_n X dX8_isWell_32 rfl rfl ?_
        obtain ⟨ob12, eob12, hF⟩ := bnd hF
        obtain ⟨h13, eh13, hF⟩ := bnd hF
        refine g_callV X eob12 rfl rfl (w_X8_one l hl D dA h11 ob12  h13 eh13) q1648 q1650 qs26 q124 q1651 okn_X8_one ⟨by rw [hRf]; exact Nat.le_of_ble_eq_true rfl, by rw [hRl]; exact Nat.le_of_ble_eq_true rfl⟩ (As := []) (rest := []) rfl (by first | exact Nat.le_of_ble_eq_true rfl | simp [cat_rf, cat_i, cat_j, cat_f, cat_d]) dX8_isWell_33 (ac_0 ?_)
        refine g_goto X 0 dX8_isWell_36 (by decide) ?_
        cases hF
        exact hgo _ rfl
  show G p l e R s m args below meth c (RQ D dA h0 (.inr (some (.int rE)), hE) below s) D dA h0 1 h14 39 [some (va_rf (some this))] []
  refine g_aload_n X dX8_isWell_39 rfl rfl ?_
  obtain ⟨v15, ev15, hF⟩ := bnd hF
  refine g_get (k := 4) X in_X8 rfl (by decide) q1619 (Or.inl rfl) (getI_V ev15) dX8_isWell_40 ?_
  suffices K : G p l e R s m args below meth c (RQ D dA h0 (.inr (some (.int rE)), hE) below s) D dA h0 1 h14 51 [none] [.int (if v15 = 0 then (1 : Int32) else (0 : Int32))] by
    refine g_if_ne X 50 dX8_isWell_43 (by decide) (fun c16 => ?_) (fun c16 => ?_)
    · (try simp only [if_neg c16] at K)
      refine g_iconst (v := (0 : Int32)) X dX8_isWell_50 (by decide) ?_
      refine G.drop [false] rfl ?_
      first | exact K | (simp only [if_neg c16]; exact K)
    · (try simp only [if_pos c16] at K)
      refine g_iconst (v := (1 : Int32)) X dX8_isWell_46 (by decide) ?_
      refine g_goto X 51 dX8_isWell_47 (by decide) ?_
      refine G.drop [false] rfl ?_
      first | exact K | (simp only [if_pos c16]; exact K)
  cases hF
  exact g_zret X hr (by (repeat' split) <;> rfl) dX8_isWell_51
