def F_X4_spreads_B7 (this : Nat) (x1_2 : Int32) (h_2 : HH) : Option ((Int32 × HH) ⊕ HH) :=
  if (16 : Int32) ≤ x1_2 then (
    some (.inr h_2)
  ) else (
    Option.bind (getR h_2 1 9 (some this)) fun v4 =>
    Option.bind (astI h_2 v4 x1_2 (0 : Int32)) fun h5 =>
    some (.inl ((x1_2 + (1 : Int32)), h5))
  )
def F_X4_spreads_T147 (this : Nat) (x3_15 : Int32) (x4_20 : Int32) (y0_147 : Int32) (h_147 : HH) : Option ((Int32 × HH) ⊕ HH) :=
  if y0_147 = 0 then (
    some (.inl ((x4_20 + (1 : Int32)), h_147))
  ) else (
    Option.bind (isO h_147 1 (some this)) fun ob31 =>
    Option.bind (F_X4_line ob31 x4_20 (1 : Int32) h_147) fun v32 =>
    Option.bind (getR h_147 1 15 (some this)) fun v33 =>
    Option.bind (aldI h_147 0 v33 x3_15) fun v34 =>
    Option.bind (isO h_147 1 (some this)) fun ob35 =>
    Option.bind (F_X4_adds ob35 v32 (v34 + (1 : Int32)) h_147) fun h36 =>
    some (.inl ((x4_20 + (1 : Int32)), h36))
  )
def F_X4_spreads_B81 (this : Nat) (x3_15 : Int32) (x4_20 : Int32) (h_20 : HH) : Option ((Int32 × HH) ⊕ HH) :=
  Option.bind (getR h_20 1 0 (some this)) fun v21 =>
  Option.bind (aldI h_20 0 v21 (102 : Int32)) fun v22 =>
  if v22 ≤ x4_20 then (
    some (.inr h_20)
  ) else (
    Option.bind (getI h_20 1 16 (some this)) fun v24 =>
    if (120 : Int32) < v24 then (
      some (.inr h_20)
    ) else (
      Option.bind (isO h_20 1 (some this)) fun ob26 =>
      Option.bind (F_X4_line ob26 x4_20 (0 : Int32) h_20) fun v27 =>
      Option.bind (getR h_20 1 14 (some this)) fun v28 =>
      Option.bind (aldI h_20 0 v28 x3_15) fun v29 =>
      if v27 = v29 then (
        Option.bind (isO h_20 1 (some this)) fun ob38 =>
        b2 (F_X4_goes ob38 x3_15 x4_20 h_20) fun v40 h39 =>
        if v40 = 0 then (
          F_X4_spreads_T147 this x3_15 x4_20 (0 : Int32) h39
        ) else (
          Option.bind (isO h39 1 (some this)) fun ob42 =>
          Option.bind (F_X4_line ob42 x4_20 (1 : Int32) h39) fun v43 =>
          Option.bind (isO h39 1 (some this)) fun ob44 =>
          Option.bind (F_X4_isNew ob44 v43 h39) fun v45 =>
          if v45 = 0 then (
            F_X4_spreads_T147 this x3_15 x4_20 (0 : Int32) h39
          ) else (
            F_X4_spreads_T147 this x3_15 x4_20 (1 : Int32) h39
          )
        )
      ) else (
        F_X4_spreads_T147 this x3_15 x4_20 (0 : Int32) h_20
      )
    )
  )
def F_X4_spreads_B61 (this : Nat) (x3_15 : Int32) (h_15 : HH) : Option ((Int32 × HH) ⊕ HH) :=
  Option.bind (getI h_15 1 16 (some this)) fun v16 =>
  if v16 ≤ x3_15 then (
    some (.inr h_15)
  ) else (
    Option.bind (getI h_15 1 16 (some this)) fun v18 =>
    if (120 : Int32) < v18 then (
      some (.inr h_15)
    ) else (
      Option.bind (lp (fun z => F_X4_spreads_B81 this x3_15 z.1 z.2) 100000 ((0 : Int32), h_15)) fun h47 =>
      some (.inl ((x3_15 + (1 : Int32)), h47))
    )
  )
def F_X4_spreads_T59 (this : Nat) (h_59 : HH) : Option (Int32 × HH) :=
  Option.bind (lp (fun z => F_X4_spreads_B61 this z.1 z.2) 100000 ((0 : Int32), h_59)) fun h50 =>
  Option.bind (getI h50 1 16 (some this)) fun v51 =>
  some ((if (120 : Int32) < v51 then (0 : Int32) else (1 : Int32)), h50)
def F_X4_spreads (this : Nat) (h0 : HH) : Option (Int32 × HH) :=
  Option.bind (putV h0 1 16 (some this) (.int (0 : Int32))) fun h1 =>
  Option.bind (lp (fun z => F_X4_spreads_B7 this z.1 z.2) 100000 ((0 : Int32), h1)) fun h6 =>
  Option.bind (isO h6 1 (some this)) fun ob7 =>
  b2 (F_X4_delays ob7 h6) fun v9 h8 =>
  Option.bind (isO h8 1 (some this)) fun ob10 =>
  b2 (F_X4_staysIn ob10 (0 : Int32) h8) fun v12 h11 =>
  if (if v12 = 0 then (0 : Int32) else (if v9 < 0 then (0 : Int32) else (1 : Int32))) = 0 then (
    F_X4_spreads_T59 this  h11
  ) else (
    Option.bind (isO h11 1 (some this)) fun ob56 =>
    Option.bind (F_X4_adds ob56 (0 : Int32) (0 : Int32) h11) fun h57 =>
    F_X4_spreads_T59 this  h57
  )
set_option maxHeartbeats 4000000 in
theorem w_X4_spreads (l : Launch) (hl : l.stackTraces = false) (D : va_G) (dA : Nat → ClassId) (h0 : HH) (this : Nat) (rE : Int32) (hE : HH) (hF : F_X4_spreads this h0 = some (rE, hE)) : MC D dA l yX4_spreads cX4_spreads 6 (Option.some Jvm.ClassFile.FieldType.boolean) [] 4 93 [va_rf (some this)] h0 (.inr (some (.int rE)), hE) := by
  refine mc_of hl (plainFor_of_name pn_X4) (by simp [lg_sl, cat_rf, cat_i, cat_j, cat_f, cat_d]) ?_
  intro p e s m args below meth c R hRf hRl X hr hnm
  unfold F_X4_spreads at hF
  rw [show argL [va_rf (some this)] = [some (va_rf (some this))] from by simp [argL, cat_rf, cat_i, cat_j, cat_f, cat_d]]
  refine G.pad 5 (L' := [some (va_rf (some this)), none, none, none, none, none]) rfl ?_
  refine g_aload_n X dX4_spreads_0 rfl rfl ?_
  refine g_iconst (v := (0 : Int32)) X dX4_spreads_1 (by decide) ?_
  obtain ⟨h1, eh1, hF⟩ := bnd hF
  refine g_put (k := 16) X in_X4 tyX4 tyX4_ok nmX4 rfl (by decide) q1779 (Or.inl rfl) rfl (tyX4_ok 16 (by decide)) rfl rfl eh1 dX4_spreads_2 ?_
  refine g_iconst (v := (0 : Int32)) X dX4_spreads_5 (by decide) ?_
  refine g_istore_n (L' := [some (va_rf (some this)), some (.int (0 : Int32)), none, none, none, none]) X dX4_spreads_6 rfl (Nat.le_of_ble_eq_true rfl) (by first | rfl | simp [stL, rm1, clr2, cat_rf, cat_i, cat_j, cat_f, cat_d]) ?_
  obtain ⟨h6, e58, hF⟩ := bnd hF
  refine lp_ind (Gs := (fun z => G p l e R s m args below meth c (RQ D dA h0 (.inr (some (.int rE)), hE) below s) D dA h0 6 z.2 7 [some (va_rf (some this)), some (.int z.1), none, none, none, none] [])) (Ge := (fun z => G p l e R s m args below meth c (RQ D dA h0 (.inr (some (.int rE)), hE) below s) D dA h0 6 z 26 [some (va_rf (some this)), none, none, none, none, none] [])) ?_ _ _ _ e58 ?_
  · rintro ⟨x1_2, h_2⟩ o hF hgo hr
    change F_X4_spreads_B7 this x1_2 h_2 = some o at hF
    unfold F_X4_spreads_B7 at hF
    show G p l e R s m args below meth c (RQ D dA h0 (.inr (some (.int rE)), hE) below s) D dA h0 6 h_2 7 [some (va_rf (some this)), some (.int x1_2), none, none, none, none] []
    refine g_iload_n X dX4_spreads_7 rfl rfl ?_
    refine g_bipush (v := (16 : Int32)) X dX4_spreads_8 (by decide) ?_
    refine g_icmp_ge X 26 dX4_spreads_10 (by decide) (fun c3 => ?_) (fun c3 => ?_)
    · have hF := (if_pos c3).symm.trans hF
      refine G.drop [true, false, false, false, false, false] rfl ?_
      cases hF
      exact hr _ rfl
    · have hF := (if_neg c3).symm.trans hF
      refine g_aload_n X dX4_spreads_13 rfl rfl ?_
      obtain ⟨v4, ev4, hF⟩ := bnd hF
      refine g_get (k := 9) X in_X4 rfl (by decide) q1772 (Or.inl rfl) (getR_V ev4) dX4_spreads_14 ?_
      refine g_iload_n X dX4_spreads_17 rfl rfl ?_
      refine g_iconst (v := (0 : Int32)) X dX4_spreads_18 (by decide) ?_
      obtain ⟨h5, eh5, hF⟩ := bnd hF
      refine g_iast X eh5 dX4_spreads_19 ?_
      refine g_iinc (v := (x1_2 + (1 : Int32))) (L' := [some (va_rf (some this)), some (.int (x1_2 + (1 : Int32))), none, none, none, none]) X dX4_spreads_20 (Nat.le_of_ble_eq_true rfl) rfl rfl (by first | rfl | simp [stL, rm1, clr2, cat_rf, cat_i, cat_j, cat_f, cat_d]) ?_
      refine g_goto X 7 dX4_spreads_23 (by decide) ?_
      cases hF
      exact hgo _ rfl
  show G p l e R s m args below meth c (RQ D dA h0 (.inr (some (.int rE)), hE) below s) D dA h0 6 h6 26 [some (va_rf (some this)), none, none, none, none, none] []
  refine g_aload_n X dX4_spreads_26 rfl rfl ?_
  obtain ⟨ob7, eob7, hF⟩ := bnd hF
  obtain ⟨v9, h8, eh8, hF⟩ := b2_some hF
  refine g_callV X eob7 rfl rfl (w_X4_delays l hl D dA h6 ob7  v9 h8 eh8) q1971 q1973 qs48 q103 q1974 okn_X4_delays ⟨by rw [hRf]; exact Nat.le_of_ble_eq_true rfl, by rw [hRl]; exact Nat.le_of_ble_eq_true rfl⟩ (As := []) (rest := []) rfl (by first | exact Nat.le_of_ble_eq_true rfl | simp [cat_rf, cat_i, cat_j, cat_f, cat_d]) dX4_spreads_27 (ac_v ?_)
  refine g_istore_n (L' := [some (va_rf (some this)), some (.int v9), none, none, none, none]) X dX4_spreads_30 rfl (Nat.le_of_ble_eq_true rfl) (by first | rfl | simp [stL, rm1, clr2, cat_rf, cat_i, cat_j, cat_f, cat_d]) ?_
  refine g_aload_n X dX4_spreads_31 rfl rfl ?_
  refine g_iconst (v := (0 : Int32)) X dX4_spreads_32 (by decide) ?_
  obtain ⟨ob10, eob10, hF⟩ := bnd hF
  obtain ⟨v12, h11, eh11, hF⟩ := b2_some hF
  refine g_callV X eob10 rfl rfl (w_X4_staysIn l hl D dA h8 ob10 (0 : Int32) v12 h11 eh11) q2210 q2212 qs70 q103 q2213 okn_X4_staysIn ⟨by rw [hRf]; exact Nat.le_of_ble_eq_true rfl, by rw [hRl]; exact Nat.le_of_ble_eq_true rfl⟩ (As := [.int (0 : Int32)]) (rest := []) rfl (by first | exact Nat.le_of_ble_eq_true rfl | simp [cat_rf, cat_i, cat_j, cat_f, cat_d]) dX4_spreads_33 (ac_v ?_)
  suffices K : G p l e R s m args below meth c (RQ D dA h0 (.inr (some (.int rE)), hE) below s) D dA h0 6 h11 48 [some (va_rf (some this)), none, none, none, none, none] [.int (if v12 = 0 then (0 : Int32) else (if v9 < 0 then (0 : Int32) else (1 : Int32)))] by
    refine g_if_eq X 47 dX4_spreads_36 (by decide) (fun c13 => ?_) (fun c13 => ?_)
    · (try simp only [if_pos c13] at K)
      refine g_iconst (v := (0 : Int32)) X dX4_spreads_47 (by decide) ?_
      refine G.drop [true, false, false, false, false, false] rfl ?_
      first | exact K | (simp only [if_pos c13]; exact K)
    · (try simp only [if_neg c13] at K)
      refine g_iload_n X dX4_spreads_39 rfl rfl ?_
      refine g_if_lt X 47 dX4_spreads_40 (by decide) (fun c14 => ?_) (fun c14 => ?_)
      · (try simp only [if_pos c14] at K)
        refine g_iconst (v := (0 : Int32)) X dX4_spreads_47 (by decide) ?_
        refine G.drop [true, false, false, false, false, false] rfl ?_
        first | exact K | (simp only [if_neg c13, if_pos c14]; exact K)
      · (try simp only [if_neg c14] at K)
        refine g_iconst (v := (1 : Int32)) X dX4_spreads_43 (by decide) ?_
        refine g_goto X 48 dX4_spreads_44 (by decide) ?_
        refine G.drop [true, false, false, false, false, false] rfl ?_
        first | exact K | (simp only [if_neg c13, if_neg c14]; exact K)
  refine g_istore_n (L' := [some (va_rf (some this)), none, some (.int (if v12 = 0 then (0 : Int32) else (if v9 < 0 then (0 : Int32) else (1 : Int32)))), none, none, none]) X dX4_spreads_48 rfl (Nat.le_of_ble_eq_true rfl) (by first | rfl | simp [stL, rm1, clr2, cat_rf, cat_i, cat_j, cat_f, cat_d]) ?_
  refine g_iload_n X dX4_spreads_49 rfl rfl ?_
  have T59 : ∀  (h_59 : HH) , F_X4_spreads_T59 this  h_59 = some (rE, hE) → G p l e R s m args below meth c (RQ D dA h0 (.inr (some (.int rE)), hE) below s) D dA h0 6 h_59 59 [some (va_rf (some this)), none, none, none, none, none] [] := by
    intro  h_59  hF 
    unfold F_X4_spreads_T59 at hF
    refine g_iconst (v := (0 : Int32)) X dX4_spreads_59 (by decide) ?_
    refine g_istore_n (L' := [some (va_rf (some this)), none, none, some (.int (0 : Int32)), none, none]) X dX4_spreads_60 rfl (Nat.le_of_ble_eq_true rfl) (by first | rfl | simp [stL, rm1, clr2, cat_rf, cat_i, cat_j, cat_f, cat_d]) ?_
    obtain ⟨h50, e53, hF⟩ := bnd hF
    refine lp_ind (Gs := (fun z => G p l e R s m args below meth c (RQ D dA h0 (.inr (some (.int rE)), hE) below s) D dA h0 6 z.2 61 [some (va_rf (some this)), none, none, some (.int z.1), none, none] [])) (Ge := (fun z => G p l e R s m args below meth c (RQ D dA h0 (.inr (some (.int rE)), hE) below s) D dA h0 6 z 185 [some (va_rf (some this)), none, none, none, none, none] [])) ?_ _ _ _ e53 ?_
    · rintro ⟨x3_15, h_15⟩ o hF hgo hr
      change F_X4_spreads_B61 this x3_15 h_15 = some o at hF
      unfold F_X4_spreads_B61 at hF
      show G p l e R s m args below meth c (RQ D dA h0 (.inr (some (.int rE)), hE) below s) D dA h0 6 h_15 61 [some (va_rf (some this)), none, none, some (.int x3_15), none, none] []
      refine g_iload_n X dX4_spreads_61 rfl rfl ?_
      refine g_aload_n X dX4_spreads_62 rfl rfl ?_
      obtain ⟨v16, ev16, hF⟩ := bnd hF
      refine g_get (k := 16) X in_X4 rfl (by decide) q1779 (Or.inl rfl) (getI_V ev16) dX4_spreads_63 ?_
      refine g_icmp_ge X 185 dX4_spreads_66 (by decide) (fun c17 => ?_) (fun c17 => ?_)
      · have hF := (if_pos c17).symm.trans hF
        refine G.drop [true, false, false, false, false, false] rfl ?_
        cases hF
        exact hr _ rfl
      · have hF := (if_neg c17).symm.trans hF
        refine g_aload_n X dX4_spreads_69 rfl rfl ?_
        obtain ⟨v18, ev18, hF⟩ := bnd hF
        refine g_get (k := 16) X in_X4 rfl (by decide) q1779 (Or.inl rfl) (getI_V ev18) dX4_spreads_70 ?_
        refine g_bipush (v := (120 : Int32)) X dX4_spreads_73 (by decide) ?_
        refine g_icmp_gt X 185 dX4_spreads_75 (by decide) (fun c19 => ?_) (fun c19 => ?_)
        · have hF := (if_pos c19).symm.trans hF
          refine G.drop [true, false, false, false, false, false] rfl ?_
          cases hF
          exact hr _ rfl
        · have hF := (if_neg c19).symm.trans hF
          refine g_iconst (v := (0 : Int32)) X dX4_spreads_78 (by decide) ?_
          refine g_istore (L' := [some (va_rf (some this)), none, none, some (.int x3_15), some (.int (0 : Int32)), none]) X dX4_spreads_79 (Nat.le_of_ble_eq_true rfl) (by first | rfl | simp [stL, rm1, clr2, cat_rf, cat_i, cat_j, cat_f, cat_d]) ?_
          obtain ⟨h47, e48, hF⟩ := bnd hF
          refine lp_ind (Gs := (fun z => G p l e R s m args below meth c (RQ D dA h0 (.inr (some (.int rE)), hE) below s) D dA h0 6 z.2 81 [some (va_rf (some this)), none, none, some (.int x3_15), some (.int z.1), none] [])) (Ge := (fun z => G p l e R s m args below meth c (RQ D dA h0 (.inr (some (.int rE)), hE) below s) D dA h0 6 z 179 [some (va_rf (some this)), none, none, some (.int x3_15), none, none] [])) ?_ _ _ _ e48 ?_
          · rintro ⟨x4_20, h_20⟩ o hF hgo hr
            change F_X4_spreads_B81 this x3_15 x4_20 h_20 = some o at hF
            unfold F_X4_spreads_B81 at hF
            show G p l e R s m args below meth c (RQ D dA h0 (.inr (some (.int rE)), hE) below s) D dA h0 6 h_20 81 [some (va_rf (some this)), none, none, some (.int x3_15), some (.int x4_20), none] []
            refine g_iload X dX4_spreads_81 rfl ?_
            refine g_aload_n X dX4_spreads_83 rfl rfl ?_
            obtain ⟨v21, ev21, hF⟩ := bnd hF
            refine g_get (k := 0) X in_X4 rfl (by decide) q1763 (Or.inl rfl) (getR_V ev21) dX4_spreads_84 ?_
            refine g_bipush (v := (102 : Int32)) X dX4_spreads_87 (by decide) ?_
            obtain ⟨v22, ev22, hF⟩ := bnd hF
            refine g_iald X ev22 dX4_spreads_89 ?_
            refine g_icmp_ge X 179 dX4_spreads_90 (by decide) (fun c23 => ?_) (fun c23 => ?_)
            · have hF := (if_pos c23).symm.trans hF
              refine G.drop [true, false, false, true, false, false] rfl ?_
              cases hF
              exact hr _ rfl
            · have hF := (if_neg c23).symm.trans hF
              refine g_aload_n X dX4_spreads_93 rfl rfl ?_
              obtain ⟨v24, ev24, hF⟩ := bnd hF
              refine g_get (k := 16) X in_X4 rfl (by decide) q1779 (Or.inl rfl) (getI_V ev24) dX4_spreads_94 ?_
              refine g_bipush (v := (120 : Int32)) X dX4_spreads_97 (by decide) ?_
              refine g_icmp_gt X 179 dX4_spreads_99 (by decide) (fun c25 => ?_) (fun c25 => ?_)
              · have hF := (if_pos c25).symm.trans hF
                refine G.drop [true, false, false, true, false, false] rfl ?_
                cases hF
                exact hr _ rfl
              · have hF := (if_neg c25).symm.trans hF
                refine g_aload_n X dX4_spreads_102 rfl rfl ?_
                refine g_iload X dX4_spreads_103 rfl ?_
                refine g_iconst (v := (0 : Int32)) X dX4_spreads_105 (by decide) ?_
                obtain ⟨ob26, eob26, hF⟩ := bnd hF
                obtain ⟨v27, ev27, hF⟩ := bnd hF
                refine g_callV X eob26 rfl rfl (w_X4_line l hl D dA h_20 ob26 x4_20 (0 : Int32) v27 ev27) q2064 q2066 qs59 q103 q2067 okn_X4_line ⟨by rw [hRf]; exact Nat.le_of_ble_eq_true rfl, by rw [hRl]; exact Nat.le_of_ble_eq_true rfl⟩ (As := [.int x4_20, .int (0 : Int32)]) (rest := []) rfl (by first | exact Nat.le_of_ble_eq_true rfl | simp [cat_rf, cat_i, cat_j, cat_f, cat_d]) dX4_spreads_106 (ac_v ?_)
                refine g_aload_n X dX4_spreads_109 rfl rfl ?_
                obtain ⟨v28, ev28, hF⟩ := bnd hF
                refine g_get (k := 14) X in_X4 rfl (by decide) q1777 (Or.inl rfl) (getR_V ev28) dX4_spreads_110 ?_
                refine g_iload_n X dX4_spreads_113 rfl rfl ?_
                obtain ⟨v29, ev29, hF⟩ := bnd hF
                refine g_iald X ev29 dX4_spreads_114 ?_
                have T147 : ∀ (y0_147 : Int32) (h_147 : HH) (o : (Int32 × HH) ⊕ HH), F_X4_spreads_T147 this x3_15 x4_20 y0_147 h_147 = some o → (∀ y, o = .inl y → (fun z => G p l e R s m args below meth c (RQ D dA h0 (.inr (some (.int rE)), hE) below s) D dA h0 6 z.2 81 [some (va_rf (some this)), none, none, some (.int x3_15), some (.int z.1), none] []) y) → (∀ r, o = .inr r → (fun z => G p l e R s m args below meth c (RQ D dA h0 (.inr (some (.int rE)), hE) below s) D dA h0 6 z 179 [some (va_rf (some this)), none, none, some (.int x3_15), none, none] []) r) → G p l e R s m args below meth c (RQ D dA h0 (.inr (some (.int rE)), hE) below s) D dA h0 6 h_147 147 [some (va_rf (some this)), none, none, some (.int x3_15), some (.int x4_20), none] [.int y0_147] := by
                  intro y0_147 h_147 o hF hgo hr
                  unfold F_X4_spreads_T147 at hF
                  refine g_istore (L' := [some (va_rf (some this)), none, none, some (.int x3_15), some (.int x4_20), some (.int y0_147)]) X dX4_spreads_147 (Nat.le_of_ble_eq_true rfl) (by first | rfl | simp [stL, rm1, clr2, cat_rf, cat_i, cat_j, cat_f, cat_d]) ?_
                  refine g_iload X dX4_spreads_149 rfl ?_
                  refine g_if_eq X 173 dX4_spreads_151 (by decide) (fun c30 => ?_) (fun c30 => ?_)
                  · have hF := (if_pos c30).symm.trans hF
                    refine g_iinc (v := (x4_20 + (1 : Int32))) (L' := [some (va_rf (some this)), none, none, some (.int x3_15), some (.int (x4_20 + (1 : Int32))), some (.int y0_147)]) X dX4_spreads_173 (Nat.le_of_ble_eq_true rfl) rfl rfl (by first | rfl | simp [stL, rm1, clr2, cat_rf, cat_i, cat_j, cat_f, cat_d]) ?_
                    refine g_goto X 81 dX4_spreads_176 (by decide) ?_
                    refine G.drop [true, false, false, true, true, false] rfl ?_
                    cases hF
                    exact hgo _ rfl
                  · have hF := (if_neg c30).symm.trans hF
                    refine g_aload_n X dX4_spreads_154 rfl rfl ?_
                    refine g_aload_n X dX4_spreads_155 rfl rfl ?_
                    refine g_iload X dX4_spreads_156 rfl ?_
                    refine g_iconst (v := (1 : Int32)) X dX4_spreads_158 (by decide) ?_
                    obtain ⟨ob31, eob31, hF⟩ := bnd hF
                    obtain ⟨v32, ev32, hF⟩ := bnd hF
                    refine g_callV X eob31 rfl rfl (w_X4_line l hl D dA h_147 ob31 x4_20 (1 : Int32) v32 ev32) q2064 q2066 qs59 q103 q2067 okn_X4_line ⟨by rw [hRf]; exact Nat.le_of_ble_eq_true rfl, by rw [hRl]; exact Nat.le_of_ble_eq_true rfl⟩ (As := [.int x4_20, .int (1 : Int32)]) (rest := [va_rf (some this)]) rfl (by first | exact Nat.le_of_ble_eq_true rfl | simp [cat_rf, cat_i, cat_j, cat_f, cat_d]) dX4_spreads_159 (ac_v ?_)
                    refine g_aload_n X dX4_spreads_162 rfl rfl ?_
                    obtain ⟨v33, ev33, hF⟩ := bnd hF
                    refine g_get (k := 15) X in_X4 rfl (by decide) q1778 (Or.inl rfl) (getR_V ev33) dX4_spreads_163 ?_
                    refine g_iload_n X dX4_spreads_166 rfl rfl ?_
                    obtain ⟨v34, ev34, hF⟩ := bnd hF
                    refine g_iald X ev34 dX4_spreads_167 ?_
                    refine g_iconst (v := (1 : Int32)) X dX4_spreads_168 (by decide) ?_
                    refine g_iadd X dX4_spreads_169 ?_
                    obtain ⟨ob35, eob35, hF⟩ := bnd hF
                    obtain ⟨h36, eh36, hF⟩ := bnd hF
                    refine g_callV X eob35 rfl rfl (w_X4_adds l hl D dA h_147 ob35 v32 (v34 + (1 : Int32)) h36 eh36) q2214 q2216 qs71 q103 q2217 okn_X4_adds ⟨by rw [hRf]; exact Nat.le_of_ble_eq_true rfl, by rw [hRl]; exact Nat.le_of_ble_eq_true rfl⟩ (As := [.int v32, .int (v34 + (1 : Int32))]) (rest := []) rfl (by first | exact Nat.le_of_ble_eq_true rfl | simp [cat_rf, cat_i, cat_j, cat_f, cat_d]) dX4_spreads_170 (ac_0 ?_)
                    refine g_iinc (v := (x4_20 + (1 : Int32))) (L' := [some (va_rf (some this)), none, none, some (.int x3_15), some (.int (x4_20 + (1 : Int32))), some (.int y0_147)]) X dX4_spreads_173 (Nat.le_of_ble_eq_true rfl) rfl rfl (by first | rfl | simp [stL, rm1, clr2, cat_rf, cat_i, cat_j, cat_f, cat_d]) ?_
                    refine g_goto X 81 dX4_spreads_176 (by decide) ?_
                    refine G.drop [true, false, false, true, true, false] rfl ?_
                    cases hF
                    exact hgo _ rfl
                refine g_icmp_ne X 146 dX4_spreads_115 (by decide) (fun c37 => ?_) (fun c37 => ?_)
                · have hF := (if_neg c37).symm.trans hF
                  refine g_iconst (v := (0 : Int32)) X dX4_spreads_146 (by decide) ?_
                  exact T147 _ _ _ hF hgo hr
                · have hF := (if_pos c37).symm.trans hF
                  refine g_aload_n X dX4_spreads_118 rfl rfl ?_
                  refine g_iload_n X dX4_spreads_119 rfl rfl ?_
                  refine g_iload X dX4_spreads_120 rfl ?_
                  obtain ⟨ob38, eob38, hF⟩ := bnd hF
                  obtain ⟨v40, h39, eh39, hF⟩ := b2_some hF
                  refine g_callV X eob38 rfl rfl (w_X4_goes l hl D dA h_20 ob38 x3_15 x4_20 v40 h39 eh39) q2218 q2220 qs72 q103 q2221 okn_X4_goes ⟨by rw [hRf]; exact Nat.le_of_ble_eq_true rfl, by rw [hRl]; exact Nat.le_of_ble_eq_true rfl⟩ (As := [.int x3_15, .int x4_20]) (rest := []) rfl (by first | exact Nat.le_of_ble_eq_true rfl | simp [cat_rf, cat_i, cat_j, cat_f, cat_d]) dX4_spreads_122 (ac_v ?_)
                  refine g_if_eq X 146 dX4_spreads_125 (by decide) (fun c41 => ?_) (fun c41 => ?_)
                  · have hF := (if_pos c41).symm.trans hF
                    refine g_iconst (v := (0 : Int32)) X dX4_spreads_146 (by decide) ?_
                    exact T147 _ _ _ hF hgo hr
                  · have hF := (if_neg c41).symm.trans hF
                    refine g_aload_n X dX4_spreads_128 rfl rfl ?_
                    refine g_aload_n X dX4_spreads_129 rfl rfl ?_
                    refine g_iload X dX4_spreads_130 rfl ?_
                    refine g_iconst (v := (1 : Int32)) X dX4_spreads_132 (by decide) ?_
                    obtain ⟨ob42, eob42, hF⟩ := bnd hF
                    obtain ⟨v43, ev43, hF⟩ := bnd hF
                    refine g_callV X eob42 rfl rfl (w_X4_line l hl D dA h39 ob42 x4_20 (1 : Int32) v43 ev43) q2064 q2066 qs59 q103 q2067 okn_X4_line ⟨by rw [hRf]; exact Nat.le_of_ble_eq_true rfl, by rw [hRl]; exact Nat.le_of_ble_eq_true rfl⟩ (As := [.int x4_20, .int (1 : Int32)]) (rest := [va_rf (some this)]) rfl (by first | exact Nat.le_of_ble_eq_true rfl | simp [cat_rf, cat_i, cat_j, cat_f, cat_d]) dX4_spreads_133 (ac_v ?_)
                    obtain ⟨ob44, eob44, hF⟩ := bnd hF
                    obtain ⟨v45, ev45, hF⟩ := bnd hF
                    refine g_callV X eob44 rfl rfl (w_X4_isNew l hl D dA h39 ob44 v43 v45 ev45) q2230 q2232 qs75 q103 q2233 okn_X4_isNew ⟨by rw [hRf]; exact Nat.le_of_ble_eq_true rfl, by rw [hRl]; exact Nat.le_of_ble_eq_true rfl⟩ (As := [.int v43]) (rest := []) rfl (by first | exact Nat.le_of_ble_eq_true rfl | simp [cat_rf, cat_i, cat_j, cat_f, cat_d]) dX4_spreads_136 (ac_v ?_)
                    refine g_if_eq X 146 dX4_spreads_139 (by decide) (fun c46 => ?_) (fun c46 => ?_)
                    · have hF := (if_pos c46).symm.trans hF
                      refine g_iconst (v := (0 : Int32)) X dX4_spreads_146 (by decide) ?_
                      exact T147 _ _ _ hF hgo hr
                    · have hF := (if_neg c46).symm.trans hF
                      refine g_iconst (v := (1 : Int32)) X dX4_spreads_142 (by decide) ?_
                      refine g_goto X 147 dX4_spreads_143 (by decide) ?_
                      exact T147 _ _ _ hF hgo hr
          show G p l e R s m args below meth c (RQ D dA h0 (.inr (some (.int rE)), hE) below s) D dA h0 6 h47 179 [some (va_rf (some this)), none, none, some (.int x3_15), none, none] []
          refine g_iinc (v := (x3_15 + (1 : Int32))) (L' := [some (va_rf (some this)), none, none, some (.int (x3_15 + (1 : Int32))), none, none]) X dX4_spreads_179 (Nat.le_of_ble_eq_true rfl) rfl rfl (by first | rfl | simp [stL, rm1, clr2, cat_rf, cat_i, cat_j, cat_f, cat_d]) ?_
          refine g_goto X 61 dX4_spreads_182 (by decide) ?_
          cases hF
          exact hgo _ rfl
    show G p l e R s m args below meth c (RQ D dA h0 (.inr (some (.int rE)), hE) below s) D dA h0 6 h50 185 [some (va_rf (some this)), none, none, none, none, none] []
    refine g_aload_n X dX4_spreads_185 rfl rfl ?_
    obtain ⟨v51, ev51, hF⟩ := bnd hF
    refine g_get (k := 16) X in_X4 rfl (by decide) q1779 (Or.inl rfl) (getI_V ev51) dX4_spreads_186 ?_
    refine g_bipush (v := (120 : Int32)) X dX4_spreads_189 (by decide) ?_
    suffices K : G p l e R s m args below meth c (RQ D dA h0 (.inr (some (.int rE)), hE) below s) D dA h0 6 h50 199 [none, none, none, none, none, none] [.int (if (120 : Int32) < v51 then (0 : Int32) else (1 : Int32))] by
      refine g_icmp_gt X 198 dX4_spreads_191 (by decide) (fun c52 => ?_) (fun c52 => ?_)
      · (try simp only [if_pos c52] at K)
        refine g_iconst (v := (0 : Int32)) X dX4_spreads_198 (by decide) ?_
        refine G.drop [false, false, false, false, false, false] rfl ?_
        first | exact K | (simp only [if_pos c52]; exact K)
      · (try simp only [if_neg c52] at K)
        refine g_iconst (v := (1 : Int32)) X dX4_spreads_194 (by decide) ?_
        refine g_goto X 199 dX4_spreads_195 (by decide) ?_
        refine G.drop [false, false, false, false, false, false] rfl ?_
        first | exact K | (simp only [if_neg c52]; exact K)
    cases hF
    exact g_zret X hr (by (repeat' split) <;> rfl) dX4_spreads_199
  refine g_if_eq X 59 dX4_spreads_50 (by decide) (fun c55 => ?_) (fun c55 => ?_)
  · have hF := (if_pos c55).symm.trans hF
    refine G.drop [true, false, false, false, false, false] rfl ?_
    exact T59 _ hF
  · have hF := (if_neg c55).symm.trans hF
    refine g_aload_n X dX4_spreads_53 rfl rfl ?_
    refine g_iconst (v := (0 : Int32)) X dX4_spreads_54 (by decide) ?_
    refine g_iconst (v := (0 : Int32)) X dX4_spreads_55 (by decide) ?_
    obtain ⟨ob56, eob56, hF⟩ := bnd hF
    obtain ⟨h57, eh57, hF⟩ := bnd hF
    refine g_callV X eob56 rfl rfl (w_X4_adds l hl D dA h11 ob56 (0 : Int32) (0 : Int32) h57 eh57) q2214 q2216 qs71 q103 q2217 okn_X4_adds ⟨by rw [hRf]; exact Nat.le_of_ble_eq_true rfl, by rw [hRl]; exact Nat.le_of_ble_eq_true rfl⟩ (As := [.int (0 : Int32), .int (0 : Int32)]) (rest := []) rfl (by first | exact Nat.le_of_ble_eq_true rfl | simp [cat_rf, cat_i, cat_j, cat_f, cat_d]) dX4_spreads_56 (ac_0 ?_)
    refine G.drop [true, false, false, false, false, false] rfl ?_
    exact T59 _ hF
def F_X4_reachable_B17 (this : Nat) (x1_8 : Int32) (x2_8 : Int32) (h5 : HH) : Option ((Int32 × Int32) ⊕ Int32) :=
  Option.bind (getI h5 1 16 (some this)) fun v9 =>
  if v9 ≤ x2_8 then (
    some (.inr x1_8)
  ) else (
    Option.bind (getR h5 1 14 (some this)) fun v11 =>
    Option.bind (aldI h5 0 v11 x2_8) fun v12 =>
    some (.inl ((x1_8 ||| ((1 : Int32) <<< (v12 &&& 31))), (x2_8 + (1 : Int32))))
  )
def F_X4_reachable (this : Nat) (h0 : HH) : Option (Int32 × HH) :=
  Option.bind (isO h0 1 (some this)) fun ob1 =>
  b2 (F_X4_spreads ob1 h0) fun v3 h2 =>
  Option.bind (isO h2 1 (some this)) fun ob4 =>
  b2 (F_X4_asks ob4 v3 h2) fun v6 h5 =>
  if v6 = 0 then (
    some ((0 : Int32), h5)
  ) else (
    Option.bind (lp (fun z => F_X4_reachable_B17 this z.1 z.2 h5) 100000 ((0 : Int32), (0 : Int32))) fun v13 =>
    some (v13, h5)
  )
set_option maxHeartbeats 4000000 in
theorem w_X4_reachable (l : Launch) (hl : l.stackTraces = false) (D : va_G) (dA : Nat → ClassId) (h0 : HH) (this : Nat) (rE : Int32) (hE : HH) (hF : F_X4_reachable this h0 = some (rE, hE)) : MC D dA l yX4_reachable cX4_reachable 3 (Option.some Jvm.ClassFile.FieldType.int) [] 5 118 [va_rf (some this)] h0 (.inr (some (.int rE)), hE) := by
  refine mc_of hl (plainFor_of_name pn_X4) (by simp [lg_sl, cat_rf, cat_i, cat_j, cat_f, cat_d]) ?_
  intro p e s m args below meth c R hRf hRl X hr hnm
  unfold F_X4_reachable at hF
  rw [show argL [va_rf (some this)] = [some (va_rf (some this))] from by simp [argL, cat_rf, cat_i, cat_j, cat_f, cat_d]]
  refine G.pad 2 (L' := [some (va_rf (some this)), none, none]) rfl ?_
  refine g_aload_n X dX4_reachable_0 rfl rfl ?_
  refine g_aload_n X dX4_reachable_1 rfl rfl ?_
  obtain ⟨ob1, eob1, hF⟩ := bnd hF
  obtain ⟨v3, h2, eh2, hF⟩ := b2_some hF
  refine g_callV X eob1 rfl rfl (w_X4_spreads l hl D dA h0 ob1  v3 h2 eh2) q2206 q2208 qs69 q103 q2209 okn_X4_spreads ⟨by rw [hRf]; exact Nat.le_of_ble_eq_true rfl, by rw [hRl]; exact Nat.le_of_ble_eq_true rfl⟩ (As := []) (rest := [va_rf (some this)]) rfl (by first | exact Nat.le_of_ble_eq_true rfl | simp [cat_rf, cat_i, cat_j, cat_f, cat_d]) dX4_reachable_2 (ac_v ?_)
  obtain ⟨ob4, eob4, hF⟩ := bnd hF
  obtain ⟨v6, h5, eh5, hF⟩ := b2_some hF
  refine g_callV X eob4 rfl rfl (w_X4_asks l hl D dA h2 ob4 v3 v6 h5 eh5) q2076 q2078 qs60 q103 q2079 okn_X4_asks ⟨by rw [hRf]; exact Nat.le_of_ble_eq_true rfl, by rw [hRl]; exact Nat.le_of_ble_eq_true rfl⟩ (As := [.int v3]) (rest := []) rfl (by first | exact Nat.le_of_ble_eq_true rfl | simp [cat_rf, cat_i, cat_j, cat_f, cat_d]) dX4_reachable_5 (ac_v ?_)
  refine g_if_ne X 13 dX4_reachable_8 (by decide) (fun c7 => ?_) (fun c7 => ?_)
  · have hF := (if_neg c7).symm.trans hF
    refine g_iconst (v := (0 : Int32)) X dX4_reachable_13 (by decide) ?_
    refine g_istore_n (L' := [some (va_rf (some this)), some (.int (0 : Int32)), none]) X dX4_reachable_14 rfl (Nat.le_of_ble_eq_true rfl) (by first | rfl | simp [stL, rm1, clr2, cat_rf, cat_i, cat_j, cat_f, cat_d]) ?_
    refine g_iconst (v := (0 : Int32)) X dX4_reachable_15 (by decide) ?_
    refine g_istore_n (L' := [some (va_rf (some this)), some (.int (0 : Int32)), some (.int (0 : Int32))]) X dX4_reachable_16 rfl (Nat.le_of_ble_eq_true rfl) (by first | rfl | simp [stL, rm1, clr2, cat_rf, cat_i, cat_j, cat_f, cat_d]) ?_
    obtain ⟨v13, e14, hF⟩ := bnd hF
    refine lp_ind (Gs := (fun z => G p l e R s m args below meth c (RQ D dA h0 (.inr (some (.int rE)), hE) below s) D dA h0 3 h5 17 [some (va_rf (some this)), some (.int z.1), some (.int z.2)] [])) (Ge := (fun z => G p l e R s m args below meth c (RQ D dA h0 (.inr (some (.int rE)), hE) below s) D dA h0 3 h5 42 [none, some (.int z), none] [])) ?_ _ _ _ e14 ?_
    · rintro ⟨x1_8, x2_8⟩ o hF hgo hr
      change F_X4_reachable_B17 this x1_8 x2_8 h5 = some o at hF
      unfold F_X4_reachable_B17 at hF
      show G p l e R s m args below meth c (RQ D dA h0 (.inr (some (.int rE)), hE) below s) D dA h0 3 h5 17 [some (va_rf (some this)), some (.int x1_8), some (.int x2_8)] []
      refine g_iload_n X dX4_reachable_17 rfl rfl ?_
      refine g_aload_n X dX4_reachable_18 rfl rfl ?_
      obtain ⟨v9, ev9, hF⟩ := bnd hF
      refine g_get (k := 16) X in_X4 rfl (by decide) q1779 (Or.inl rfl) (getI_V ev9) dX4_reachable_19 ?_
      refine g_icmp_ge X 42 dX4_reachable_22 (by decide) (fun c10 => ?_) (fun c10 => ?_)
      · have hF := (if_pos c10).symm.trans hF
        refine G.drop [false, true, false] rfl ?_
        cases hF
        exact hr _ rfl
      · have hF := (if_neg c10).symm.trans hF
        refine g_iload_n X dX4_reachable_25 rfl rfl ?_
        refine g_iconst (v := (1 : Int32)) X dX4_reachable_26 (by decide) ?_
        refine g_aload_n X dX4_reachable_27 rfl rfl ?_
        obtain ⟨v11, ev11, hF⟩ := bnd hF
        refine g_get (k := 14) X in_X4 rfl (by decide) q1777 (Or.inl rfl) (getR_V ev11) dX4_reachable_28 ?_
        refine g_iload_n X dX4_reachable_31 rfl rfl ?_
        obtain ⟨v12, ev12, hF⟩ := bnd hF
        refine g_iald X ev12 dX4_reachable_32 ?_
        refine g_ishl X dX4_reachable_33 ?_
        refine g_ior X dX4_reachable_34 ?_
        refine g_istore_n (L' := [some (va_rf (some this)), some (.int (x1_8 ||| ((1 : Int32) <<< (v12 &&& 31)))), some (.int x2_8)]) X dX4_reachable_35 rfl (Nat.le_of_ble_eq_true rfl) (by first | rfl | simp [stL, rm1, clr2, cat_rf, cat_i, cat_j, cat_f, cat_d]) ?_
        refine g_iinc (v := (x2_8 + (1 : Int32))) (L' := [some (va_rf (some this)), some (.int (x1_8 ||| ((1 : Int32) <<< (v12 &&& 31)))), some (.int (x2_8 + (1 : Int32)))]) X dX4_reachable_36 (Nat.le_of_ble_eq_true rfl) rfl rfl (by first | rfl | simp [stL, rm1, clr2, cat_rf, cat_i, cat_j, cat_f, cat_d]) ?_
        refine g_goto X 17 dX4_reachable_39 (by decide) ?_
        cases hF
        exact hgo _ rfl
    show G p l e R s m args below meth c (RQ D dA h0 (.inr (some (.int rE)), hE) below s) D dA h0 3 h5 42 [none, some (.int v13), none] []
    refine g_iload_n X dX4_reachable_42 rfl rfl ?_
    cases hF
    exact g_iret X hr dX4_reachable_43
  · have hF := (if_pos c7).symm.trans hF
    refine g_iconst (v := (0 : Int32)) X dX4_reachable_11 (by decide) ?_
    cases hF
    exact g_iret X hr dX4_reachable_12
def F_X4_zones (this : Nat) (h0 : HH) : Option (Int32 × HH) :=
  Option.bind (isO h0 1 (some this)) fun ob1 =>
  b2 (F_X4_spreads ob1 h0) fun v3 h2 =>
  Option.bind (isO h2 1 (some this)) fun ob4 =>
  b2 (F_X4_asks ob4 v3 h2) fun v6 h5 =>
  if v6 = 0 then (
    some ((0 : Int32), h5)
  ) else (
    Option.bind (getI h5 1 16 (some this)) fun v8 =>
    some (v8, h5)
  )
set_option maxHeartbeats 4000000 in
theorem w_X4_zones (l : Launch) (hl : l.stackTraces = false) (D : va_G) (dA : Nat → ClassId) (h0 : HH) (this : Nat) (rE : Int32) (hE : HH) (hF : F_X4_zones this h0 = some (rE, hE)) : MC D dA l yX4_zones cX4_zones 1 (Option.some Jvm.ClassFile.FieldType.int) [] 5 118 [va_rf (some this)] h0 (.inr (some (.int rE)), hE) := by
  refine mc_of hl (plainFor_of_name pn_X4) (by simp [lg_sl, cat_rf, cat_i, cat_j, cat_f, cat_d]) ?_
  intro p e s m args below meth c R hRf hRl X hr hnm
  unfold F_X4_zones at hF
  rw [show argL [va_rf (some this)] = [some (va_rf (some this))] from by simp [argL, cat_rf, cat_i, cat_j, cat_f, cat_d]]
  refine g_aload_n X dX4_zones_0 rfl rfl ?_
  refine g_aload_n X dX4_zones_1 rfl rfl ?_
  obtain ⟨ob1, eob1, hF⟩ := bnd hF
  obtain ⟨v3, h2, eh2, hF⟩ := b2_some hF
  refine g_callV X eob1 rfl rfl (w_X4_spreads l hl D dA h0 ob1  v3 h2 eh2) q2206 q2208 qs69 q103 q2209 okn_X4_spreads ⟨by rw [hRf]; exact Nat.le_of_ble_eq_true rfl, by rw [hRl]; exact Nat.le_of_ble_eq_true rfl⟩ (As := []) (rest := [va_rf (some this)]) rfl (by first | exact Nat.le_of_ble_eq_true rfl | simp [cat_rf, cat_i, cat_j, cat_f, cat_d]) dX4_zones_2 (ac_v ?_)
  obtain ⟨ob4, eob4, hF⟩ := bnd hF
  obtain ⟨v6, h5, eh5, hF⟩ := b2_some hF
  refine g_callV X eob4 rfl rfl (w_X4_asks l hl D dA h2 ob4 v3 v6 h5 eh5) q2076 q2078 qs60 q103 q2079 okn_X4_asks ⟨by rw [hRf]; exact Nat.le_of_ble_eq_true rfl, by rw [hRl]; exact Nat.le_of_ble_eq_true rfl⟩ (As := [.int v3]) (rest := []) rfl (by first | exact Nat.le_of_ble_eq_true rfl | simp [cat_rf, cat_i, cat_j, cat_f, cat_d]) dX4_zones_5 (ac_v ?_)
  refine g_if_eq X 18 dX4_zones_8 (by decide) (fun c7 => ?_) (fun c7 => ?_)
  · have hF := (if_pos c7).symm.trans hF
    refine g_iconst (v := (0 : Int32)) X dX4_zones_18 (by decide) ?_
    cases hF
    exact g_iret X hr dX4_zones_19
  · have hF := (if_neg c7).symm.trans hF
    refine g_aload_n X dX4_zones_11 rfl rfl ?_
    obtain ⟨v8, ev8, hF⟩ := bnd hF
    refine g_get (k := 16) X in_X4 rfl (by decide) q1779 (Or.inl rfl) (getI_V ev8) dX4_zones_12 ?_
    refine g_goto X 19 dX4_zones_15 (by decide) ?_
    cases hF
    exact g_iret X hr dX4_zones_19
def F_X4_asksZones (this : Nat) (a1 : Int32) (h0 : HH) : Option (Int32 × HH) :=
  Option.bind (isO h0 1 (some this)) fun ob1 =>
  b2 (F_X4_asks ob1 (F_X4_isHarbour a1) h0) fun v3 h2 =>
  if v3 = 0 then (
    some ((0 : Int32), h2)
  ) else (
    Option.bind (isO h2 1 (some this)) fun ob5 =>
    b2 (F_X4_spreads ob5 h2) fun v7 h6 =>
    Option.bind (putV h6 1 8 (some this) (.int (if v7 = 0 then (2 : Int32) else (0 : Int32)))) fun h9 =>
    Option.bind (getI h9 1 8 (some this)) fun v10 =>
    some ((if v10 = 0 then (1 : Int32) else (0 : Int32)), h9)
  )
set_option maxHeartbeats 4000000 in
theorem w_X4_asksZones (l : Launch) (hl : l.stackTraces = false) (D : va_G) (dA : Nat → ClassId) (h0 : HH) (this : Nat) (a1 : Int32) (rE : Int32) (hE : HH) (hF : F_X4_asksZones this a1 h0 = some (rE, hE)) : MC D dA l yX4_asksZones cX4_asksZones 2 (Option.some Jvm.ClassFile.FieldType.boolean) [] 5 118 [va_rf (some this), .int a1] h0 (.inr (some (.int rE)), hE) := by
  refine mc_of hl (plainFor_of_name pn_X4) (by simp [lg_sl, cat_rf, cat_i, cat_j, cat_f, cat_d]) ?_
  intro p e s m args below meth c R hRf hRl X hr hnm
  unfold F_X4_asksZones at hF
  rw [show argL [va_rf (some this), .int a1] = [some (va_rf (some this)), some (.int a1)] from by simp [argL, cat_rf, cat_i, cat_j, cat_f, cat_d]]
  refine g_aload_n X dX4_asksZones_0 rfl rfl ?_
  refine g_iload_n X dX4_asksZones_1 rfl rfl ?_
  refine g_callS X (w_X4_isHarbour l hl D dA h0 a1) q2045 q2046 q103 q2047 okn_X4_isHarbour ⟨by rw [hRf]; exact Nat.le_of_ble_eq_true rfl, by rw [hRl]; exact Nat.le_of_ble_eq_true rfl⟩ (As := [.int a1]) (rest := [va_rf (some this)]) rfl (by first | exact Nat.le_of_ble_eq_true rfl | simp [cat_rf, cat_i, cat_j, cat_f, cat_d]) dX4_asksZones_2 (ac_v ?_)
  obtain ⟨ob1, eob1, hF⟩ := bnd hF
  obtain ⟨v3, h2, eh2, hF⟩ := b2_some hF
  refine g_callV X eob1 rfl rfl (w_X4_asks l hl D dA h0 ob1 (F_X4_isHarbour a1) v3 h2 eh2) q2076 q2078 qs60 q103 q2079 okn_X4_asks ⟨by rw [hRf]; exact Nat.le_of_ble_eq_true rfl, by rw [hRl]; exact Nat.le_of_ble_eq_true rfl⟩ (As := [.int (F_X4_isHarbour a1)]) (rest := []) rfl (by first | exact Nat.le_of_ble_eq_true rfl | simp [cat_rf, cat_i, cat_j, cat_f, cat_d]) dX4_asksZones_5 (ac_v ?_)
  refine g_if_ne X 13 dX4_asksZones_8 (by decide) (fun c4 => ?_) (fun c4 => ?_)
  · have hF := (if_neg c4).symm.trans hF
    refine g_aload_n X dX4_asksZones_13 rfl rfl ?_
    refine g_aload_n X dX4_asksZones_14 rfl rfl ?_
    obtain ⟨ob5, eob5, hF⟩ := bnd hF
    obtain ⟨v7, h6, eh6, hF⟩ := b2_some hF
    refine g_callV X eob5 rfl rfl (w_X4_spreads l hl D dA h2 ob5  v7 h6 eh6) q2206 q2208 qs69 q103 q2209 okn_X4_spreads ⟨by rw [hRf]; exact Nat.le_of_ble_eq_true rfl, by rw [hRl]; exact Nat.le_of_ble_eq_true rfl⟩ (As := []) (rest := [va_rf (some this)]) rfl (by first | exact Nat.le_of_ble_eq_true rfl | simp [cat_rf, cat_i, cat_j, cat_f, cat_d]) dX4_asksZones_15 (ac_v ?_)
    suffices K : G p l e R s m args below meth c (RQ D dA h0 (.inr (some (.int rE)), hE) below s) D dA h0 2 h6 26 [some (va_rf (some this)), none] [.int (if v7 = 0 then (2 : Int32) else (0 : Int32)), va_rf (some this)] by
      refine g_if_eq X 25 dX4_asksZones_18 (by decide) (fun c8 => ?_) (fun c8 => ?_)
      · (try simp only [if_pos c8] at K)
        refine g_iconst (v := (2 : Int32)) X dX4_asksZones_25 (by decide) ?_
        refine G.drop [true, false] rfl ?_
        first | exact K | (simp only [if_pos c8]; exact K)
      · (try simp only [if_neg c8] at K)
        refine g_iconst (v := (0 : Int32)) X dX4_asksZones_21 (by decide) ?_
        refine g_goto X 26 dX4_asksZones_22 (by decide) ?_
        refine G.drop [true, false] rfl ?_
        first | exact K | (simp only [if_neg c8]; exact K)
    obtain ⟨h9, eh9, hF⟩ := bnd hF
    refine g_put (k := 8) X in_X4 tyX4 tyX4_ok nmX4 rfl (by decide) q1771 (Or.inl rfl) rfl (tyX4_ok 8 (by decide)) rfl rfl eh9 dX4_asksZones_26 ?_
    refine g_aload_n X dX4_asksZones_29 rfl rfl ?_
    obtain ⟨v10, ev10, hF⟩ := bnd hF
    refine g_get (k := 8) X in_X4 rfl (by decide) q1771 (Or.inl rfl) (getI_V ev10) dX4_asksZones_30 ?_
    suffices K : G p l e R s m args below meth c (RQ D dA h0 (.inr (some (.int rE)), hE) below s) D dA h0 2 h9 41 [none, none] [.int (if v10 = 0 then (1 : Int32) else (0 : Int32))] by
      refine g_if_ne X 40 dX4_asksZones_33 (by decide) (fun c11 => ?_) (fun c11 => ?_)
      · (try simp only [if_neg c11] at K)
        refine g_iconst (v := (0 : Int32)) X dX4_asksZones_40 (by decide) ?_
        refine G.drop [false, false] rfl ?_
        first | exact K | (simp only [if_neg c11]; exact K)
      · (try simp only [if_pos c11] at K)
        refine g_iconst (v := (1 : Int32)) X dX4_asksZones_36 (by decide) ?_
        refine g_goto X 41 dX4_asksZones_37 (by decide) ?_
        refine G.drop [false, false] rfl ?_
        first | exact K | (simp only [if_pos c11]; exact K)
    cases hF
    exact g_zret X hr (by (repeat' split) <;> rfl) dX4_asksZones_41
  · have hF := (if_pos c4).symm.trans hF
    refine g_iconst (v := (0 : Int32)) X dX4_asksZones_11 (by decide) ?_
    cases hF
    exact g_zret X hr rfl dX4_asksZones_12
def F_X4_zonesOf_B14 (this : Nat) (a1 : Int32) (x2_5 : Int32) (x3_5 : Int32) (h2 : HH) : Option ((Int32 × Int32) ⊕ Int32) :=
  Option.bind (getI h2 1 16 (some this)) fun v6 =>
  if v6 ≤ x3_5 then (
    some (.inr x2_5)
  ) else (
    Option.bind (getR h2 1 14 (some this)) fun v8 =>
    Option.bind (aldI h2 0 v8 x3_5) fun v9 =>
    some (.inl ((x2_5 + (if v9 = a1 then (1 : Int32) else (0 : Int32))), (x3_5 + (1 : Int32))))
  )
def F_X4_zonesOf (this : Nat) (a1 : Int32) (h0 : HH) : Option (Int32 × HH) :=
  Option.bind (isO h0 1 (some this)) fun ob1 =>
  b2 (F_X4_asksZones ob1 a1 h0) fun v3 h2 =>
  if v3 = 0 then (
    some ((0 : Int32), h2)
  ) else (
    Option.bind (lp (fun z => F_X4_zonesOf_B14 this a1 z.1 z.2 h2) 100000 ((0 : Int32), (0 : Int32))) fun v11 =>
    some (v11, h2)
  )
set_option maxHeartbeats 4000000 in
theorem w_X4_zonesOf (l : Launch) (hl : l.stackTraces = false) (D : va_G) (dA : Nat → ClassId) (h0 : HH) (this : Nat) (a1 : Int32) (rE : Int32) (hE : HH) (hF : F_X4_zonesOf this a1 h0 = some (rE, hE)) : MC D dA l yX4_zonesOf cX4_zonesOf 4 (Option.some Jvm.ClassFile.FieldType.int) [] 6 139 [va_rf (some this), .int a1] h0 (.inr (some (.int rE)), hE) := by
  refine mc_of hl (plainFor_of_name pn_X4) (by simp [lg_sl, cat_rf, cat_i, cat_j, cat_f, cat_d]) ?_
  intro p e s m args below meth c R hRf hRl X hr hnm
  unfold F_X4_zonesOf at hF
  rw [show argL [va_rf (some this), .int a1] = [some (va_rf (some this)), some (.int a1)] from by simp [argL, cat_rf, cat_i, cat_j, cat_f, cat_d]]
  refine G.pad 2 (L' := [some (va_rf (some this)), some (.int a1), none, none]) rfl ?_
  refine g_aload_n X dX4_zonesOf_0 rfl rfl ?_
  refine g_iload_n X dX4_zonesOf_1 rfl rfl ?_
  obtain ⟨ob1, eob1, hF⟩ := bnd hF
  obtain ⟨v3, h2, eh2, hF⟩ := b2_some hF
  refine g_callV X eob1 rfl rfl (w_X4_asksZones l hl D dA h0 ob1 a1 v3 h2 eh2) q2242 q2244 qs76 q103 q2245 okn_X4_asksZones ⟨by rw [hRf]; exact Nat.le_of_ble_eq_true rfl, by rw [hRl]; exact Nat.le_of_ble_eq_true rfl⟩ (As := [.int a1]) (rest := []) rfl (by first | exact Nat.le_of_ble_eq_true rfl | simp [cat_rf, cat_i, cat_j, cat_f, cat_d]) dX4_zonesOf_2 (ac_v ?_)
  refine g_if_ne X 10 dX4_zonesOf_5 (by decide) (fun c4 => ?_) (fun c4 => ?_)
  · have hF := (if_neg c4).symm.trans hF
    refine g_iconst (v := (0 : Int32)) X dX4_zonesOf_10 (by decide) ?_
    refine g_istore_n (L' := [some (va_rf (some this)), some (.int a1), some (.int (0 : Int32)), none]) X dX4_zonesOf_11 rfl (Nat.le_of_ble_eq_true rfl) (by first | rfl | simp [stL, rm1, clr2, cat_rf, cat_i, cat_j, cat_f, cat_d]) ?_
    refine g_iconst (v := (0 : Int32)) X dX4_zonesOf_12 (by decide) ?_
    refine g_istore_n (L' := [some (va_rf (some this)), some (.int a1), some (.int (0 : Int32)), some (.int (0 : Int32))]) X dX4_zonesOf_13 rfl (Nat.le_of_ble_eq_true rfl) (by first | rfl | simp [stL, rm1, clr2, cat_rf, cat_i, cat_j, cat_f, cat_d]) ?_
    obtain ⟨v11, e12, hF⟩ := bnd hF
    refine lp_ind (Gs := (fun z => G p l e R s m args below meth c (RQ D dA h0 (.inr (some (.int rE)), hE) below s) D dA h0 4 h2 14 [some (va_rf (some this)), some (.int a1), some (.int z.1), some (.int z.2)] [])) (Ge := (fun z => G p l e R s m args below meth c (RQ D dA h0 (.inr (some (.int rE)), hE) below s) D dA h0 4 h2 46 [none, none, some (.int z), none] [])) ?_ _ _ _ e12 ?_
    · rintro ⟨x2_5, x3_5⟩ o hF hgo hr
      change F_X4_zonesOf_B14 this a1 x2_5 x3_5 h2 = some o at hF
      unfold F_X4_zonesOf_B14 at hF
      show G p l e R s m args below meth c (RQ D dA h0 (.inr (some (.int rE)), hE) below s) D dA h0 4 h2 14 [some (va_rf (some this)), some (.int a1), some (.int x2_5), some (.int x3_5)] []
      refine g_iload_n X dX4_zonesOf_14 rfl rfl ?_
      refine g_aload_n X dX4_zonesOf_15 rfl rfl ?_
      obtain ⟨v6, ev6, hF⟩ := bnd hF
      refine g_get (k := 16) X in_X4 rfl (by decide) q1779 (Or.inl rfl) (getI_V ev6) dX4_zonesOf_16 ?_
      refine g_icmp_ge X 46 dX4_zonesOf_19 (by decide) (fun c7 => ?_) (fun c7 => ?_)
      · have hF := (if_pos c7).symm.trans hF
        refine G.drop [false, false, true, false] rfl ?_
        cases hF
        exact hr _ rfl
      · have hF := (if_neg c7).symm.trans hF
        refine g_iload_n X dX4_zonesOf_22 rfl rfl ?_
        refine g_aload_n X dX4_zonesOf_23 rfl rfl ?_
        obtain ⟨v8, ev8, hF⟩ := bnd hF
        refine g_get (k := 14) X in_X4 rfl (by decide) q1777 (Or.inl rfl) (getR_V ev8) dX4_zonesOf_24 ?_
        refine g_iload_n X dX4_zonesOf_27 rfl rfl ?_
        obtain ⟨v9, ev9, hF⟩ := bnd hF
        refine g_iald X ev9 dX4_zonesOf_28 ?_
        refine g_iload_n X dX4_zonesOf_29 rfl rfl ?_
        suffices K : G p l e R s m args below meth c (RQ D dA h0 (.inr (some (.int rE)), hE) below s) D dA h0 4 h2 38 [some (va_rf (some this)), some (.int a1), none, some (.int x3_5)] [.int (if v9 = a1 then (1 : Int32) else (0 : Int32)), .int x2_5] by
          refine g_icmp_ne X 37 dX4_zonesOf_30 (by decide) (fun c10 => ?_) (fun c10 => ?_)
          · (try simp only [if_neg c10] at K)
            refine g_iconst (v := (0 : Int32)) X dX4_zonesOf_37 (by decide) ?_
            refine G.drop [true, true, false, true] rfl ?_
            first | exact K | (simp only [if_neg c10]; exact K)
          · (try simp only [if_pos c10] at K)
            refine g_iconst (v := (1 : Int32)) X dX4_zonesOf_33 (by decide) ?_
            refine g_goto X 38 dX4_zonesOf_34 (by decide) ?_
            refine G.drop [true, true, false, true] rfl ?_
            first | exact K | (simp only [if_pos c10]; exact K)
        refine g_iadd X dX4_zonesOf_38 ?_
        refine g_istore_n (L' := [some (va_rf (some this)), some (.int a1), some (.int (x2_5 + (if v9 = a1 then (1 : Int32) else (0 : Int32)))), some (.int x3_5)]) X dX4_zonesOf_39 rfl (Nat.le_of_ble_eq_true rfl) (by first | rfl | simp [stL, rm1, clr2, cat_rf, cat_i, cat_j, cat_f, cat_d]) ?_
        refine g_iinc (v := (x3_5 + (1 : Int32))) (L' := [some (va_rf (some this)), some (.int a1), some (.int (x2_5 + (if v9 = a1 then (1 : Int32) else (0 : Int32)))), some (.int (x3_5 + (1 : Int32)))]) X dX4_zonesOf_40 (Nat.le_of_ble_eq_true rfl) rfl rfl (by first | rfl | simp [stL, rm1, clr2, cat_rf, cat_i, cat_j, cat_f, cat_d]) ?_
        refine g_goto X 14 dX4_zonesOf_43 (by decide) ?_
        cases hF
        exact hgo _ rfl
    show G p l e R s m args below meth c (RQ D dA h0 (.inr (some (.int rE)), hE) below s) D dA h0 4 h2 46 [none, none, some (.int v11), none] []
    refine g_iload_n X dX4_zonesOf_46 rfl rfl ?_
    cases hF
    exact g_iret X hr dX4_zonesOf_47
  · have hF := (if_pos c4).symm.trans hF
    refine g_iconst (v := (0 : Int32)) X dX4_zonesOf_8 (by decide) ?_
    cases hF
    exact g_iret X hr dX4_zonesOf_9
def F_X4_fewestLines_B15 (this : Nat) (a1 : Int32) (x2_5 : Int32) (x3_5 : Int32) (h2 : HH) : Option ((Int32 × Int32) ⊕ Int32) :=
  Option.bind (getI h2 1 16 (some this)) fun v6 =>
  if v6 ≤ x3_5 then (
    some (.inr x2_5)
  ) else (
    Option.bind (getR h2 1 14 (some this)) fun v8 =>
    Option.bind (aldI h2 0 v8 x3_5) fun v9 =>
    if v9 = a1 then (
      Option.bind (getR h2 1 15 (some this)) fun v11 =>
      Option.bind (aldI h2 0 v11 x3_5) fun v12 =>
      some (.inl ((F_X4_less x2_5 v12), (x3_5 + (1 : Int32))))
    ) else (
      some (.inl (x2_5, (x3_5 + (1 : Int32))))
    )
  )
def F_X4_fewestLines (this : Nat) (a1 : Int32) (h0 : HH) : Option (Int32 × HH) :=
  Option.bind (isO h0 1 (some this)) fun ob1 =>
  b2 (F_X4_asksZones ob1 a1 h0) fun v3 h2 =>
  if v3 = 0 then (
    some ((0 : Int32), h2)
  ) else (
    Option.bind (lp (fun z => F_X4_fewestLines_B15 this a1 z.1 z.2 h2) 100000 ((100000 : Int32), (0 : Int32))) fun v13 =>
    if (100000 : Int32) ≤ v13 then (
      Option.bind (isO h2 1 (some this)) fun ob15 =>
      b2 (F_X4_fails ob15 (2 : Int32) h2) fun v17 h16 =>
      some (v17, h16)
    ) else (
      some (v13, h2)
    )
  )
set_option maxHeartbeats 4000000 in
theorem w_X4_fewestLines (l : Launch) (hl : l.stackTraces = false) (D : va_G) (dA : Nat → ClassId) (h0 : HH) (this : Nat) (a1 : Int32) (rE : Int32) (hE : HH) (hF : F_X4_fewestLines this a1 h0 = some (rE, hE)) : MC D dA l yX4_fewestLines cX4_fewestLines 4 (Option.some Jvm.ClassFile.FieldType.int) [] 6 139 [va_rf (some this), .int a1] h0 (.inr (some (.int rE)), hE) := by
  refine mc_of hl (plainFor_of_name pn_X4) (by simp [lg_sl, cat_rf, cat_i, cat_j, cat_f, cat_d]) ?_
  intro p e s m args below meth c R hRf hRl X hr hnm
  unfold F_X4_fewestLines at hF
  rw [show argL [va_rf (some this), .int a1] = [some (va_rf (some this)), some (.int a1)] from by simp [argL, cat_rf, cat_i, cat_j, cat_f, cat_d]]
  refine G.pad 2 (L' := [some (va_rf (some this)), some (.int a1), none, none]) rfl ?_
  refine g_aload_n X dX4_fewestLines_0 rfl rfl ?_
  refine g_iload_n X dX4_fewestLines_1 rfl rfl ?_
  obtain ⟨ob1, eob1, hF⟩ := bnd hF
  obtain ⟨v3, h2, eh2, hF⟩ := b2_some hF
  refine g_callV X eob1 rfl rfl (w_X4_asksZones l hl D dA h0 ob1 a1 v3 h2 eh2) q2242 q2244 qs76 q103 q2245 okn_X4_asksZones ⟨by rw [hRf]; exact Nat.le_of_ble_eq_true rfl, by rw [hRl]; exact Nat.le_of_ble_eq_true rfl⟩ (As := [.int a1]) (rest := []) rfl (by first | exact Nat.le_of_ble_eq_true rfl | simp [cat_rf, cat_i, cat_j, cat_f, cat_d]) dX4_fewestLines_2 (ac_v ?_)
  refine g_if_ne X 10 dX4_fewestLines_5 (by decide) (fun c4 => ?_) (fun c4 => ?_)
  · have hF := (if_neg c4).symm.trans hF
    refine g_ldc (v := (100000 : Int32)) X q1762 dX4_fewestLines_10 ?_
    refine g_istore_n (L' := [some (va_rf (some this)), some (.int a1), some (.int (100000 : Int32)), none]) X dX4_fewestLines_12 rfl (Nat.le_of_ble_eq_true rfl) (by first | rfl | simp [stL, rm1, clr2, cat_rf, cat_i, cat_j, cat_f, cat_d]) ?_
    refine g_iconst (v := (0 : Int32)) X dX4_fewestLines_13 (by decide) ?_
    refine g_istore_n (L' := [some (va_rf (some this)), some (.int a1), some (.int (100000 : Int32)), some (.int (0 : Int32))]) X dX4_fewestLines_14 rfl (Nat.le_of_ble_eq_true rfl) (by first | rfl | simp [stL, rm1, clr2, cat_rf, cat_i, cat_j, cat_f, cat_d]) ?_
    obtain ⟨v13, e18, hF⟩ := bnd hF
    refine lp_ind (Gs := (fun z => G p l e R s m args below meth c (RQ D dA h0 (.inr (some (.int rE)), hE) below s) D dA h0 4 h2 15 [some (va_rf (some this)), some (.int a1), some (.int z.1), some (.int z.2)] [])) (Ge := (fun z => G p l e R s m args below meth c (RQ D dA h0 (.inr (some (.int rE)), hE) below s) D dA h0 4 h2 54 [some (va_rf (some this)), none, some (.int z), none] [])) ?_ _ _ _ e18 ?_
    · rintro ⟨x2_5, x3_5⟩ o hF hgo hr
      change F_X4_fewestLines_B15 this a1 x2_5 x3_5 h2 = some o at hF
      unfold F_X4_fewestLines_B15 at hF
      show G p l e R s m args below meth c (RQ D dA h0 (.inr (some (.int rE)), hE) below s) D dA h0 4 h2 15 [some (va_rf (some this)), some (.int a1), some (.int x2_5), some (.int x3_5)] []
      refine g_iload_n X dX4_fewestLines_15 rfl rfl ?_
      refine g_aload_n X dX4_fewestLines_16 rfl rfl ?_
      obtain ⟨v6, ev6, hF⟩ := bnd hF
      refine g_get (k := 16) X in_X4 rfl (by decide) q1779 (Or.inl rfl) (getI_V ev6) dX4_fewestLines_17 ?_
      refine g_icmp_ge X 54 dX4_fewestLines_20 (by decide) (fun c7 => ?_) (fun c7 => ?_)
      · have hF := (if_pos c7).symm.trans hF
        refine G.drop [true, false, true, false] rfl ?_
        cases hF
        exact hr _ rfl
      · have hF := (if_neg c7).symm.trans hF
        refine g_aload_n X dX4_fewestLines_23 rfl rfl ?_
        obtain ⟨v8, ev8, hF⟩ := bnd hF
        refine g_get (k := 14) X in_X4 rfl (by decide) q1777 (Or.inl rfl) (getR_V ev8) dX4_fewestLines_24 ?_
        refine g_iload_n X dX4_fewestLines_27 rfl rfl ?_
        obtain ⟨v9, ev9, hF⟩ := bnd hF
        refine g_iald X ev9 dX4_fewestLines_28 ?_
        refine g_iload_n X dX4_fewestLines_29 rfl rfl ?_
        refine g_icmp_ne X 46 dX4_fewestLines_30 (by decide) (fun c10 => ?_) (fun c10 => ?_)
        · have hF := (if_neg c10).symm.trans hF
          refine g_iload_n X dX4_fewestLines_46 rfl rfl ?_
          refine g_istore_n (L' := [some (va_rf (some this)), some (.int a1), some (.int x2_5), some (.int x3_5)]) X dX4_fewestLines_47 rfl (Nat.le_of_ble_eq_true rfl) (by first | rfl | simp [stL, rm1, clr2, cat_rf, cat_i, cat_j, cat_f, cat_d]) ?_
          refine g_iinc (v := (x3_5 + (1 : Int32))) (L' := [some (va_rf (some this)), some (.int a1), some (.int x2_5), some (.int (x3_5 + (1 : Int32)))]) X dX4_fewestLines_48 (Nat.le_of_ble_eq_true rfl) rfl rfl (by first | rfl | simp [stL, rm1, clr2, cat_rf, cat_i, cat_j, cat_f, cat_d]) ?_
          refine g_goto X 15 dX4_fewestLines_51 (by decide) ?_
          cases hF
          exact hgo _ rfl
        · have hF := (if_pos c10).symm.trans hF
          refine g_iload_n X dX4_fewestLines_33 rfl rfl ?_
          refine g_aload_n X dX4_fewestLines_34 rfl rfl ?_
          obtain ⟨v11, ev11, hF⟩ := bnd hF
          refine g_get (k := 15) X in_X4 rfl (by decide) q1778 (Or.inl rfl) (getR_V ev11) dX4_fewestLines_35 ?_
          refine g_iload_n X dX4_fewestLines_38 rfl rfl ?_
          obtain ⟨v12, ev12, hF⟩ := bnd hF
          refine g_iald X ev12 dX4_fewestLines_39 ?_
          refine g_callS X (w_X4_less l hl D dA h2 x2_5 v12) q1893 q1894 q103 q1895 okn_X4_less ⟨by rw [hRf]; exact Nat.le_of_ble_eq_true rfl, by rw [hRl]; exact Nat.le_of_ble_eq_true rfl⟩ (As := [.int x2_5, .int v12]) (rest := []) rfl (by first | exact Nat.le_of_ble_eq_true rfl | simp [cat_rf, cat_i, cat_j, cat_f, cat_d]) dX4_fewestLines_40 (ac_v ?_)
          refine g_goto X 47 dX4_fewestLines_43 (by decide) ?_
          refine g_istore_n (L' := [some (va_rf (some this)), some (.int a1), some (.int (F_X4_less x2_5 v12)), some (.int x3_5)]) X dX4_fewestLines_47 rfl (Nat.le_of_ble_eq_true rfl) (by first | rfl | simp [stL, rm1, clr2, cat_rf, cat_i, cat_j, cat_f, cat_d]) ?_
          refine g_iinc (v := (x3_5 + (1 : Int32))) (L' := [some (va_rf (some this)), some (.int a1), some (.int (F_X4_less x2_5 v12)), some (.int (x3_5 + (1 : Int32)))]) X dX4_fewestLines_48 (Nat.le_of_ble_eq_true rfl) rfl rfl (by first | rfl | simp [stL, rm1, clr2, cat_rf, cat_i, cat_j, cat_f, cat_d]) ?_
          refine g_goto X 15 dX4_fewestLines_51 (by decide) ?_
          cases hF
          exact hgo _ rfl
    show G p l e R s m args below meth c (RQ D dA h0 (.inr (some (.int rE)), hE) below s) D dA h0 4 h2 54 [some (va_rf (some this)), none, some (.int v13), none] []
    refine g_iload_n X dX4_fewestLines_54 rfl rfl ?_
    refine g_ldc (v := (100000 : Int32)) X q1762 dX4_fewestLines_55 ?_
    refine g_icmp_ge X 64 dX4_fewestLines_57 (by decide) (fun c14 => ?_) (fun c14 => ?_)
    · have hF := (if_pos c14).symm.trans hF
      refine g_aload_n X dX4_fewestLines_64 rfl rfl ?_
      refine g_iconst (v := (2 : Int32)) X dX4_fewestLines_65 (by decide) ?_
      obtain ⟨ob15, eob15, hF⟩ := bnd hF
      obtain ⟨v17, h16, eh16, hF⟩ := b2_some hF
      refine g_callV X eob15 rfl rfl (w_X4_fails l hl D dA h2 ob15 (2 : Int32) v17 h16 eh16) q1900 q1902 qs36 q103 q1903 okn_X4_fails ⟨by rw [hRf]; exact Nat.le_of_ble_eq_true rfl, by rw [hRl]; exact Nat.le_of_ble_eq_true rfl⟩ (As := [.int (2 : Int32)]) (rest := []) rfl (by first | exact Nat.le_of_ble_eq_true rfl | simp [cat_rf, cat_i, cat_j, cat_f, cat_d]) dX4_fewestLines_66 (ac_v ?_)
      cases hF
      exact g_iret X hr dX4_fewestLines_69
    · have hF := (if_neg c14).symm.trans hF
      refine g_iload_n X dX4_fewestLines_60 rfl rfl ?_
      refine g_goto X 69 dX4_fewestLines_61 (by decide) ?_
      cases hF
      exact g_iret X hr dX4_fewestLines_69
  · have hF := (if_pos c4).symm.trans hF
    refine g_iconst (v := (0 : Int32)) X dX4_fewestLines_8 (by decide) ?_
    cases hF
    exact g_iret X hr dX4_fewestLines_9
def F_X4_clockAt (a1 : Int32) (a2 : Int32) : Int32 :=
  (if a2 = 0 then ((a1 / (121 : Int32)) - (a1 / (121 : Int32)) / (11 : Int32) * (11 : Int32)) else (if a2 = (1 : Int32) then ((a1 / (11 : Int32)) - (a1 / (11 : Int32)) / (11 : Int32) * (11 : Int32)) else (a1 - a1 / (11 : Int32) * (11 : Int32))))
set_option maxHeartbeats 4000000 in
theorem w_X4_clockAt (l : Launch) (hl : l.stackTraces = false) (D : va_G) (dA : Nat → ClassId) (h0 : HH) (a1 : Int32) (a2 : Int32) : MC D dA l yX4_clockAt cX4_clockAt 2 (Option.some Jvm.ClassFile.FieldType.int) [] 0 0 [.int a1, .int a2] h0 (.inr (some (.int (F_X4_clockAt a1 a2))), h0) := by
  refine mc_of hl (plainFor_of_name pn_X4) (by simp [lg_sl, cat_rf, cat_i, cat_j, cat_f, cat_d]) ?_
  intro p e s m args below meth c R hRf hRl X hr hnm
  generalize hF : F_X4_clockAt a1 a2 = rE
  unfold F_X4_clockAt at hF
  rw [show argL [.int a1, .int a2] = [some (.int a1), some (.int a2)] from by simp [argL, cat_rf, cat_i, cat_j, cat_f, cat_d]]
  refine g_iload_n X dX4_clockAt_0 rfl rfl ?_
  suffices K : G p l e R s m args below meth c (RQ D dA h0 (.inr (some (.int rE)), h0) below s) D dA h0 2 h0 33 [none, none] [.int (if a2 = 0 then ((a1 / (121 : Int32)) - (a1 / (121 : Int32)) / (11 : Int32) * (11 : Int32)) else (if a2 = (1 : Int32) then ((a1 / (11 : Int32)) - (a1 / (11 : Int32)) / (11 : Int32) * (11 : Int32)) else (a1 - a1 / (11 : Int32) * (11 : Int32))))] by
    refine g_if_ne X 14 dX4_clockAt_1 (by decide) (fun c1 => ?_) (fun c1 => ?_)
    · (try simp only [if_neg c1] at K)
      refine g_iload_n X dX4_clockAt_14 rfl rfl ?_
      refine g_iconst (v := (1 : Int32)) X dX4_clockAt_15 (by decide) ?_
      refine g_icmp_ne X 29 dX4_clockAt_16 (by decide) (fun c2 => ?_) (fun c2 => ?_)
      · (try simp only [if_neg c2] at K)
        refine g_iload_n X dX4_clockAt_29 rfl rfl ?_
        refine g_bipush (v := (11 : Int32)) X dX4_clockAt_30 (by decide) ?_
        refine g_irem X dX4_clockAt_32 (by decide) ?_
        refine G.drop [false, false] rfl ?_
        first | exact K | (simp only [if_neg c1, if_neg c2]; exact K)
      · (try simp only [if_pos c2] at K)
        refine g_iload_n X dX4_clockAt_19 rfl rfl ?_
        refine g_bipush (v := (11 : Int32)) X dX4_clockAt_20 (by decide) ?_
        refine g_idiv X dX4_clockAt_22 (by decide) ?_
        refine g_bipush (v := (11 : Int32)) X dX4_clockAt_23 (by decide) ?_
        refine g_irem X dX4_clockAt_25 (by decide) ?_
        refine g_goto X 33 dX4_clockAt_26 (by decide) ?_
        refine G.drop [false, false] rfl ?_
        first | exact K | (simp only [if_neg c1, if_pos c2]; exact K)
    · (try simp only [if_pos c1] at K)
      refine g_iload_n X dX4_clockAt_4 rfl rfl ?_
      refine g_bipush (v := (121 : Int32)) X dX4_clockAt_5 (by decide) ?_
      refine g_idiv X dX4_clockAt_7 (by decide) ?_
      refine g_bipush (v := (11 : Int32)) X dX4_clockAt_8 (by decide) ?_
      refine g_irem X dX4_clockAt_10 (by decide) ?_
      refine g_goto X 33 dX4_clockAt_11 (by decide) ?_
      refine G.drop [false, false] rfl ?_
      first | exact K | (simp only [if_pos c1]; exact K)
  cases hF
  exact g_iret X hr dX4_clockAt_33
def F_X4_behind_T46 (this : Nat) (a1 : Int32) (a2 : Int32) (a3 : Int32) (t4_46 : Int32) (h0 : HH) : Option Int32 :=
  Option.bind (isO h0 1 (some this)) fun ob6 =>
  Option.bind (F_X4_line ob6 a2 (8 : Int32) h0) fun v7 =>
  Option.bind (isO h0 1 (some this)) fun ob9 =>
  Option.bind (F_X4_line ob9 a2 (1 : Int32) h0) fun v10 =>
  Option.bind (isO h0 1 (some this)) fun ob11 =>
  Option.bind (F_X4_stay ob11 v10 a3 h0) fun v12 =>
  some (if v12 = (10 : Int32) then (if ((v7 >>> (a3 &&& 31)) &&& (1 : Int32)) = (1 : Int32) then (0 : Int32) else t4_46) else (if (if ((v7 >>> (a3 &&& 31)) &&& (1 : Int32)) = (1 : Int32) then (0 : Int32) else t4_46) ≤ v12 then (if ((v7 >>> (a3 &&& 31)) &&& (1 : Int32)) = (1 : Int32) then (0 : Int32) else t4_46) else (-1 : Int32)))
def F_X4_behind (this : Nat) (a1 : Int32) (a2 : Int32) (a3 : Int32) (h0 : HH) : Option Int32 :=
  Option.bind (isO h0 1 (some this)) fun ob1 =>
  Option.bind (F_X4_line ob1 a2 ((5 : Int32) + a3) h0) fun v2 =>
  Option.bind (isO h0 1 (some this)) fun ob3 =>
  Option.bind (F_X4_line ob3 a2 ((2 : Int32) + a3) h0) fun v4 =>
  if (F_X4_clockAt a1 a3) < v4 then (
    some (-1 : Int32)
  ) else (
    if v2 = (10 : Int32) then (
      F_X4_behind_T46 this a1 a2 a3 (F_X4_clockAt a1 a3) h0
    ) else (
      if (F_X4_clockAt a1 a3) ≤ v2 then (
        F_X4_behind_T46 this a1 a2 a3 (F_X4_clockAt a1 a3) h0
      ) else (
        some (-1 : Int32)
      )
    )
  )
set_option maxHeartbeats 4000000 in
theorem w_X4_behind (l : Launch) (hl : l.stackTraces = false) (D : va_G) (dA : Nat → ClassId) (h0 : HH) (this : Nat) (a1 : Int32) (a2 : Int32) (a3 : Int32) (rE : Int32) (hF : F_X4_behind this a1 a2 a3 h0 = some rE) : MC D dA l yX4_behind cX4_behind 8 (Option.some Jvm.ClassFile.FieldType.int) [] 1 22 [va_rf (some this), .int a1, .int a2, .int a3] h0 (.inr (some (.int rE)), h0) := by
  refine mc_of hl (plainFor_of_name pn_X4) (by simp [lg_sl, cat_rf, cat_i, cat_j, cat_f, cat_d]) ?_
  intro p e s m args below meth c R hRf hRl X hr hnm
  unfold F_X4_behind at hF
  rw [show argL [va_rf (some this), .int a1, .int a2, .int a3] = [some (va_rf (some this)), some (.int a1), some (.int a2), some (.int a3)] from by simp [argL, cat_rf, cat_i, cat_j, cat_f, cat_d]]
  refine G.pad 4 (L' := [some (va_rf (some this)), some (.int a1), some (.int a2), some (.int a3), none, none, none, none]) rfl ?_
  refine g_iload_n X dX4_behind_0 rfl rfl ?_
  refine g_iload_n X dX4_behind_1 rfl rfl ?_
  refine g_callS X (w_X4_clockAt l hl D dA h0 a1 a3) q2270 q2271 q103 q2272 okn_X4_clockAt ⟨by rw [hRf]; exact Nat.le_of_ble_eq_true rfl, by rw [hRl]; exact Nat.le_of_ble_eq_true rfl⟩ (As := [.int a1, .int a3]) (rest := []) rfl (by first | exact Nat.le_of_ble_eq_true rfl | simp [cat_rf, cat_i, cat_j, cat_f, cat_d]) dX4_behind_2 (ac_v ?_)
  refine g_istore (L' := [some (va_rf (some this)), some (.int a1), some (.int a2), some (.int a3), some (.int (F_X4_clockAt a1 a3)), none, none, none]) X dX4_behind_5 (Nat.le_of_ble_eq_true rfl) (by first | rfl | simp [stL, rm1, clr2, cat_rf, cat_i, cat_j, cat_f, cat_d]) ?_
  refine g_aload_n X dX4_behind_7 rfl rfl ?_
  refine g_iload_n X dX4_behind_8 rfl rfl ?_
  refine g_iconst (v := (5 : Int32)) X dX4_behind_9 (by decide) ?_
  refine g_iload_n X dX4_behind_10 rfl rfl ?_
  refine g_iadd X dX4_behind_11 ?_
  obtain ⟨ob1, eob1, hF⟩ := bnd hF
  obtain ⟨v2, ev2, hF⟩ := bnd hF
  refine g_callV X eob1 rfl rfl (w_X4_line l hl D dA h0 ob1 a2 ((5 : Int32) + a3) v2 ev2) q2064 q2066 qs59 q103 q2067 okn_X4_line ⟨by rw [hRf]; exact Nat.le_of_ble_eq_true rfl, by rw [hRl]; exact Nat.le_of_ble_eq_true rfl⟩ (As := [.int a2, .int ((5 : Int32) + a3)]) (rest := []) rfl (by first | exact Nat.le_of_ble_eq_true rfl | simp [cat_rf, cat_i, cat_j, cat_f, cat_d]) dX4_behind_12 (ac_v ?_)
  refine g_istore (L' := [some (va_rf (some this)), some (.int a1), some (.int a2), some (.int a3), some (.int (F_X4_clockAt a1 a3)), some (.int v2), none, none]) X dX4_behind_15 (Nat.le_of_ble_eq_true rfl) (by first | rfl | simp [stL, rm1, clr2, cat_rf, cat_i, cat_j, cat_f, cat_d]) ?_
  refine g_iload X dX4_behind_17 rfl ?_
  refine g_aload_n X dX4_behind_19 rfl rfl ?_
  refine g_iload_n X dX4_behind_20 rfl rfl ?_
  refine g_iconst (v := (2 : Int32)) X dX4_behind_21 (by decide) ?_
  refine g_iload_n X dX4_behind_22 rfl rfl ?_
  refine g_iadd X dX4_behind_23 ?_
  obtain ⟨ob3, eob3, hF⟩ := bnd hF
  obtain ⟨v4, ev4, hF⟩ := bnd hF
  refine g_callV X eob3 rfl rfl (w_X4_line l hl D dA h0 ob3 a2 ((2 : Int32) + a3) v4 ev4) q2064 q2066 qs59 q103 q2067 okn_X4_line ⟨by rw [hRf]; exact Nat.le_of_ble_eq_true rfl, by rw [hRl]; exact Nat.le_of_ble_eq_true rfl⟩ (As := [.int a2, .int ((2 : Int32) + a3)]) (rest := [.int (F_X4_clockAt a1 a3)]) rfl (by first | exact Nat.le_of_ble_eq_true rfl | simp [cat_rf, cat_i, cat_j, cat_f, cat_d]) dX4_behind_24 (ac_v ?_)
  refine g_icmp_lt X 44 dX4_behind_27 (by decide) (fun c5 => ?_) (fun c5 => ?_)
  · have hF := (if_pos c5).symm.trans hF
    refine g_iconst (v := (-1 : Int32)) X dX4_behind_44 (by decide) ?_
    cases hF
    exact g_iret X hr dX4_behind_45
  · have hF := (if_neg c5).symm.trans hF
    refine g_iload X dX4_behind_30 rfl ?_
    refine g_bipush (v := (10 : Int32)) X dX4_behind_32 (by decide) ?_
    have T46 : ∀ (t4_46 : Int32) , F_X4_behind_T46 this a1 a2 a3 t4_46 h0 = some rE → G p l e R s m args below meth c (RQ D dA h0 (.inr (some (.int rE)), h0) below s) D dA h0 8 h0 46 [some (va_rf (some this)), none, some (.int a2), some (.int a3), some (.int t4_46), none, none, none] [] := by
      intro t4_46  hF 
      unfold F_X4_behind_T46 at hF
      refine g_aload_n X dX4_behind_46 rfl rfl ?_
      refine g_iload_n X dX4_behind_47 rfl rfl ?_
      refine g_bipush (v := (8 : Int32)) X dX4_behind_48 (by decide) ?_
      obtain ⟨ob6, eob6, hF⟩ := bnd hF
      obtain ⟨v7, ev7, hF⟩ := bnd hF
      refine g_callV X eob6 rfl rfl (w_X4_line l hl D dA h0 ob6 a2 (8 : Int32) v7 ev7) q2064 q2066 qs59 q103 q2067 okn_X4_line ⟨by rw [hRf]; exact Nat.le_of_ble_eq_true rfl, by rw [hRl]; exact Nat.le_of_ble_eq_true rfl⟩ (As := [.int a2, .int (8 : Int32)]) (rest := []) rfl (by first | exact Nat.le_of_ble_eq_true rfl | simp [cat_rf, cat_i, cat_j, cat_f, cat_d]) dX4_behind_50 (ac_v ?_)
      refine g_iload_n X dX4_behind_53 rfl rfl ?_
      refine g_ishr X dX4_behind_54 ?_
      refine g_iconst (v := (1 : Int32)) X dX4_behind_55 (by decide) ?_
      refine g_iand X dX4_behind_56 ?_
      refine g_iconst (v := (1 : Int32)) X dX4_behind_57 (by decide) ?_
      suffices K : G p l e R s m args below meth c (RQ D dA h0 (.inr (some (.int rE)), h0) below s) D dA h0 8 h0 67 [some (va_rf (some this)), none, some (.int a2), some (.int a3), none, none, none, none] [.int (if ((v7 >>> (a3 &&& 31)) &&& (1 : Int32)) = (1 : Int32) then (0 : Int32) else t4_46)] by
        refine g_icmp_ne X 65 dX4_behind_58 (by decide) (fun c8 => ?_) (fun c8 => ?_)
        · (try simp only [if_neg c8] at K)
          refine g_iload X dX4_behind_65 rfl ?_
          refine G.drop [true, false, true, true, false, false, false, false] rfl ?_
          first | exact K | (simp only [if_neg c8]; exact K)
        · (try simp only [if_pos c8] at K)
          refine g_iconst (v := (0 : Int32)) X dX4_behind_61 (by decide) ?_
          refine g_goto X 67 dX4_behind_62 (by decide) ?_
          refine G.drop [true, false, true, true, false, false, false, false] rfl ?_
          first | exact K | (simp only [if_pos c8]; exact K)
      refine g_istore (L' := [some (va_rf (some this)), none, some (.int a2), some (.int a3), none, none, some (.int (if ((v7 >>> (a3 &&& 31)) &&& (1 : Int32)) = (1 : Int32) then (0 : Int32) else t4_46)), none]) X dX4_behind_67 (Nat.le_of_ble_eq_true rfl) (by first | rfl | simp [stL, rm1, clr2, cat_rf, cat_i, cat_j, cat_f, cat_d]) ?_
      refine g_aload_n X dX4_behind_69 rfl rfl ?_
      refine g_aload_n X dX4_behind_70 rfl rfl ?_
      refine g_iload_n X dX4_behind_71 rfl rfl ?_
      refine g_iconst (v := (1 : Int32)) X dX4_behind_72 (by decide) ?_
      obtain ⟨ob9, eob9, hF⟩ := bnd hF
      obtain ⟨v10, ev10, hF⟩ := bnd hF
      refine g_callV X eob9 rfl rfl (w_X4_line l hl D dA h0 ob9 a2 (1 : Int32) v10 ev10) q2064 q2066 qs59 q103 q2067 okn_X4_line ⟨by rw [hRf]; exact Nat.le_of_ble_eq_true rfl, by rw [hRl]; exact Nat.le_of_ble_eq_true rfl⟩ (As := [.int a2, .int (1 : Int32)]) (rest := [va_rf (some this)]) rfl (by first | exact Nat.le_of_ble_eq_true rfl | simp [cat_rf, cat_i, cat_j, cat_f, cat_d]) dX4_behind_73 (ac_v ?_)
      refine g_iload_n X dX4_behind_76 rfl rfl ?_
      obtain ⟨ob11, eob11, hF⟩ := bnd hF
      obtain ⟨v12, ev12, hF⟩ := bnd hF
      refine g_callV X eob11 rfl rfl (w_X4_stay l hl D dA h0 ob11 v10 a3 v12 ev12) q2182 q2184 qs68 q103 q2185 okn_X4_stay ⟨by rw [hRf]; exact Nat.le_of_ble_eq_true rfl, by rw [hRl]; exact Nat.le_of_ble_eq_true rfl⟩ (As := [.int v10, .int a3]) (rest := []) rfl (by first | exact Nat.le_of_ble_eq_true rfl | simp [cat_rf, cat_i, cat_j, cat_f, cat_d]) dX4_behind_77 (ac_v ?_)
      refine g_istore (L' := [some (va_rf (some this)), none, some (.int a2), some (.int a3), none, none, some (.int (if ((v7 >>> (a3 &&& 31)) &&& (1 : Int32)) = (1 : Int32) then (0 : Int32) else t4_46)), some (.int v12)]) X dX4_behind_80 (Nat.le_of_ble_eq_true rfl) (by first | rfl | simp [stL, rm1, clr2, cat_rf, cat_i, cat_j, cat_f, cat_d]) ?_
      refine g_iload X dX4_behind_82 rfl ?_
      refine g_bipush (v := (10 : Int32)) X dX4_behind_84 (by decide) ?_
      suffices K : G p l e R s m args below meth c (RQ D dA h0 (.inr (some (.int rE)), h0) below s) D dA h0 8 h0 102 [none, none, none, none, none, none, none, none] [.int (if v12 = (10 : Int32) then (if ((v7 >>> (a3 &&& 31)) &&& (1 : Int32)) = (1 : Int32) then (0 : Int32) else t4_46) else (if (if ((v7 >>> (a3 &&& 31)) &&& (1 : Int32)) = (1 : Int32) then (0 : Int32) else t4_46) ≤ v12 then (if ((v7 >>> (a3 &&& 31)) &&& (1 : Int32)) = (1 : Int32) then (0 : Int32) else t4_46) else (-1 : Int32)))] by
        refine g_icmp_eq X 100 dX4_behind_86 (by decide) (fun c13 => ?_) (fun c13 => ?_)
        · (try simp only [if_pos c13] at K)
          refine g_iload X dX4_behind_100 rfl ?_
          refine G.drop [false, false, false, false, false, false, false, false] rfl ?_
          first | exact K | (simp only [if_pos c13]; exact K)
        · (try simp only [if_neg c13] at K)
          refine g_iload X dX4_behind_89 rfl ?_
          refine g_iload X dX4_behind_91 rfl ?_
          refine g_icmp_le X 100 dX4_behind_93 (by decide) (fun c14 => ?_) (fun c14 => ?_)
          · (try simp only [if_pos c14] at K)
            refine g_iload X dX4_behind_100 rfl ?_
            refine G.drop [false, false, false, false, false, false, false, false] rfl ?_
            first | exact K | (simp only [if_neg c13, if_pos c14]; exact K)
          · (try simp only [if_neg c14] at K)
            refine g_iconst (v := (-1 : Int32)) X dX4_behind_96 (by decide) ?_
            refine g_goto X 102 dX4_behind_97 (by decide) ?_
            refine G.drop [false, false, false, false, false, false, false, false] rfl ?_
            first | exact K | (simp only [if_neg c13, if_neg c14]; exact K)
      cases hF
      exact g_iret X hr dX4_behind_102
    refine g_icmp_eq X 46 dX4_behind_34 (by decide) (fun c15 => ?_) (fun c15 => ?_)
    · have hF := (if_pos c15).symm.trans hF
      refine G.drop [true, false, true, true, true, false, false, false] rfl ?_
      exact T46 _ hF
    · have hF := (if_neg c15).symm.trans hF
      refine g_iload X dX4_behind_37 rfl ?_
      refine g_iload X dX4_behind_39 rfl ?_
      refine g_icmp_le X 46 dX4_behind_41 (by decide) (fun c16 => ?_) (fun c16 => ?_)
      · have hF := (if_pos c16).symm.trans hF
        refine G.drop [true, false, true, true, true, false, false, false] rfl ?_
        exact T46 _ hF
      · have hF := (if_neg c16).symm.trans hF
        refine g_iconst (v := (-1 : Int32)) X dX4_behind_44 (by decide) ?_
        cases hF
        exact g_iret X hr dX4_behind_45
def F_X4_momentAt (a1 : Int32) (a2 : Int32) (a3 : Int32) (a4 : Int32) : Int32 :=
  ((((((a1 * (11 : Int32)) + a2) * (11 : Int32)) + a3) * (11 : Int32)) + a4)
set_option maxHeartbeats 4000000 in
theorem w_X4_momentAt (l : Launch) (hl : l.stackTraces = false) (D : va_G) (dA : Nat → ClassId) (h0 : HH) (a1 : Int32) (a2 : Int32) (a3 : Int32) (a4 : Int32) : MC D dA l yX4_momentAt cX4_momentAt 4 (Option.some Jvm.ClassFile.FieldType.int) [] 0 0 [.int a1, .int a2, .int a3, .int a4] h0 (.inr (some (.int (F_X4_momentAt a1 a2 a3 a4))), h0) := by
  refine mc_of hl (plainFor_of_name pn_X4) (by simp [lg_sl, cat_rf, cat_i, cat_j, cat_f, cat_d]) ?_
  intro p e s m args below meth c R hRf hRl X hr hnm
  generalize hF : F_X4_momentAt a1 a2 a3 a4 = rE
  unfold F_X4_momentAt at hF
  rw [show argL [.int a1, .int a2, .int a3, .int a4] = [some (.int a1), some (.int a2), some (.int a3), some (.int a4)] from by simp [argL, cat_rf, cat_i, cat_j, cat_f, cat_d]]
  refine g_iload_n X dX4_momentAt_0 rfl rfl ?_
  refine g_bipush (v := (11 : Int32)) X dX4_momentAt_1 (by decide) ?_
  refine g_imul X dX4_momentAt_3 ?_
  refine g_iload_n X dX4_momentAt_4 rfl rfl ?_
  refine g_iadd X dX4_momentAt_5 ?_
  refine g_bipush (v := (11 : Int32)) X dX4_momentAt_6 (by decide) ?_
  refine g_imul X dX4_momentAt_8 ?_
  refine g_iload_n X dX4_momentAt_9 rfl rfl ?_
  refine g_iadd X dX4_momentAt_10 ?_
  refine g_bipush (v := (11 : Int32)) X dX4_momentAt_11 (by decide) ?_
  refine g_imul X dX4_momentAt_13 ?_
  refine g_iload_n X dX4_momentAt_14 rfl rfl ?_
  refine g_iadd X dX4_momentAt_15 ?_
  cases hF
  exact g_iret X hr dX4_momentAt_16
def F_X4_carried (this : Nat) (a1 : Int32) (a2 : Int32) (h0 : HH) : Option Int32 :=
  Option.bind (isO h0 1 (some this)) fun ob1 =>
  Option.bind (F_X4_behind ob1 a1 a2 (0 : Int32) h0) fun v2 =>
  Option.bind (isO h0 1 (some this)) fun ob3 =>
  Option.bind (F_X4_behind ob3 a1 a2 (1 : Int32) h0) fun v4 =>
  Option.bind (isO h0 1 (some this)) fun ob5 =>
  Option.bind (F_X4_behind ob5 a1 a2 (2 : Int32) h0) fun v6 =>
  Option.bind (isO h0 1 (some this)) fun ob7 =>
  Option.bind (F_X4_line ob7 a2 (0 : Int32) h0) fun v8 =>
  if (if v8 = (a1 / (1331 : Int32)) then (if v2 < 0 then (0 : Int32) else (if v4 < 0 then (0 : Int32) else (if v6 < 0 then (0 : Int32) else (1 : Int32)))) else (0 : Int32)) = 0 then (
    some (-1 : Int32)
  ) else (
    Option.bind (isO h0 1 (some this)) fun ob14 =>
    Option.bind (F_X4_line ob14 a2 (1 : Int32) h0) fun v15 =>
    some (F_X4_momentAt v15 v2 v4 v6)
  )
set_option maxHeartbeats 4000000 in
theorem w_X4_carried (l : Launch) (hl : l.stackTraces = false) (D : va_G) (dA : Nat → ClassId) (h0 : HH) (this : Nat) (a1 : Int32) (a2 : Int32) (rE : Int32) (hF : F_X4_carried this a1 a2 h0 = some rE) : MC D dA l yX4_carried cX4_carried 7 (Option.some Jvm.ClassFile.FieldType.int) [] 2 49 [va_rf (some this), .int a1, .int a2] h0 (.inr (some (.int rE)), h0) := by
  refine mc_of hl (plainFor_of_name pn_X4) (by simp [lg_sl, cat_rf, cat_i, cat_j, cat_f, cat_d]) ?_
  intro p e s m args below meth c R hRf hRl X hr hnm
  unfold F_X4_carried at hF
  rw [show argL [va_rf (some this), .int a1, .int a2] = [some (va_rf (some this)), some (.int a1), some (.int a2)] from by simp [argL, cat_rf, cat_i, cat_j, cat_f, cat_d]]
  refine G.pad 4 (L' := [some (va_rf (some this)), some (.int a1), some (.int a2), none, none, none, none]) rfl ?_
  refine g_aload_n X dX4_carried_0 rfl rfl ?_
  refine g_iload_n X dX4_carried_1 rfl rfl ?_
  refine g_iload_n X dX4_carried_2 rfl rfl ?_
  refine g_iconst (v := (0 : Int32)) X dX4_carried_3 (by decide) ?_
  obtain ⟨ob1, eob1, hF⟩ := bnd hF
  obtain ⟨v2, ev2, hF⟩ := bnd hF
  refine g_callV X eob1 rfl rfl (w_X4_behind l hl D dA h0 ob1 a1 a2 (0 : Int32) v2 ev2) q2266 q2268 qs80 q103 q2269 okn_X4_behind ⟨by rw [hRf]; exact Nat.le_of_ble_eq_true rfl, by rw [hRl]; exact Nat.le_of_ble_eq_true rfl⟩ (As := [.int a1, .int a2, .int (0 : Int32)]) (rest := []) rfl (by first | exact Nat.le_of_ble_eq_true rfl | simp [cat_rf, cat_i, cat_j, cat_f, cat_d]) dX4_carried_4 (ac_v ?_)
  refine g_istore_n (L' := [some (va_rf (some this)), some (.int a1), some (.int a2), some (.int v2), none, none, none]) X dX4_carried_7 rfl (Nat.le_of_ble_eq_true rfl) (by first | rfl | simp [stL, rm1, clr2, cat_rf, cat_i, cat_j, cat_f, cat_d]) ?_
  refine g_aload_n X dX4_carried_8 rfl rfl ?_
  refine g_iload_n X dX4_carried_9 rfl rfl ?_
  refine g_iload_n X dX4_carried_10 rfl rfl ?_
  refine g_iconst (v := (1 : Int32)) X dX4_carried_11 (by decide) ?_
  obtain ⟨ob3, eob3, hF⟩ := bnd hF
  obtain ⟨v4, ev4, hF⟩ := bnd hF
  refine g_callV X eob3 rfl rfl (w_X4_behind l hl D dA h0 ob3 a1 a2 (1 : Int32) v4 ev4) q2266 q2268 qs80 q103 q2269 okn_X4_behind ⟨by rw [hRf]; exact Nat.le_of_ble_eq_true rfl, by rw [hRl]; exact Nat.le_of_ble_eq_true rfl⟩ (As := [.int a1, .int a2, .int (1 : Int32)]) (rest := []) rfl (by first | exact Nat.le_of_ble_eq_true rfl | simp [cat_rf, cat_i, cat_j, cat_f, cat_d]) dX4_carried_12 (ac_v ?_)
  refine g_istore (L' := [some (va_rf (some this)), some (.int a1), some (.int a2), some (.int v2), some (.int v4), none, none]) X dX4_carried_15 (Nat.le_of_ble_eq_true rfl) (by first | rfl | simp [stL, rm1, clr2, cat_rf, cat_i, cat_j, cat_f, cat_d]) ?_
  refine g_aload_n X dX4_carried_17 rfl rfl ?_
  refine g_iload_n X dX4_carried_18 rfl rfl ?_
  refine g_iload_n X dX4_carried_19 rfl rfl ?_
  refine g_iconst (v := (2 : Int32)) X dX4_carried_20 (by decide) ?_
  obtain ⟨ob5, eob5, hF⟩ := bnd hF
  obtain ⟨v6, ev6, hF⟩ := bnd hF
  refine g_callV X eob5 rfl rfl (w_X4_behind l hl D dA h0 ob5 a1 a2 (2 : Int32) v6 ev6) q2266 q2268 qs80 q103 q2269 okn_X4_behind ⟨by rw [hRf]; exact Nat.le_of_ble_eq_true rfl, by rw [hRl]; exact Nat.le_of_ble_eq_true rfl⟩ (As := [.int a1, .int a2, .int (2 : Int32)]) (rest := []) rfl (by first | exact Nat.le_of_ble_eq_true rfl | simp [cat_rf, cat_i, cat_j, cat_f, cat_d]) dX4_carried_21 (ac_v ?_)
  refine g_istore (L' := [some (va_rf (some this)), some (.int a1), some (.int a2), some (.int v2), some (.int v4), some (.int v6), none]) X dX4_carried_24 (Nat.le_of_ble_eq_true rfl) (by first | rfl | simp [stL, rm1, clr2, cat_rf, cat_i, cat_j, cat_f, cat_d]) ?_
  refine g_aload_n X dX4_carried_26 rfl rfl ?_
  refine g_iload_n X dX4_carried_27 rfl rfl ?_
  refine g_iconst (v := (0 : Int32)) X dX4_carried_28 (by decide) ?_
  obtain ⟨ob7, eob7, hF⟩ := bnd hF
  obtain ⟨v8, ev8, hF⟩ := bnd hF
  refine g_callV X eob7 rfl rfl (w_X4_line l hl D dA h0 ob7 a2 (0 : Int32) v8 ev8) q2064 q2066 qs59 q103 q2067 okn_X4_line ⟨by rw [hRf]; exact Nat.le_of_ble_eq_true rfl, by rw [hRl]; exact Nat.le_of_ble_eq_true rfl⟩ (As := [.int a2, .int (0 : Int32)]) (rest := []) rfl (by first | exact Nat.le_of_ble_eq_true rfl | simp [cat_rf, cat_i, cat_j, cat_f, cat_d]) dX4_carried_29 (ac_v ?_)
  refine g_iload_n X dX4_carried_32 rfl rfl ?_
  refine g_sipush (v := (1331 : Int32)) X dX4_carried_33 (by decide) ?_
  refine g_idiv X dX4_carried_36 (by decide) ?_
  suffices K : G p l e R s m args below meth c (RQ D dA h0 (.inr (some (.int rE)), h0) below s) D dA h0 7 h0 59 [some (va_rf (some this)), none, some (.int a2), some (.int v2), some (.int v4), some (.int v6), none] [.int (if v8 = (a1 / (1331 : Int32)) then (if v2 < 0 then (0 : Int32) else (if v4 < 0 then (0 : Int32) else (if v6 < 0 then (0 : Int32) else (1 : Int32)))) else (0 : Int32))] by
    refine g_icmp_ne X 58 dX4_carried_37 (by decide) (fun c9 => ?_) (fun c9 => ?_)
    · (try simp only [if_neg c9] at K)
      refine g_iconst (v := (0 : Int32)) X dX4_carried_58 (by decide) ?_
      refine G.drop [true, false, true, true, true, true, false] rfl ?_
      first | exact K | (simp only [if_neg c9]; exact K)
    · (try simp only [if_pos c9] at K)
      refine g_iload_n X dX4_carried_40 rfl rfl ?_
      refine g_if_lt X 58 dX4_carried_41 (by decide) (fun c10 => ?_) (fun c10 => ?_)
      · (try simp only [if_pos c10] at K)
        refine g_iconst (v := (0 : Int32)) X dX4_carried_58 (by decide) ?_
        refine G.drop [true, false, true, true, true, true, false] rfl ?_
        first | exact K | (simp only [if_pos c9, if_pos c10]; exact K)
      · (try simp only [if_neg c10] at K)
        refine g_iload X dX4_carried_44 rfl ?_
        refine g_if_lt X 58 dX4_carried_46 (by decide) (fun c11 => ?_) (fun c11 => ?_)
        · (try simp only [if_pos c11] at K)
          refine g_iconst (v := (0 : Int32)) X dX4_carried_58 (by decide) ?_
          refine G.drop [true, false, true, true, true, true, false] rfl ?_
          first | exact K | (simp only [if_pos c9, if_neg c10, if_pos c11]; exact K)
        · (try simp only [if_neg c11] at K)
          refine g_iload X dX4_carried_49 rfl ?_
          refine g_if_lt X 58 dX4_carried_51 (by decide) (fun c12 => ?_) (fun c12 => ?_)
          · (try simp only [if_pos c12] at K)
            refine g_iconst (v := (0 : Int32)) X dX4_carried_58 (by decide) ?_
            refine G.drop [true, false, true, true, true, true, false] rfl ?_
            first | exact K | (simp only [if_pos c9, if_neg c10, if_neg c11, if_pos c12]; exact K)
          · (try simp only [if_neg c12] at K)
            refine g_iconst (v := (1 : Int32)) X dX4_carried_54 (by decide) ?_
            refine g_goto X 59 dX4_carried_55 (by decide) ?_
            refine G.drop [true, false, true, true, true, true, false] rfl ?_
            first | exact K | (simp only [if_pos c9, if_neg c10, if_neg c11, if_neg c12]; exact K)
  refine g_istore (L' := [some (va_rf (some this)), none, some (.int a2), some (.int v2), some (.int v4), some (.int v6), some (.int (if v8 = (a1 / (1331 : Int32)) then (if v2 < 0 then (0 : Int32) else (if v4 < 0 then (0 : Int32) else (if v6 < 0 then (0 : Int32) else (1 : Int32)))) else (0 : Int32)))]) X dX4_carried_59 (Nat.le_of_ble_eq_true rfl) (by first | rfl | simp [stL, rm1, clr2, cat_rf, cat_i, cat_j, cat_f, cat_d]) ?_
  refine g_iload X dX4_carried_61 rfl ?_
  refine g_if_eq X 83 dX4_carried_63 (by decide) (fun c13 => ?_) (fun c13 => ?_)
  · have hF := (if_pos c13).symm.trans hF
    refine g_iconst (v := (-1 : Int32)) X dX4_carried_83 (by decide) ?_
    cases hF
    exact g_iret X hr dX4_carried_84
  · have hF := (if_neg c13).symm.trans hF
    refine g_aload_n X dX4_carried_66 rfl rfl ?_
    refine g_iload_n X dX4_carried_67 rfl rfl ?_
    refine g_iconst (v := (1 : Int32)) X dX4_carried_68 (by decide) ?_
    obtain ⟨ob14, eob14, hF⟩ := bnd hF
    obtain ⟨v15, ev15, hF⟩ := bnd hF
    refine g_callV X eob14 rfl rfl (w_X4_line l hl D dA h0 ob14 a2 (1 : Int32) v15 ev15) q2064 q2066 qs59 q103 q2067 okn_X4_line ⟨by rw [hRf]; exact Nat.le_of_ble_eq_true rfl, by rw [hRl]; exact Nat.le_of_ble_eq_true rfl⟩ (As := [.int a2, .int (1 : Int32)]) (rest := []) rfl (by first | exact Nat.le_of_ble_eq_true rfl | simp [cat_rf, cat_i, cat_j, cat_f, cat_d]) dX4_carried_69 (ac_v ?_)
    refine g_iload_n X dX4_carried_72 rfl rfl ?_
    refine g_iload X dX4_carried_73 rfl ?_
    refine g_iload X dX4_carried_75 rfl ?_
    refine g_callS X (w_X4_momentAt l hl D dA h0 v15 v2 v4 v6) q2273 q2274 q103 q2275 okn_X4_momentAt ⟨by rw [hRf]; exact Nat.le_of_ble_eq_true rfl, by rw [hRl]; exact Nat.le_of_ble_eq_true rfl⟩ (As := [.int v15, .int v2, .int v4, .int v6]) (rest := []) rfl (by first | exact Nat.le_of_ble_eq_true rfl | simp [cat_rf, cat_i, cat_j, cat_f, cat_d]) dX4_carried_77 (ac_v ?_)
    refine g_goto X 84 dX4_carried_80 (by decide) ?_
    cases hF
    exact g_iret X hr dX4_carried_84
def F_X4_comes (this : Nat) (a1 : Int32) (a2 : Int32) (h0 : HH) : Option HH :=
  if a1 < 0 then (
    some h0
  ) else (
    Option.bind (getR h0 1 17 (some this)) fun v2 =>
    Option.bind (aldI h0 0 v2 a1) fun v3 =>
    if v3 = (100000 : Int32) then (
      Option.bind (getR h0 1 17 (some this)) fun v5 =>
      Option.bind (astI h0 v5 a1 a2) fun h6 =>
      Option.bind (getR h6 1 18 (some this)) fun v7 =>
      Option.bind (getI h6 1 19 (some this)) fun v8 =>
      Option.bind (astI h6 v7 v8 a1) fun h9 =>
      Option.bind (getI h9 1 19 (some this)) fun v10 =>
      Option.bind (putV h9 1 19 (some this) (.int (v10 + (1 : Int32)))) fun h11 =>
      some h11
    ) else (
      some h0
    )
  )
set_option maxHeartbeats 4000000 in
theorem w_X4_comes (l : Launch) (hl : l.stackTraces = false) (D : va_G) (dA : Nat → ClassId) (h0 : HH) (this : Nat) (a1 : Int32) (a2 : Int32) (hE : HH) (hF : F_X4_comes this a1 a2 h0 = some hE) : MC D dA l yX4_comes cX4_comes 3 (Option.none : Option Jvm.ClassFile.FieldType) [] 0 0 [va_rf (some this), .int a1, .int a2] h0 (.inr none, hE) := by
  refine mc_of hl (plainFor_of_name pn_X4) (by simp [lg_sl, cat_rf, cat_i, cat_j, cat_f, cat_d]) ?_
  intro p e s m args below meth c R hRf hRl X hr hnm
  unfold F_X4_comes at hF
  rw [show argL [va_rf (some this), .int a1, .int a2] = [some (va_rf (some this)), some (.int a1), some (.int a2)] from by simp [argL, cat_rf, cat_i, cat_j, cat_f, cat_d]]
  refine g_iload_n X dX4_comes_0 rfl rfl ?_
  refine g_if_lt X 42 dX4_comes_1 (by decide) (fun c1 => ?_) (fun c1 => ?_)
  · have hF := (if_pos c1).symm.trans hF
    cases hF
    exact g_vret X hr dX4_comes_42
  · have hF := (if_neg c1).symm.trans hF
    refine g_aload_n X dX4_comes_4 rfl rfl ?_
    obtain ⟨v2, ev2, hF⟩ := bnd hF
    refine g_get (k := 17) X in_X4 rfl (by decide) q1780 (Or.inl rfl) (getR_V ev2) dX4_comes_5 ?_
    refine g_iload_n X dX4_comes_8 rfl rfl ?_
    obtain ⟨v3, ev3, hF⟩ := bnd hF
    refine g_iald X ev3 dX4_comes_9 ?_
    refine g_ldc (v := (100000 : Int32)) X q1762 dX4_comes_10 ?_
    refine g_icmp_ne X 42 dX4_comes_12 (by decide) (fun c4 => ?_) (fun c4 => ?_)
    · have hF := (if_neg c4).symm.trans hF
      cases hF
      exact g_vret X hr dX4_comes_42
    · have hF := (if_pos c4).symm.trans hF
      refine g_aload_n X dX4_comes_15 rfl rfl ?_
      obtain ⟨v5, ev5, hF⟩ := bnd hF
      refine g_get (k := 17) X in_X4 rfl (by decide) q1780 (Or.inl rfl) (getR_V ev5) dX4_comes_16 ?_
      refine g_iload_n X dX4_comes_19 rfl rfl ?_
      refine g_iload_n X dX4_comes_20 rfl rfl ?_
      obtain ⟨h6, eh6, hF⟩ := bnd hF
      refine g_iast X eh6 dX4_comes_21 ?_
      refine g_aload_n X dX4_comes_22 rfl rfl ?_
      obtain ⟨v7, ev7, hF⟩ := bnd hF
      refine g_get (k := 18) X in_X4 rfl (by decide) q1781 (Or.inl rfl) (getR_V ev7) dX4_comes_23 ?_
      refine g_aload_n X dX4_comes_26 rfl rfl ?_
      obtain ⟨v8, ev8, hF⟩ := bnd hF
      refine g_get (k := 19) X in_X4 rfl (by decide) q1782 (Or.inl rfl) (getI_V ev8) dX4_comes_27 ?_
      refine g_iload_n X dX4_comes_30 rfl rfl ?_
      obtain ⟨h9, eh9, hF⟩ := bnd hF
      refine g_iast X eh9 dX4_comes_31 ?_
      refine g_aload_n X dX4_comes_32 rfl rfl ?_
      refine g_dup X dX4_comes_33 (cat_rf _) ?_
      obtain ⟨v10, ev10, hF⟩ := bnd hF
      refine g_get (k := 19) X in_X4 rfl (by decide) q1782 (Or.inl rfl) (getI_V ev10) dX4_comes_34 ?_
      refine g_iconst (v := (1 : Int32)) X dX4_comes_37 (by decide) ?_
      refine g_iadd X dX4_comes_38 ?_
      obtain ⟨h11, eh11, hF⟩ := bnd hF
      refine g_put (k := 19) X in_X4 tyX4 tyX4_ok nmX4 rfl (by decide) q1782 (Or.inl rfl) rfl (tyX4_ok 19 (by decide)) rfl rfl eh11 dX4_comes_39 ?_
      cases hF
      exact g_vret X hr dX4_comes_42
def F_X4_ticked_B11 (this : Nat) (a1 : Int32) (k2_1 : Int32) (x3_1 : Int32) (x4_1 : Int32) (h0 : HH) : Option ((Int32 × Int32) ⊕ Int32) :=
  if (3 : Int32) ≤ x4_1 then (
    some (.inr x3_1)
  ) else (
    if x3_1 = 0 then (
      some (.inl ((0 : Int32), (x4_1 + (1 : Int32))))
    ) else (
      Option.bind (isO h0 1 (some this)) fun ob4 =>
      Option.bind (F_X4_stay ob4 k2_1 x4_1 h0) fun v5 =>
      if v5 = (10 : Int32) then (
        some (.inl ((1 : Int32), (x4_1 + (1 : Int32))))
      ) else (
        Option.bind (isO h0 1 (some this)) fun ob7 =>
        Option.bind (F_X4_stay ob7 k2_1 x4_1 h0) fun v8 =>
        some (.inl ((if v8 < ((F_X4_clockAt a1 x4_1) + (1 : Int32)) then (0 : Int32) else (1 : Int32)), (x4_1 + (1 : Int32))))
      )
    )
  )
def F_X4_ticked (this : Nat) (a1 : Int32) (h0 : HH) : Option Int32 :=
  Option.bind (lp (fun z => F_X4_ticked_B11 this a1 (a1 / (1331 : Int32)) z.1 z.2 h0) 100000 ((1 : Int32), (0 : Int32))) fun v10 =>
  some (if v10 = 0 then (-1 : Int32) else (F_X4_momentAt (a1 / (1331 : Int32)) (F_X4_less (10 : Int32) ((F_X4_clockAt a1 (0 : Int32)) + (1 : Int32))) (F_X4_less (10 : Int32) ((F_X4_clockAt a1 (1 : Int32)) + (1 : Int32))) (F_X4_less (10 : Int32) ((F_X4_clockAt a1 (2 : Int32)) + (1 : Int32)))))
set_option maxHeartbeats 4000000 in
theorem w_X4_ticked (l : Launch) (hl : l.stackTraces = false) (D : va_G) (dA : Nat → ClassId) (h0 : HH) (this : Nat) (a1 : Int32) (rE : Int32) (hF : F_X4_ticked this a1 h0 = some rE) : MC D dA l yX4_ticked cX4_ticked 7 (Option.some Jvm.ClassFile.FieldType.int) [] 1 23 [va_rf (some this), .int a1] h0 (.inr (some (.int rE)), h0) := by
  refine mc_of hl (plainFor_of_name pn_X4) (by simp [lg_sl, cat_rf, cat_i, cat_j, cat_f, cat_d]) ?_
  intro p e s m args below meth c R hRf hRl X hr hnm
  unfold F_X4_ticked at hF
  rw [show argL [va_rf (some this), .int a1] = [some (va_rf (some this)), some (.int a1)] from by simp [argL, cat_rf, cat_i, cat_j, cat_f, cat_d]]
  refine G.pad 5 (L' := [some (va_rf (some this)), some (.int a1), none, none, none, none, none]) rfl ?_
  refine g_iload_n X dX4_ticked_0 rfl rfl ?_
  refine g_sipush (v := (1331 : Int32)) X dX4_ticked_1 (by decide) ?_
  refine g_idiv X dX4_ticked_4 (by decide) ?_
  refine g_istore_n (L' := [some (va_rf (some this)), some (.int a1), some (.int (a1 / (1331 : Int32))), none, none, none, none]) X dX4_ticked_5 rfl (Nat.le_of_ble_eq_true rfl) (by first | rfl | simp [stL, rm1, clr2, cat_rf, cat_i, cat_j, cat_f, cat_d]) ?_
  refine g_iconst (v := (1 : Int32)) X dX4_ticked_6 (by decide) ?_
  refine g_istore_n (L' := [some (va_rf (some this)), some (.int a1), some (.int (a1 / (1331 : Int32))), some (.int (1 : Int32)), none, none, none]) X dX4_ticked_7 rfl (Nat.le_of_ble_eq_true rfl) (by first | rfl | simp [stL, rm1, clr2, cat_rf, cat_i, cat_j, cat_f, cat_d]) ?_
  refine g_iconst (v := (0 : Int32)) X dX4_ticked_8 (by decide) ?_
  refine g_istore (L' := [some (va_rf (some this)), some (.int a1), some (.int (a1 / (1331 : Int32))), some (.int (1 : Int32)), some (.int (0 : Int32)), none, none]) X dX4_ticked_9 (Nat.le_of_ble_eq_true rfl) (by first | rfl | simp [stL, rm1, clr2, cat_rf, cat_i, cat_j, cat_f, cat_d]) ?_
  obtain ⟨v10, e12, hF⟩ := bnd hF
  refine lp_ind (Gs := (fun z => G p l e R s m args below meth c (RQ D dA h0 (.inr (some (.int rE)), h0) below s) D dA h0 7 h0 11 [some (va_rf (some this)), some (.int a1), some (.int (a1 / (1331 : Int32))), some (.int z.1), some (.int z.2), none, none] [])) (Ge := (fun z => G p l e R s m args below meth c (RQ D dA h0 (.inr (some (.int rE)), h0) below s) D dA h0 7 h0 63 [none, some (.int a1), some (.int (a1 / (1331 : Int32))), some (.int z), none, none, none] [])) ?_ _ _ _ e12 ?_
  · rintro ⟨x3_1, x4_1⟩ o hF hgo hr
    change F_X4_ticked_B11 this a1 (a1 / (1331 : Int32)) x3_1 x4_1 h0 = some o at hF
    generalize (a1 / (1331 : Int32)) = k2_1 at hF hgo hr ⊢
    unfold F_X4_ticked_B11 at hF
    show G p l e R s m args below meth c (RQ D dA h0 (.inr (some (.int rE)), h0) below s) D dA h0 7 h0 11 [some (va_rf (some this)), some (.int a1), some (.int k2_1), some (.int x3_1), some (.int x4_1), none, none] []
    refine g_iload X dX4_ticked_11 rfl ?_
    refine g_iconst (v := (3 : Int32)) X dX4_ticked_13 (by decide) ?_
    refine g_icmp_ge X 63 dX4_ticked_14 (by decide) (fun c2 => ?_) (fun c2 => ?_)
    · have hF := (if_pos c2).symm.trans hF
      refine G.drop [false, true, true, true, false, false, false] rfl ?_
      cases hF
      exact hr _ rfl
    · have hF := (if_neg c2).symm.trans hF
      refine g_iload_n X dX4_ticked_17 rfl rfl ?_
      refine g_if_eq X 55 dX4_ticked_18 (by decide) (fun c3 => ?_) (fun c3 => ?_)
      · have hF := (if_pos c3).symm.trans hF
        refine g_iconst (v := (0 : Int32)) X dX4_ticked_55 (by decide) ?_
        refine g_istore_n (L' := [some (va_rf (some this)), some (.int a1), some (.int k2_1), some (.int (0 : Int32)), some (.int x4_1), none, none]) X dX4_ticked_56 rfl (Nat.le_of_ble_eq_true rfl) (by first | rfl | simp [stL, rm1, clr2, cat_rf, cat_i, cat_j, cat_f, cat_d]) ?_
        refine g_iinc (v := (x4_1 + (1 : Int32))) (L' := [some (va_rf (some this)), some (.int a1), some (.int k2_1), some (.int (0 : Int32)), some (.int (x4_1 + (1 : Int32))), none, none]) X dX4_ticked_57 (Nat.le_of_ble_eq_true rfl) rfl rfl (by first | rfl | simp [stL, rm1, clr2, cat_rf, cat_i, cat_j, cat_f, cat_d]) ?_
        refine g_goto X 11 dX4_ticked_60 (by decide) ?_
        cases hF
        exact hgo _ rfl
      · have hF := (if_neg c3).symm.trans hF
        refine g_aload_n X dX4_ticked_21 rfl rfl ?_
        refine g_iload_n X dX4_ticked_22 rfl rfl ?_
        refine g_iload X dX4_ticked_23 rfl ?_
        obtain ⟨ob4, eob4, hF⟩ := bnd hF
        obtain ⟨v5, ev5, hF⟩ := bnd hF
        refine g_callV X eob4 rfl rfl (w_X4_stay l hl D dA h0 ob4 k2_1 x4_1 v5 ev5) q2182 q2184 qs68 q103 q2185 okn_X4_stay ⟨by rw [hRf]; exact Nat.le_of_ble_eq_true rfl, by rw [hRl]; exact Nat.le_of_ble_eq_true rfl⟩ (As := [.int k2_1, .int x4_1]) (rest := []) rfl (by first | exact Nat.le_of_ble_eq_true rfl | simp [cat_rf, cat_i, cat_j, cat_f, cat_d]) dX4_ticked_25 (ac_v ?_)
        refine g_bipush (v := (10 : Int32)) X dX4_ticked_28 (by decide) ?_
        refine g_icmp_eq X 51 dX4_ticked_30 (by decide) (fun c6 => ?_) (fun c6 => ?_)
        · have hF := (if_pos c6).symm.trans hF
          refine g_iconst (v := (1 : Int32)) X dX4_ticked_51 (by decide) ?_
          refine g_goto X 56 dX4_ticked_52 (by decide) ?_
          refine g_istore_n (L' := [some (va_rf (some this)), some (.int a1), some (.int k2_1), some (.int (1 : Int32)), some (.int x4_1), none, none]) X dX4_ticked_56 rfl (Nat.le_of_ble_eq_true rfl) (by first | rfl | simp [stL, rm1, clr2, cat_rf, cat_i, cat_j, cat_f, cat_d]) ?_
          refine g_iinc (v := (x4_1 + (1 : Int32))) (L' := [some (va_rf (some this)), some (.int a1), some (.int k2_1), some (.int (1 : Int32)), some (.int (x4_1 + (1 : Int32))), none, none]) X dX4_ticked_57 (Nat.le_of_ble_eq_true rfl) rfl rfl (by first | rfl | simp [stL, rm1, clr2, cat_rf, cat_i, cat_j, cat_f, cat_d]) ?_
          refine g_goto X 11 dX4_ticked_60 (by decide) ?_
          cases hF
          exact hgo _ rfl
        · have hF := (if_neg c6).symm.trans hF
          refine g_iload_n X dX4_ticked_33 rfl rfl ?_
          refine g_iload X dX4_ticked_34 rfl ?_
          refine g_callS X (w_X4_clockAt l hl D dA h0 a1 x4_1) q2270 q2271 q103 q2272 okn_X4_clockAt ⟨by rw [hRf]; exact Nat.le_of_ble_eq_true rfl, by rw [hRl]; exact Nat.le_of_ble_eq_true rfl⟩ (As := [.int a1, .int x4_1]) (rest := []) rfl (by first | exact Nat.le_of_ble_eq_true rfl | simp [cat_rf, cat_i, cat_j, cat_f, cat_d]) dX4_ticked_36 (ac_v ?_)
          refine g_iconst (v := (1 : Int32)) X dX4_ticked_39 (by decide) ?_
          refine g_iadd X dX4_ticked_40 ?_
          refine g_aload_n X dX4_ticked_41 rfl rfl ?_
          refine g_iload_n X dX4_ticked_42 rfl rfl ?_
          refine g_iload X dX4_ticked_43 rfl ?_
          obtain ⟨ob7, eob7, hF⟩ := bnd hF
          obtain ⟨v8, ev8, hF⟩ := bnd hF
          refine g_callV X eob7 rfl rfl (w_X4_stay l hl D dA h0 ob7 k2_1 x4_1 v8 ev8) q2182 q2184 qs68 q103 q2185 okn_X4_stay ⟨by rw [hRf]; exact Nat.le_of_ble_eq_true rfl, by rw [hRl]; exact Nat.le_of_ble_eq_true rfl⟩ (As := [.int k2_1, .int x4_1]) (rest := [.int ((F_X4_clockAt a1 x4_1) + (1 : Int32))]) rfl (by first | exact Nat.le_of_ble_eq_true rfl | simp [cat_rf, cat_i, cat_j, cat_f, cat_d]) dX4_ticked_45 (ac_v ?_)
          suffices K : G p l e R s m args below meth c (RQ D dA h0 (.inr (some (.int rE)), h0) below s) D dA h0 7 h0 56 [some (va_rf (some this)), some (.int a1), some (.int k2_1), none, some (.int x4_1), none, none] [.int (if v8 < ((F_X4_clockAt a1 x4_1) + (1 : Int32)) then (0 : Int32) else (1 : Int32))] by
            refine g_icmp_gt X 55 dX4_ticked_48 (by decide) (fun c9 => ?_) (fun c9 => ?_)
            · (try simp only [if_pos c9] at K)
              refine g_iconst (v := (0 : Int32)) X dX4_ticked_55 (by decide) ?_
              refine G.drop [true, true, true, false, true, false, false] rfl ?_
              first | exact K | (simp only [if_pos c9]; exact K)
            · (try simp only [if_neg c9] at K)
              refine g_iconst (v := (1 : Int32)) X dX4_ticked_51 (by decide) ?_
              refine g_goto X 56 dX4_ticked_52 (by decide) ?_
              refine G.drop [true, true, true, false, true, false, false] rfl ?_
              first | exact K | (simp only [if_neg c9]; exact K)
          refine g_istore_n (L' := [some (va_rf (some this)), some (.int a1), some (.int k2_1), some (.int (if v8 < ((F_X4_clockAt a1 x4_1) + (1 : Int32)) then (0 : Int32) else (1 : Int32))), some (.int x4_1), none, none]) X dX4_ticked_56 rfl (Nat.le_of_ble_eq_true rfl) (by first | rfl | simp [stL, rm1, clr2, cat_rf, cat_i, cat_j, cat_f, cat_d]) ?_
          refine g_iinc (v := (x4_1 + (1 : Int32))) (L' := [some (va_rf (some this)), some (.int a1), some (.int k2_1), some (.int (if v8 < ((F_X4_clockAt a1 x4_1) + (1 : Int32)) then (0 : Int32) else (1 : Int32))), some (.int (x4_1 + (1 : Int32))), none, none]) X dX4_ticked_57 (Nat.le_of_ble_eq_true rfl) rfl rfl (by first | rfl | simp [stL, rm1, clr2, cat_rf, cat_i, cat_j, cat_f, cat_d]) ?_
          refine g_goto X 11 dX4_ticked_60 (by decide) ?_
          cases hF
          exact hgo _ rfl
  show G p l e R s m args below meth c (RQ D dA h0 (.inr (some (.int rE)), h0) below s) D dA h0 7 h0 63 [none, some (.int a1), some (.int (a1 / (1331 : Int32))), some (.int v10), none, none, none] []
  refine g_bipush (v := (10 : Int32)) X dX4_ticked_63 (by decide) ?_
  refine g_iload_n X dX4_ticked_65 rfl rfl ?_
  refine g_iconst (v := (0 : Int32)) X dX4_ticked_66 (by decide) ?_
  refine g_callS X (w_X4_clockAt l hl D dA h0 a1 (0 : Int32)) q2270 q2271 q103 q2272 okn_X4_clockAt ⟨by rw [hRf]; exact Nat.le_of_ble_eq_true rfl, by rw [hRl]; exact Nat.le_of_ble_eq_true rfl⟩ (As := [.int a1, .int (0 : Int32)]) (rest := [.int (10 : Int32)]) rfl (by first | exact Nat.le_of_ble_eq_true rfl | simp [cat_rf, cat_i, cat_j, cat_f, cat_d]) dX4_ticked_67 (ac_v ?_)
  refine g_iconst (v := (1 : Int32)) X dX4_ticked_70 (by decide) ?_
  refine g_iadd X dX4_ticked_71 ?_
  refine g_callS X (w_X4_less l hl D dA h0 (10 : Int32) ((F_X4_clockAt a1 (0 : Int32)) + (1 : Int32))) q1893 q1894 q103 q1895 okn_X4_less ⟨by rw [hRf]; exact Nat.le_of_ble_eq_true rfl, by rw [hRl]; exact Nat.le_of_ble_eq_true rfl⟩ (As := [.int (10 : Int32), .int ((F_X4_clockAt a1 (0 : Int32)) + (1 : Int32))]) (rest := []) rfl (by first | exact Nat.le_of_ble_eq_true rfl | simp [cat_rf, cat_i, cat_j, cat_f, cat_d]) dX4_ticked_72 (ac_v ?_)
  refine g_istore (L' := [none, some (.int a1), some (.int (a1 / (1331 : Int32))), some (.int v10), some (.int (F_X4_less (10 : Int32) ((F_X4_clockAt a1 (0 : Int32)) + (1 : Int32)))), none, none]) X dX4_ticked_75 (Nat.le_of_ble_eq_true rfl) (by first | rfl | simp [stL, rm1, clr2, cat_rf, cat_i, cat_j, cat_f, cat_d]) ?_
  refine g_bipush (v := (10 : Int32)) X dX4_ticked_77 (by decide) ?_
  refine g_iload_n X dX4_ticked_79 rfl rfl ?_
  refine g_iconst (v := (1 : Int32)) X dX4_ticked_80 (by decide) ?_
  refine g_callS X (w_X4_clockAt l hl D dA h0 a1 (1 : Int32)) q2270 q2271 q103 q2272 okn_X4_clockAt ⟨by rw [hRf]; exact Nat.le_of_ble_eq_true rfl, by rw [hRl]; exact Nat.le_of_ble_eq_true rfl⟩ (As := [.int a1, .int (1 : Int32)]) (rest := [.int (10 : Int32)]) rfl (by first | exact Nat.le_of_ble_eq_true rfl | simp [cat_rf, cat_i, cat_j, cat_f, cat_d]) dX4_ticked_81 (ac_v ?_)
  refine g_iconst (v := (1 : Int32)) X dX4_ticked_84 (by decide) ?_
  refine g_iadd X dX4_ticked_85 ?_
  refine g_callS X (w_X4_less l hl D dA h0 (10 : Int32) ((F_X4_clockAt a1 (1 : Int32)) + (1 : Int32))) q1893 q1894 q103 q1895 okn_X4_less ⟨by rw [hRf]; exact Nat.le_of_ble_eq_true rfl, by rw [hRl]; exact Nat.le_of_ble_eq_true rfl⟩ (As := [.int (10 : Int32), .int ((F_X4_clockAt a1 (1 : Int32)) + (1 : Int32))]) (rest := []) rfl (by first | exact Nat.le_of_ble_eq_true rfl | simp [cat_rf, cat_i, cat_j, cat_f, cat_d]) dX4_ticked_86 (ac_v ?_)
  refine g_istore (L' := [none, some (.int a1), some (.int (a1 / (1331 : Int32))), some (.int v10), some (.int (F_X4_less (10 : Int32) ((F_X4_clockAt a1 (0 : Int32)) + (1 : Int32)))), some (.int (F_X4_less (10 : Int32) ((F_X4_clockAt a1 (1 : Int32)) + (1 : Int32)))), none]) X dX4_ticked_89 (Nat.le_of_ble_eq_true rfl) (by first | rfl | simp [stL, rm1, clr2, cat_rf, cat_i, cat_j, cat_f, cat_d]) ?_
  refine g_bipush (v := (10 : Int32)) X dX4_ticked_91 (by decide) ?_
  refine g_iload_n X dX4_ticked_93 rfl rfl ?_
  refine g_iconst (v := (2 : Int32)) X dX4_ticked_94 (by decide) ?_
  refine g_callS X (w_X4_clockAt l hl D dA h0 a1 (2 : Int32)) q2270 q2271 q103 q2272 okn_X4_clockAt ⟨by rw [hRf]; exact Nat.le_of_ble_eq_true rfl, by rw [hRl]; exact Nat.le_of_ble_eq_true rfl⟩ (As := [.int a1, .int (2 : Int32)]) (rest := [.int (10 : Int32)]) rfl (by first | exact Nat.le_of_ble_eq_true rfl | simp [cat_rf, cat_i, cat_j, cat_f, cat_d]) dX4_ticked_95 (ac_v ?_)
  refine g_iconst (v := (1 : Int32)) X dX4_ticked_98 (by decide) ?_
  refine g_iadd X dX4_ticked_99 ?_
  refine g_callS X (w_X4_less l hl D dA h0 (10 : Int32) ((F_X4_clockAt a1 (2 : Int32)) + (1 : Int32))) q1893 q1894 q103 q1895 okn_X4_less ⟨by rw [hRf]; exact Nat.le_of_ble_eq_true rfl, by rw [hRl]; exact Nat.le_of_ble_eq_true rfl⟩ (As := [.int (10 : Int32), .int ((F_X4_clockAt a1 (2 : Int32)) + (1 : Int32))]) (rest := []) rfl (by first | exact Nat.le_of_ble_eq_true rfl | simp [cat_rf, cat_i, cat_j, cat_f, cat_d]) dX4_ticked_100 (ac_v ?_)
  refine g_istore (L' := [none, some (.int a1), some (.int (a1 / (1331 : Int32))), some (.int v10), some (.int (F_X4_less (10 : Int32) ((F_X4_clockAt a1 (0 : Int32)) + (1 : Int32)))), some (.int (F_X4_less (10 : Int32) ((F_X4_clockAt a1 (1 : Int32)) + (1 : Int32)))), some (.int (F_X4_less (10 : Int32) ((F_X4_clockAt a1 (2 : Int32)) + (1 : Int32))))]) X dX4_ticked_103 (Nat.le_of_ble_eq_true rfl) (by first | rfl | simp [stL, rm1, clr2, cat_rf, cat_i, cat_j, cat_f, cat_d]) ?_
  refine g_iload_n X dX4_ticked_105 rfl rfl ?_
  suffices K : G p l e R s m args below meth c (RQ D dA h0 (.inr (some (.int rE)), h0) below s) D dA h0 7 h0 123 [none, none, none, none, none, none, none] [.int (if v10 = 0 then (-1 : Int32) else (F_X4_momentAt (a1 / (1331 : Int32)) (F_X4_less (10 : Int32) ((F_X4_clockAt a1 (0 : Int32)) + (1 : Int32))) (F_X4_less (10 : Int32) ((F_X4_clockAt a1 (1 : Int32)) + (1 : Int32))) (F_X4_less (10 : Int32) ((F_X4_clockAt a1 (2 : Int32)) + (1 : Int32)))))] by
    refine g_if_eq X 122 dX4_ticked_106 (by decide) (fun c11 => ?_) (fun c11 => ?_)
    · (try simp only [if_pos c11] at K)
      refine g_iconst (v := (-1 : Int32)) X dX4_ticked_122 (by decide) ?_
      refine G.drop [false, false, false, false, false, false, false] rfl ?_
      first | exact K | (simp only [if_pos c11]; exact K)
    · (try simp only [if_neg c11] at K)
      refine g_iload_n X dX4_ticked_109 rfl rfl ?_
      refine g_iload X dX4_ticked_110 rfl ?_
      refine g_iload X dX4_ticked_112 rfl ?_
      refine g_iload X dX4_ticked_114 rfl ?_
      refine g_callS X (w_X4_momentAt l hl D dA h0 (a1 / (1331 : Int32)) (F_X4_less (10 : Int32) ((F_X4_clockAt a1 (0 : Int32)) + (1 : Int32))) (F_X4_less (10 : Int32) ((F_X4_clockAt a1 (1 : Int32)) + (1 : Int32))) (F_X4_less (10 : Int32) ((F_X4_clockAt a1 (2 : Int32)) + (1 : Int32)))) q2273 q2274 q103 q2275 okn_X4_momentAt ⟨by rw [hRf]; exact Nat.le_of_ble_eq_true rfl, by rw [hRl]; exact Nat.le_of_ble_eq_true rfl⟩ (As := [.int (a1 / (1331 : Int32)), .int (F_X4_less (10 : Int32) ((F_X4_clockAt a1 (0 : Int32)) + (1 : Int32))), .int (F_X4_less (10 : Int32) ((F_X4_clockAt a1 (1 : Int32)) + (1 : Int32))), .int (F_X4_less (10 : Int32) ((F_X4_clockAt a1 (2 : Int32)) + (1 : Int32)))]) (rest := []) rfl (by first | exact Nat.le_of_ble_eq_true rfl | simp [cat_rf, cat_i, cat_j, cat_f, cat_d]) dX4_ticked_116 (ac_v ?_)
      refine g_goto X 123 dX4_ticked_119 (by decide) ?_
      refine G.drop [false, false, false, false, false, false, false] rfl ?_
      first | exact K | (simp only [if_neg c11]; exact K)
  cases hF
  exact g_iret X hr dX4_ticked_123
def F_X4_rides_B2 (this : Nat) (x1_1 : Int32) (h_1 : HH) : Option ((Int32 × HH) ⊕ HH) :=
  if (7986 : Int32) ≤ x1_1 then (
    some (.inr h_1)
  ) else (
    Option.bind (getR h_1 1 17 (some this)) fun v3 =>
    Option.bind (astI h_1 v3 x1_1 (100000 : Int32)) fun h4 =>
    some (.inl ((x1_1 + (1 : Int32)), h4))
  )
def F_X4_rides_B64 (this : Nat) (x1_9 : Int32) (x2_9 : Int32) (x2_12 : Int32) (k3_17 : Int32) (x4_17 : Int32) (h_17 : HH) : Option ((Int32 × HH) ⊕ HH) :=
  Option.bind (getR h_17 1 0 (some this)) fun v18 =>
  Option.bind (aldI h_17 0 v18 (102 : Int32)) fun v19 =>
  if v19 ≤ x4_17 then (
    some (.inr h_17)
  ) else (
    Option.bind (isO h_17 1 (some this)) fun ob21 =>
    Option.bind (F_X4_carried ob21 k3_17 x4_17 h_17) fun v22 =>
    Option.bind (getR h_17 1 17 (some this)) fun v23 =>
    Option.bind (aldI h_17 0 v23 k3_17) fun v24 =>
    Option.bind (isO h_17 1 (some this)) fun ob25 =>
    Option.bind (F_X4_comes ob25 v22 v24 h_17) fun h26 =>
    some (.inl ((x4_17 + (1 : Int32)), h26))
  )
def F_X4_rides_B46 (this : Nat) (x1_9 : Int32) (x2_9 : Int32) (x2_12 : Int32) (h_12 : HH) : Option ((Int32 × HH) ⊕ (Int32 × HH)) :=
  Option.bind (getI h_12 1 19 (some this)) fun v13 =>
  if v13 ≤ x2_12 then (
    some (.inr (x2_12, h_12))
  ) else (
    Option.bind (getR h_12 1 18 (some this)) fun v15 =>
    Option.bind (aldI h_12 0 v15 x2_12) fun v16 =>
    Option.bind (lp (fun z => F_X4_rides_B64 this x1_9 x2_9 x2_12 v16 z.1 z.2) 100000 ((0 : Int32), h_12)) fun h27 =>
    some (.inl ((x2_12 + (1 : Int32)), h27))
  )
def F_X4_rides_B113 (this : Nat) (x1_9 : Int32) (x2_9 : Int32) (k2_33 : Int32) (k3_33 : Int32) (x4_33 : Int32) (h_33 : HH) : Option ((Int32 × HH) ⊕ HH) :=
  if k3_33 ≤ x4_33 then (
    some (.inr h_33)
  ) else (
    Option.bind (getR h_33 1 18 (some this)) fun v35 =>
    Option.bind (aldI h_33 0 v35 x4_33) fun v36 =>
    Option.bind (isO h_33 1 (some this)) fun ob37 =>
    Option.bind (F_X4_ticked ob37 v36 h_33) fun v38 =>
    Option.bind (getR h_33 1 17 (some this)) fun v39 =>
    Option.bind (getR h_33 1 18 (some this)) fun v40 =>
    Option.bind (aldI h_33 0 v40 x4_33) fun v41 =>
    Option.bind (aldI h_33 0 v39 v41) fun v42 =>
    Option.bind (isO h_33 1 (some this)) fun ob43 =>
    Option.bind (F_X4_comes ob43 v38 (v42 + (1 : Int32)) h_33) fun h44 =>
    some (.inl ((x4_33 + (1 : Int32)), h44))
  )
def F_X4_rides_B38 (this : Nat) (x1_9 : Int32) (x2_9 : Int32) (h_9 : HH) : Option ((Int32 × Int32 × HH) ⊕ HH) :=
  Option.bind (getI h_9 1 19 (some this)) fun v10 =>
  if v10 ≤ x1_9 then (
    some (.inr h_9)
  ) else (
    Option.bind (lp (fun z => F_X4_rides_B46 this x1_9 x2_9 z.1 z.2) 100000 (x2_9, h_9)) fun (v30, h31) =>
    Option.bind (getI h31 1 19 (some this)) fun v32 =>
    Option.bind (lp (fun z => F_X4_rides_B113 this x1_9 x2_9 v30 v32 z.1 z.2) 100000 (x1_9, h31)) fun h45 =>
    some (.inl (v32, v30, h45))
  )
def F_X4_rides (this : Nat) (h0 : HH) : Option HH :=
  Option.bind (lp (fun z => F_X4_rides_B2 this z.1 z.2) 100000 ((0 : Int32), h0)) fun h5 =>
  Option.bind (putV h5 1 19 (some this) (.int (0 : Int32))) fun h6 =>
  Option.bind (isO h6 1 (some this)) fun ob7 =>
  Option.bind (F_X4_comes ob7 (0 : Int32) (0 : Int32) h6) fun h8 =>
  Option.bind (lp (fun z => F_X4_rides_B38 this z.1 z.2.1 z.2.2) 100000 ((0 : Int32), (0 : Int32), h8)) fun h50 =>
  some h50
set_option maxHeartbeats 4000000 in
theorem w_X4_rides (l : Launch) (hl : l.stackTraces = false) (D : va_G) (dA : Nat → ClassId) (h0 : HH) (this : Nat) (hE : HH) (hF : F_X4_rides this h0 = some hE) : MC D dA l yX4_rides cX4_rides 5 (Option.none : Option Jvm.ClassFile.FieldType) [] 3 75 [va_rf (some this)] h0 (.inr none, hE) := by
  refine mc_of hl (plainFor_of_name pn_X4) (by simp [lg_sl, cat_rf, cat_i, cat_j, cat_f, cat_d]) ?_
  intro p e s m args below meth c R hRf hRl X hr hnm
  unfold F_X4_rides at hF
  rw [show argL [va_rf (some this)] = [some (va_rf (some this))] from by simp [argL, cat_rf, cat_i, cat_j, cat_f, cat_d]]
  refine G.pad 4 (L' := [some (va_rf (some this)), none, none, none, none]) rfl ?_
  refine g_iconst (v := (0 : Int32)) X dX4_rides_0 (by decide) ?_
  refine g_istore_n (L' := [some (va_rf (some this)), some (.int (0 : Int32)), none, none, none]) X dX4_rides_1 rfl (Nat.le_of_ble_eq_true rfl) (by first | rfl | simp [stL, rm1, clr2, cat_rf, cat_i, cat_j, cat_f, cat_d]) ?_
  obtain ⟨h5, e53, hF⟩ := bnd hF
  refine lp_ind (Gs := (fun z => G p l e R s m args below meth c (RQ D dA h0 (.inr none, hE) below s) D dA h0 5 z.2 2 [some (va_rf (some this)), some (.int z.1), none, none, none] [])) (Ge := (fun z => G p l e R s m args below meth c (RQ D dA h0 (.inr none, hE) below s) D dA h0 5 z 23 [some (va_rf (some this)), none, none, none, none] [])) ?_ _ _ _ e53 ?_
  · rintro ⟨x1_1, h_1⟩ o hF hgo hr
    change F_X4_rides_B2 this x1_1 h_1 = some o at hF
    unfold F_X4_rides_B2 at hF
    show G p l e R s m args below meth c (RQ D dA h0 (.inr none, hE) below s) D dA h0 5 h_1 2 [some (va_rf (some this)), some (.int x1_1), none, none, none] []
    refine g_iload_n X dX4_rides_2 rfl rfl ?_
    refine g_sipush (v := (7986 : Int32)) X dX4_rides_3 (by decide) ?_
    refine g_icmp_ge X 23 dX4_rides_6 (by decide) (fun c2 => ?_) (fun c2 => ?_)
    · have hF := (if_pos c2).symm.trans hF
      refine G.drop [true, false, false, false, false] rfl ?_
      cases hF
      exact hr _ rfl
    · have hF := (if_neg c2).symm.trans hF
      refine g_aload_n X dX4_rides_9 rfl rfl ?_
      obtain ⟨v3, ev3, hF⟩ := bnd hF
      refine g_get (k := 17) X in_X4 rfl (by decide) q1780 (Or.inl rfl) (getR_V ev3) dX4_rides_10 ?_
      refine g_iload_n X dX4_rides_13 rfl rfl ?_
      refine g_ldc (v := (100000 : Int32)) X q1762 dX4_rides_14 ?_
      obtain ⟨h4, eh4, hF⟩ := bnd hF
      refine g_iast X eh4 dX4_rides_16 ?_
      refine g_iinc (v := (x1_1 + (1 : Int32))) (L' := [some (va_rf (some this)), some (.int (x1_1 + (1 : Int32))), none, none, none]) X dX4_rides_17 (Nat.le_of_ble_eq_true rfl) rfl rfl (by first | rfl | simp [stL, rm1, clr2, cat_rf, cat_i, cat_j, cat_f, cat_d]) ?_
      refine g_goto X 2 dX4_rides_20 (by decide) ?_
      cases hF
      exact hgo _ rfl
  show G p l e R s m args below meth c (RQ D dA h0 (.inr none, hE) below s) D dA h0 5 h5 23 [some (va_rf (some this)), none, none, none, none] []
  refine g_aload_n X dX4_rides_23 rfl rfl ?_
  refine g_iconst (v := (0 : Int32)) X dX4_rides_24 (by decide) ?_
  obtain ⟨h6, eh6, hF⟩ := bnd hF
  refine g_put (k := 19) X in_X4 tyX4 tyX4_ok nmX4 rfl (by decide) q1782 (Or.inl rfl) rfl (tyX4_ok 19 (by decide)) rfl rfl eh6 dX4_rides_25 ?_
  refine g_aload_n X dX4_rides_28 rfl rfl ?_
  refine g_iconst (v := (0 : Int32)) X dX4_rides_29 (by decide) ?_
  refine g_iconst (v := (0 : Int32)) X dX4_rides_30 (by decide) ?_
  obtain ⟨ob7, eob7, hF⟩ := bnd hF
  obtain ⟨h8, eh8, hF⟩ := bnd hF
  refine g_callV X eob7 rfl rfl (w_X4_comes l hl D dA h6 ob7 (0 : Int32) (0 : Int32) h8 eh8) q2258 q2260 qs78 q103 q2261 okn_X4_comes ⟨by rw [hRf]; exact Nat.le_of_ble_eq_true rfl, by rw [hRl]; exact Nat.le_of_ble_eq_true rfl⟩ (As := [.int (0 : Int32), .int (0 : Int32)]) (rest := []) rfl (by first | exact Nat.le_of_ble_eq_true rfl | simp [cat_rf, cat_i, cat_j, cat_f, cat_d]) dX4_rides_31 (ac_0 ?_)
  refine g_iconst (v := (0 : Int32)) X dX4_rides_34 (by decide) ?_
  refine g_istore_n (L' := [some (va_rf (some this)), some (.int (0 : Int32)), none, none, none]) X dX4_rides_35 rfl (Nat.le_of_ble_eq_true rfl) (by first | rfl | simp [stL, rm1, clr2, cat_rf, cat_i, cat_j, cat_f, cat_d]) ?_
  refine g_iconst (v := (0 : Int32)) X dX4_rides_36 (by decide) ?_
  refine g_istore_n (L' := [some (va_rf (some this)), some (.int (0 : Int32)), some (.int (0 : Int32)), none, none]) X dX4_rides_37 rfl (Nat.le_of_ble_eq_true rfl) (by first | rfl | simp [stL, rm1, clr2, cat_rf, cat_i, cat_j, cat_f, cat_d]) ?_
  obtain ⟨h50, e51, hF⟩ := bnd hF
  refine lp_ind (Gs := (fun z => G p l e R s m args below meth c (RQ D dA h0 (.inr none, hE) below s) D dA h0 5 z.2.2 38 [some (va_rf (some this)), some (.int z.1), some (.int z.2.1), none, none] [])) (Ge := (fun z => G p l e R s m args below meth c (RQ D dA h0 (.inr none, hE) below s) D dA h0 5 z 159 [none, none, none, none, none] [])) ?_ _ _ _ e51 ?_
  · rintro ⟨x1_9, x2_9, h_9⟩ o hF hgo hr
    change F_X4_rides_B38 this x1_9 x2_9 h_9 = some o at hF
    unfold F_X4_rides_B38 at hF
    show G p l e R s m args below meth c (RQ D dA h0 (.inr none, hE) below s) D dA h0 5 h_9 38 [some (va_rf (some this)), some (.int x1_9), some (.int x2_9), none, none] []
    refine g_iload_n X dX4_rides_38 rfl rfl ?_
    refine g_aload_n X dX4_rides_39 rfl rfl ?_
    obtain ⟨v10, ev10, hF⟩ := bnd hF
    refine g_get (k := 19) X in_X4 rfl (by decide) q1782 (Or.inl rfl) (getI_V ev10) dX4_rides_40 ?_
    refine g_icmp_ge X 159 dX4_rides_43 (by decide) (fun c11 => ?_) (fun c11 => ?_)
    · have hF := (if_pos c11).symm.trans hF
      refine G.drop [false, false, false, false, false] rfl ?_
      cases hF
      exact hr _ rfl
    · have hF := (if_neg c11).symm.trans hF
      obtain ⟨⟨v30, h31⟩, e48, hF⟩ := bnd hF
      dsimp only at hF
      refine lp_ind (Gs := (fun z => G p l e R s m args below meth c (RQ D dA h0 (.inr none, hE) below s) D dA h0 5 z.2 46 [some (va_rf (some this)), some (.int x1_9), some (.int z.1), none, none] [])) (Ge := (fun z => G p l e R s m args below meth c (RQ D dA h0 (.inr none, hE) below s) D dA h0 5 z.2 105 [some (va_rf (some this)), some (.int x1_9), some (.int z.1), none, none] [])) ?_ _ _ _ e48 ?_
      · rintro ⟨x2_12, h_12⟩ o hF hgo hr
        change F_X4_rides_B46 this x1_9 x2_9 x2_12 h_12 = some o at hF
        unfold F_X4_rides_B46 at hF
        show G p l e R s m args below meth c (RQ D dA h0 (.inr none, hE) below s) D dA h0 5 h_12 46 [some (va_rf (some this)), some (.int x1_9), some (.int x2_12), none, none] []
        refine g_iload_n X dX4_rides_46 rfl rfl ?_
        refine g_aload_n X dX4_rides_47 rfl rfl ?_
        obtain ⟨v13, ev13, hF⟩ := bnd hF
        refine g_get (k := 19) X in_X4 rfl (by decide) q1782 (Or.inl rfl) (getI_V ev13) dX4_rides_48 ?_
        refine g_icmp_ge X 105 dX4_rides_51 (by decide) (fun c14 => ?_) (fun c14 => ?_)
        · have hF := (if_pos c14).symm.trans hF
          cases hF
          exact hr _ rfl
        · have hF := (if_neg c14).symm.trans hF
          refine g_aload_n X dX4_rides_54 rfl rfl ?_
          obtain ⟨v15, ev15, hF⟩ := bnd hF
          refine g_get (k := 18) X in_X4 rfl (by decide) q1781 (Or.inl rfl) (getR_V ev15) dX4_rides_55 ?_
          refine g_iload_n X dX4_rides_58 rfl rfl ?_
          obtain ⟨v16, ev16, hF⟩ := bnd hF
          refine g_iald X ev16 dX4_rides_59 ?_
          refine g_istore_n (L' := [some (va_rf (some this)), some (.int x1_9), some (.int x2_12), some (.int v16), none]) X dX4_rides_60 rfl (Nat.le_of_ble_eq_true rfl) (by first | rfl | simp [stL, rm1, clr2, cat_rf, cat_i, cat_j, cat_f, cat_d]) ?_
          refine g_iconst (v := (0 : Int32)) X dX4_rides_61 (by decide) ?_
          refine g_istore (L' := [some (va_rf (some this)), some (.int x1_9), some (.int x2_12), some (.int v16), some (.int (0 : Int32))]) X dX4_rides_62 (Nat.le_of_ble_eq_true rfl) (by first | rfl | simp [stL, rm1, clr2, cat_rf, cat_i, cat_j, cat_f, cat_d]) ?_
          obtain ⟨h27, e28, hF⟩ := bnd hF
          refine lp_ind (Gs := (fun z => G p l e R s m args below meth c (RQ D dA h0 (.inr none, hE) below s) D dA h0 5 z.2 64 [some (va_rf (some this)), some (.int x1_9), some (.int x2_12), some (.int v16), some (.int z.1)] [])) (Ge := (fun z => G p l e R s m args below meth c (RQ D dA h0 (.inr none, hE) below s) D dA h0 5 z 99 [some (va_rf (some this)), some (.int x1_9), some (.int x2_12), none, none] [])) ?_ _ _ _ e28 ?_
          · rintro ⟨x4_17, h_17⟩ o hF hgo hr
            change F_X4_rides_B64 this x1_9 x2_9 x2_12 v16 x4_17 h_17 = some o at hF
            generalize v16 = k3_17 at hF hgo hr ⊢
            unfold F_X4_rides_B64 at hF
            show G p l e R s m args below meth c (RQ D dA h0 (.inr none, hE) below s) D dA h0 5 h_17 64 [some (va_rf (some this)), some (.int x1_9), some (.int x2_12), some (.int k3_17), some (.int x4_17)] []
            refine g_iload X dX4_rides_64 rfl ?_
            refine g_aload_n X dX4_rides_66 rfl rfl ?_
            obtain ⟨v18, ev18, hF⟩ := bnd hF
            refine g_get (k := 0) X in_X4 rfl (by decide) q1763 (Or.inl rfl) (getR_V ev18) dX4_rides_67 ?_
            refine g_bipush (v := (102 : Int32)) X dX4_rides_70 (by decide) ?_
            obtain ⟨v19, ev19, hF⟩ := bnd hF
            refine g_iald X ev19 dX4_rides_72 ?_
            refine g_icmp_ge X 99 dX4_rides_73 (by decide) (fun c20 => ?_) (fun c20 => ?_)
            · have hF := (if_pos c20).symm.trans hF
              refine G.drop [true, true, true, false, false] rfl ?_
              cases hF
              exact hr _ rfl
            · have hF := (if_neg c20).symm.trans hF
              refine g_aload_n X dX4_rides_76 rfl rfl ?_
              refine g_aload_n X dX4_rides_77 rfl rfl ?_
              refine g_iload_n X dX4_rides_78 rfl rfl ?_
              refine g_iload X dX4_rides_79 rfl ?_
              obtain ⟨ob21, eob21, hF⟩ := bnd hF
              obtain ⟨v22, ev22, hF⟩ := bnd hF
              refine g_callV X eob21 rfl rfl (w_X4_carried l hl D dA h_17 ob21 k3_17 x4_17 v22 ev22) q2262 q2264 qs79 q103 q2265 okn_X4_carried ⟨by rw [hRf]; exact Nat.le_of_ble_eq_true rfl, by rw [hRl]; exact Nat.le_of_ble_eq_true rfl⟩ (As := [.int k3_17, .int x4_17]) (rest := [va_rf (some this)]) rfl (by first | exact Nat.le_of_ble_eq_true rfl | simp [cat_rf, cat_i, cat_j, cat_f, cat_d]) dX4_rides_81 (ac_v ?_)
              refine g_aload_n X dX4_rides_84 rfl rfl ?_
              obtain ⟨v23, ev23, hF⟩ := bnd hF
              refine g_get (k := 17) X in_X4 rfl (by decide) q1780 (Or.inl rfl) (getR_V ev23) dX4_rides_85 ?_
              refine g_iload_n X dX4_rides_88 rfl rfl ?_
              obtain ⟨v24, ev24, hF⟩ := bnd hF
              refine g_iald X ev24 dX4_rides_89 ?_
              obtain ⟨ob25, eob25, hF⟩ := bnd hF
              obtain ⟨h26, eh26, hF⟩ := bnd hF
              refine g_callV X eob25 rfl rfl (w_X4_comes l hl D dA h_17 ob25 v22 v24 h26 eh26) q2258 q2260 qs78 q103 q2261 okn_X4_comes ⟨by rw [hRf]; exact Nat.le_of_ble_eq_true rfl, by rw [hRl]; exact Nat.le_of_ble_eq_true rfl⟩ (As := [.int v22, .int v24]) (rest := []) rfl (by first | exact Nat.le_of_ble_eq_true rfl | simp [cat_rf, cat_i, cat_j, cat_f, cat_d]) dX4_rides_90 (ac_0 ?_)
              refine g_iinc (v := (x4_17 + (1 : Int32))) (L' := [some (va_rf (some this)), some (.int x1_9), some (.int x2_12), some (.int k3_17), some (.int (x4_17 + (1 : Int32)))]) X dX4_rides_93 (Nat.le_of_ble_eq_true rfl) rfl rfl (by first | rfl | simp [stL, rm1, clr2, cat_rf, cat_i, cat_j, cat_f, cat_d]) ?_
              refine g_goto X 64 dX4_rides_96 (by decide) ?_
              cases hF
              exact hgo _ rfl
          show G p l e R s m args below meth c (RQ D dA h0 (.inr none, hE) below s) D dA h0 5 h27 99 [some (va_rf (some this)), some (.int x1_9), some (.int x2_12), none, none] []
          refine g_iinc (v := (x2_12 + (1 : Int32))) (L' := [some (va_rf (some this)), some (.int x1_9), some (.int (x2_12 + (1 : Int32))), none, none]) X dX4_rides_99 (Nat.le_of_ble_eq_true rfl) rfl rfl (by first | rfl | simp [stL, rm1, clr2, cat_rf, cat_i, cat_j, cat_f, cat_d]) ?_
          refine g_goto X 46 dX4_rides_102 (by decide) ?_
          cases hF
          exact hgo _ rfl
      show G p l e R s m args below meth c (RQ D dA h0 (.inr none, hE) below s) D dA h0 5 h31 105 [some (va_rf (some this)), some (.int x1_9), some (.int v30), none, none] []
      refine g_aload_n X dX4_rides_105 rfl rfl ?_
      obtain ⟨v32, ev32, hF⟩ := bnd hF
      refine g_get (k := 19) X in_X4 rfl (by decide) q1782 (Or.inl rfl) (getI_V ev32) dX4_rides_106 ?_
      refine g_istore_n (L' := [some (va_rf (some this)), some (.int x1_9), some (.int v30), some (.int v32), none]) X dX4_rides_109 rfl (Nat.le_of_ble_eq_true rfl) (by first | rfl | simp [stL, rm1, clr2, cat_rf, cat_i, cat_j, cat_f, cat_d]) ?_
      refine g_iload_n X dX4_rides_110 rfl rfl ?_
      refine g_istore (L' := [some (va_rf (some this)), some (.int x1_9), some (.int v30), some (.int v32), some (.int x1_9)]) X dX4_rides_111 (Nat.le_of_ble_eq_true rfl) (by first | rfl | simp [stL, rm1, clr2, cat_rf, cat_i, cat_j, cat_f, cat_d]) ?_
      refine G.drop [true, false, true, true, true] rfl ?_
      obtain ⟨h45, e46, hF⟩ := bnd hF
      refine lp_ind (Gs := (fun z => G p l e R s m args below meth c (RQ D dA h0 (.inr none, hE) below s) D dA h0 5 z.2 113 [some (va_rf (some this)), none, some (.int v30), some (.int v32), some (.int z.1)] [])) (Ge := (fun z => G p l e R s m args below meth c (RQ D dA h0 (.inr none, hE) below s) D dA h0 5 z 154 [some (va_rf (some this)), none, some (.int v30), some (.int v32), none] [])) ?_ _ _ _ e46 ?_
      · rintro ⟨x4_33, h_33⟩ o hF hgo hr
        change F_X4_rides_B113 this x1_9 x2_9 v30 v32 x4_33 h_33 = some o at hF
        generalize v30 = k2_33 at hF hgo hr ⊢
        generalize v32 = k3_33 at hF hgo hr ⊢
        unfold F_X4_rides_B113 at hF
        show G p l e R s m args below meth c (RQ D dA h0 (.inr none, hE) below s) D dA h0 5 h_33 113 [some (va_rf (some this)), none, some (.int k2_33), some (.int k3_33), some (.int x4_33)] []
        refine g_iload X dX4_rides_113 rfl ?_
        refine g_iload_n X dX4_rides_115 rfl rfl ?_
        refine g_icmp_ge X 154 dX4_rides_116 (by decide) (fun c34 => ?_) (fun c34 => ?_)
        · have hF := (if_pos c34).symm.trans hF
          refine G.drop [true, false, true, true, false] rfl ?_
          cases hF
          exact hr _ rfl
        · have hF := (if_neg c34).symm.trans hF
          refine g_aload_n X dX4_rides_119 rfl rfl ?_
          refine g_aload_n X dX4_rides_120 rfl rfl ?_
          refine g_aload_n X dX4_rides_121 rfl rfl ?_
          obtain ⟨v35, ev35, hF⟩ := bnd hF
          refine g_get (k := 18) X in_X4 rfl (by decide) q1781 (Or.inl rfl) (getR_V ev35) dX4_rides_122 ?_
          refine g_iload X dX4_rides_125 rfl ?_
          obtain ⟨v36, ev36, hF⟩ := bnd hF
          refine g_iald X ev36 dX4_rides_127 ?_
          obtain ⟨ob37, eob37, hF⟩ := bnd hF
          obtain ⟨v38, ev38, hF⟩ := bnd hF
          refine g_callV X eob37 rfl rfl (w_X4_ticked l hl D dA h_33 ob37 v36 v38 ev38) q2276 q2278 qs81 q103 q2279 okn_X4_ticked ⟨by rw [hRf]; exact Nat.le_of_ble_eq_true rfl, by rw [hRl]; exact Nat.le_of_ble_eq_true rfl⟩ (As := [.int v36]) (rest := [va_rf (some this)]) rfl (by first | exact Nat.le_of_ble_eq_true rfl | simp [cat_rf, cat_i, cat_j, cat_f, cat_d]) dX4_rides_128 (ac_v ?_)
          refine g_aload_n X dX4_rides_131 rfl rfl ?_
          obtain ⟨v39, ev39, hF⟩ := bnd hF
          refine g_get (k := 17) X in_X4 rfl (by decide) q1780 (Or.inl rfl) (getR_V ev39) dX4_rides_132 ?_
          refine g_aload_n X dX4_rides_135 rfl rfl ?_
          obtain ⟨v40, ev40, hF⟩ := bnd hF
          refine g_get (k := 18) X in_X4 rfl (by decide) q1781 (Or.inl rfl) (getR_V ev40) dX4_rides_136 ?_
          refine g_iload X dX4_rides_139 rfl ?_
          obtain ⟨v41, ev41, hF⟩ := bnd hF
          refine g_iald X ev41 dX4_rides_141 ?_
          obtain ⟨v42, ev42, hF⟩ := bnd hF
          refine g_iald X ev42 dX4_rides_142 ?_
          refine g_iconst (v := (1 : Int32)) X dX4_rides_143 (by decide) ?_
          refine g_iadd X dX4_rides_144 ?_
          obtain ⟨ob43, eob43, hF⟩ := bnd hF
          obtain ⟨h44, eh44, hF⟩ := bnd hF
          refine g_callV X eob43 rfl rfl (w_X4_comes l hl D dA h_33 ob43 v38 (v42 + (1 : Int32)) h44 eh44) q2258 q2260 qs78 q103 q2261 okn_X4_comes ⟨by rw [hRf]; exact Nat.le_of_ble_eq_true rfl, by rw [hRl]; exact Nat.le_of_ble_eq_true rfl⟩ (As := [.int v38, .int (v42 + (1 : Int32))]) (rest := []) rfl (by first | exact Nat.le_of_ble_eq_true rfl | simp [cat_rf, cat_i, cat_j, cat_f, cat_d]) dX4_rides_145 (ac_0 ?_)
          refine g_iinc (v := (x4_33 + (1 : Int32))) (L' := [some (va_rf (some this)), none, some (.int k2_33), some (.int k3_33), some (.int (x4_33 + (1 : Int32)))]) X dX4_rides_148 (Nat.le_of_ble_eq_true rfl) rfl rfl (by first | rfl | simp [stL, rm1, clr2, cat_rf, cat_i, cat_j, cat_f, cat_d]) ?_
          refine g_goto X 113 dX4_rides_151 (by decide) ?_
          cases hF
          exact hgo _ rfl
      show G p l e R s m args below meth c (RQ D dA h0 (.inr none, hE) below s) D dA h0 5 h45 154 [some (va_rf (some this)), none, some (.int v30), some (.int v32), none] []
      refine g_iload_n X dX4_rides_154 rfl rfl ?_
      refine g_istore_n (L' := [some (va_rf (some this)), some (.int v32), some (.int v30), some (.int v32), none]) X dX4_rides_155 rfl (Nat.le_of_ble_eq_true rfl) (by first | rfl | simp [stL, rm1, clr2, cat_rf, cat_i, cat_j, cat_f, cat_d]) ?_
      refine g_goto X 38 dX4_rides_156 (by decide) ?_
      refine G.drop [true, true, true, false, false] rfl ?_
      cases hF
      exact hgo _ rfl
  show G p l e R s m args below meth c (RQ D dA h0 (.inr none, hE) below s) D dA h0 5 h50 159 [none, none, none, none, none] []
  cases hF
  exact g_vret X hr dX4_rides_159
def F_X4_reachableByMoments_B13 (this : Nat) (x1_4 : Int32) (x2_4 : Int32) (h3 : HH) : Option ((Int32 × Int32) ⊕ Int32) :=
  Option.bind (getI h3 1 19 (some this)) fun v5 =>
  if v5 ≤ x2_4 then (
    some (.inr x1_4)
  ) else (
    Option.bind (getR h3 1 18 (some this)) fun v7 =>
    Option.bind (aldI h3 0 v7 x2_4) fun v8 =>
    some (.inl ((x1_4 ||| ((1 : Int32) <<< ((v8 / (1331 : Int32)) &&& 31))), (x2_4 + (1 : Int32))))
  )
def F_X4_reachableByMoments (this : Nat) (h0 : HH) : Option (Int32 × HH) :=
  Option.bind (putV h0 1 8 (some this) (.int (0 : Int32))) fun h1 =>
  Option.bind (isO h1 1 (some this)) fun ob2 =>
  Option.bind (F_X4_rides ob2 h1) fun h3 =>
  Option.bind (lp (fun z => F_X4_reachableByMoments_B13 this z.1 z.2 h3) 100000 ((0 : Int32), (0 : Int32))) fun v9 =>
  some (v9, h3)
set_option maxHeartbeats 4000000 in
theorem w_X4_reachableByMoments (l : Launch) (hl : l.stackTraces = false) (D : va_G) (dA : Nat → ClassId) (h0 : HH) (this : Nat) (rE : Int32) (hE : HH) (hF : F_X4_reachableByMoments this h0 = some (rE, hE)) : MC D dA l yX4_reachableByMoments cX4_reachableByMoments 3 (Option.some Jvm.ClassFile.FieldType.int) [] 4 99 [va_rf (some this)] h0 (.inr (some (.int rE)), hE) := by
  refine mc_of hl (plainFor_of_name pn_X4) (by simp [lg_sl, cat_rf, cat_i, cat_j, cat_f, cat_d]) ?_
  intro p e s m args below meth c R hRf hRl X hr hnm
  unfold F_X4_reachableByMoments at hF
  rw [show argL [va_rf (some this)] = [some (va_rf (some this))] from by simp [argL, cat_rf, cat_i, cat_j, cat_f, cat_d]]
  refine G.pad 2 (L' := [some (va_rf (some this)), none, none]) rfl ?_
  refine g_aload_n X dX4_reachableByMoments_0 rfl rfl ?_
  refine g_iconst (v := (0 : Int32)) X dX4_reachableByMoments_1 (by decide) ?_
  obtain ⟨h1, eh1, hF⟩ := bnd hF
  refine g_put (k := 8) X in_X4 tyX4 tyX4_ok nmX4 rfl (by decide) q1771 (Or.inl rfl) rfl (tyX4_ok 8 (by decide)) rfl rfl eh1 dX4_reachableByMoments_2 ?_
  refine g_aload_n X dX4_reachableByMoments_5 rfl rfl ?_
  obtain ⟨ob2, eob2, hF⟩ := bnd hF
  obtain ⟨h3, eh3, hF⟩ := bnd hF
  refine g_callV X eob2 rfl rfl (w_X4_rides l hl D dA h1 ob2  h3 eh3) q2254 q2256 qs77 q103 q2257 okn_X4_rides ⟨by rw [hRf]; exact Nat.le_of_ble_eq_true rfl, by rw [hRl]; exact Nat.le_of_ble_eq_true rfl⟩ (As := []) (rest := []) rfl (by first | exact Nat.le_of_ble_eq_true rfl | simp [cat_rf, cat_i, cat_j, cat_f, cat_d]) dX4_reachableByMoments_6 (ac_0 ?_)
  refine g_iconst (v := (0 : Int32)) X dX4_reachableByMoments_9 (by decide) ?_
  refine g_istore_n (L' := [some (va_rf (some this)), some (.int (0 : Int32)), none]) X dX4_reachableByMoments_10 rfl (Nat.le_of_ble_eq_true rfl) (by first | rfl | simp [stL, rm1, clr2, cat_rf, cat_i, cat_j, cat_f, cat_d]) ?_
  refine g_iconst (v := (0 : Int32)) X dX4_reachableByMoments_11 (by decide) ?_
  refine g_istore_n (L' := [some (va_rf (some this)), some (.int (0 : Int32)), some (.int (0 : Int32))]) X dX4_reachableByMoments_12 rfl (Nat.le_of_ble_eq_true rfl) (by first | rfl | simp [stL, rm1, clr2, cat_rf, cat_i, cat_j, cat_f, cat_d]) ?_
  obtain ⟨v9, e10, hF⟩ := bnd hF
  refine lp_ind (Gs := (fun z => G p l e R s m args below meth c (RQ D dA h0 (.inr (some (.int rE)), hE) below s) D dA h0 3 h3 13 [some (va_rf (some this)), some (.int z.1), some (.int z.2)] [])) (Ge := (fun z => G p l e R s m args below meth c (RQ D dA h0 (.inr (some (.int rE)), hE) below s) D dA h0 3 h3 42 [none, some (.int z), none] [])) ?_ _ _ _ e10 ?_
  · rintro ⟨x1_4, x2_4⟩ o hF hgo hr
    change F_X4_reachableByMoments_B13 this x1_4 x2_4 h3 = some o at hF
    unfold F_X4_reachableByMoments_B13 at hF
    show G p l e R s m args below meth c (RQ D dA h0 (.inr (some (.int rE)), hE) below s) D dA h0 3 h3 13 [some (va_rf (some this)), some (.int x1_4), some (.int x2_4)] []
    refine g_iload_n X dX4_reachableByMoments_13 rfl rfl ?_
    refine g_aload_n X dX4_reachableByMoments_14 rfl rfl ?_
    obtain ⟨v5, ev5, hF⟩ := bnd hF
    refine g_get (k := 19) X in_X4 rfl (by decide) q1782 (Or.inl rfl) (getI_V ev5) dX4_reachableByMoments_15 ?_
    refine g_icmp_ge X 42 dX4_reachableByMoments_18 (by decide) (fun c6 => ?_) (fun c6 => ?_)
    · have hF := (if_pos c6).symm.trans hF
      refine G.drop [false, true, false] rfl ?_
      cases hF
      exact hr _ rfl
    · have hF := (if_neg c6).symm.trans hF
      refine g_iload_n X dX4_reachableByMoments_21 rfl rfl ?_
      refine g_iconst (v := (1 : Int32)) X dX4_reachableByMoments_22 (by decide) ?_
      refine g_aload_n X dX4_reachableByMoments_23 rfl rfl ?_
      obtain ⟨v7, ev7, hF⟩ := bnd hF
      refine g_get (k := 18) X in_X4 rfl (by decide) q1781 (Or.inl rfl) (getR_V ev7) dX4_reachableByMoments_24 ?_
      refine g_iload_n X dX4_reachableByMoments_27 rfl rfl ?_
      obtain ⟨v8, ev8, hF⟩ := bnd hF
      refine g_iald X ev8 dX4_reachableByMoments_28 ?_
      refine g_sipush (v := (1331 : Int32)) X dX4_reachableByMoments_29 (by decide) ?_
      refine g_idiv X dX4_reachableByMoments_32 (by decide) ?_
      refine g_ishl X dX4_reachableByMoments_33 ?_
      refine g_ior X dX4_reachableByMoments_34 ?_
      refine g_istore_n (L' := [some (va_rf (some this)), some (.int (x1_4 ||| ((1 : Int32) <<< ((v8 / (1331 : Int32)) &&& 31)))), some (.int x2_4)]) X dX4_reachableByMoments_35 rfl (Nat.le_of_ble_eq_true rfl) (by first | rfl | simp [stL, rm1, clr2, cat_rf, cat_i, cat_j, cat_f, cat_d]) ?_
      refine g_iinc (v := (x2_4 + (1 : Int32))) (L' := [some (va_rf (some this)), some (.int (x1_4 ||| ((1 : Int32) <<< ((v8 / (1331 : Int32)) &&& 31)))), some (.int (x2_4 + (1 : Int32)))]) X dX4_reachableByMoments_36 (Nat.le_of_ble_eq_true rfl) rfl rfl (by first | rfl | simp [stL, rm1, clr2, cat_rf, cat_i, cat_j, cat_f, cat_d]) ?_
      refine g_goto X 13 dX4_reachableByMoments_39 (by decide) ?_
      cases hF
      exact hgo _ rfl
  show G p l e R s m args below meth c (RQ D dA h0 (.inr (some (.int rE)), hE) below s) D dA h0 3 h3 42 [none, some (.int v9), none] []
  refine g_iload_n X dX4_reachableByMoments_42 rfl rfl ?_
  cases hF
  exact g_iret X hr dX4_reachableByMoments_43
def F_X4_fewestTicks_B22 (this : Nat) (a1 : Int32) (x2_7 : Int32) (x3_7 : Int32) (h6 : HH) : Option ((Int32 × Int32) ⊕ Int32) :=
  Option.bind (getI h6 1 19 (some this)) fun v8 =>
  if v8 ≤ x3_7 then (
    some (.inr x2_7)
  ) else (
    Option.bind (getR h6 1 18 (some this)) fun v10 =>
    Option.bind (aldI h6 0 v10 x3_7) fun v11 =>
    if (v11 / (1331 : Int32)) = a1 then (
      Option.bind (getR h6 1 17 (some this)) fun v13 =>
      Option.bind (getR h6 1 18 (some this)) fun v14 =>
      Option.bind (aldI h6 0 v14 x3_7) fun v15 =>
      Option.bind (aldI h6 0 v13 v15) fun v16 =>
      some (.inl ((F_X4_less x2_7 v16), (x3_7 + (1 : Int32))))
    ) else (
      some (.inl (x2_7, (x3_7 + (1 : Int32))))
    )
  )
def F_X4_fewestTicks (this : Nat) (a1 : Int32) (h0 : HH) : Option (Int32 × HH) :=
  Option.bind (isO h0 1 (some this)) fun ob1 =>
  b2 (F_X4_asks ob1 (F_X4_isHarbour a1) h0) fun v3 h2 =>
  if v3 = 0 then (
    some ((0 : Int32), h2)
  ) else (
    Option.bind (isO h2 1 (some this)) fun ob5 =>
    Option.bind (F_X4_rides ob5 h2) fun h6 =>
    Option.bind (lp (fun z => F_X4_fewestTicks_B22 this a1 z.1 z.2 h6) 100000 ((100000 : Int32), (0 : Int32))) fun v17 =>
    if (100000 : Int32) ≤ v17 then (
      Option.bind (isO h6 1 (some this)) fun ob19 =>
      b2 (F_X4_fails ob19 (2 : Int32) h6) fun v21 h20 =>
      some (v21, h20)
    ) else (
      some (v17, h6)
    )
  )
set_option maxHeartbeats 4000000 in
theorem w_X4_fewestTicks (l : Launch) (hl : l.stackTraces = false) (D : va_G) (dA : Nat → ClassId) (h0 : HH) (this : Nat) (a1 : Int32) (rE : Int32) (hE : HH) (hF : F_X4_fewestTicks this a1 h0 = some (rE, hE)) : MC D dA l yX4_fewestTicks cX4_fewestTicks 4 (Option.some Jvm.ClassFile.FieldType.int) [] 4 99 [va_rf (some this), .int a1] h0 (.inr (some (.int rE)), hE) := by
  refine mc_of hl (plainFor_of_name pn_X4) (by simp [lg_sl, cat_rf, cat_i, cat_j, cat_f, cat_d]) ?_
  intro p e s m args below meth c R hRf hRl X hr hnm
  unfold F_X4_fewestTicks at hF
  rw [show argL [va_rf (some this), .int a1] = [some (va_rf (some this)), some (.int a1)] from by simp [argL, cat_rf, cat_i, cat_j, cat_f, cat_d]]
  refine G.pad 2 (L' := [some (va_rf (some this)), some (.int a1), none, none]) rfl ?_
  refine g_aload_n X dX4_fewestTicks_0 rfl rfl ?_
  refine g_iload_n X dX4_fewestTicks_1 rfl rfl ?_
  refine g_callS X (w_X4_isHarbour l hl D dA h0 a1) q2045 q2046 q103 q2047 okn_X4_isHarbour ⟨by rw [hRf]; exact Nat.le_of_ble_eq_true rfl, by rw [hRl]; exact Nat.le_of_ble_eq_true rfl⟩ (As := [.int a1]) (rest := [va_rf (some this)]) rfl (by first | exact Nat.le_of_ble_eq_true rfl | simp [cat_rf, cat_i, cat_j, cat_f, cat_d]) dX4_fewestTicks_2 (ac_v ?_)
  obtain ⟨ob1, eob1, hF⟩ := bnd hF
  obtain ⟨v3, h2, eh2, hF⟩ := b2_some hF
  refine g_callV X eob1 rfl rfl (w_X4_asks l hl D dA h0 ob1 (F_X4_isHarbour a1) v3 h2 eh2) q2076 q2078 qs60 q103 q2079 okn_X4_asks ⟨by rw [hRf]; exact Nat.le_of_ble_eq_true rfl, by rw [hRl]; exact Nat.le_of_ble_eq_true rfl⟩ (As := [.int (F_X4_isHarbour a1)]) (rest := []) rfl (by first | exact Nat.le_of_ble_eq_true rfl | simp [cat_rf, cat_i, cat_j, cat_f, cat_d]) dX4_fewestTicks_5 (ac_v ?_)
  refine g_if_ne X 13 dX4_fewestTicks_8 (by decide) (fun c4 => ?_) (fun c4 => ?_)
  · have hF := (if_neg c4).symm.trans hF
    refine g_aload_n X dX4_fewestTicks_13 rfl rfl ?_
    obtain ⟨ob5, eob5, hF⟩ := bnd hF
    obtain ⟨h6, eh6, hF⟩ := bnd hF
    refine g_callV X eob5 rfl rfl (w_X4_rides l hl D dA h2 ob5  h6 eh6) q2254 q2256 qs77 q103 q2257 okn_X4_rides ⟨by rw [hRf]; exact Nat.le_of_ble_eq_true rfl, by rw [hRl]; exact Nat.le_of_ble_eq_true rfl⟩ (As := []) (rest := []) rfl (by first | exact Nat.le_of_ble_eq_true rfl | simp [cat_rf, cat_i, cat_j, cat_f, cat_d]) dX4_fewestTicks_14 (ac_0 ?_)
    refine g_ldc (v := (100000 : Int32)) X q1762 dX4_fewestTicks_17 ?_
    refine g_istore_n (L' := [some (va_rf (some this)), some (.int a1), some (.int (100000 : Int32)), none]) X dX4_fewestTicks_19 rfl (Nat.le_of_ble_eq_true rfl) (by first | rfl | simp [stL, rm1, clr2, cat_rf, cat_i, cat_j, cat_f, cat_d]) ?_
    refine g_iconst (v := (0 : Int32)) X dX4_fewestTicks_20 (by decide) ?_
    refine g_istore_n (L' := [some (va_rf (some this)), some (.int a1), some (.int (100000 : Int32)), some (.int (0 : Int32))]) X dX4_fewestTicks_21 rfl (Nat.le_of_ble_eq_true rfl) (by first | rfl | simp [stL, rm1, clr2, cat_rf, cat_i, cat_j, cat_f, cat_d]) ?_
    obtain ⟨v17, e22, hF⟩ := bnd hF
    refine lp_ind (Gs := (fun z => G p l e R s m args below meth c (RQ D dA h0 (.inr (some (.int rE)), hE) below s) D dA h0 4 h6 22 [some (va_rf (some this)), some (.int a1), some (.int z.1), some (.int z.2)] [])) (Ge := (fun z => G p l e R s m args below meth c (RQ D dA h0 (.inr (some (.int rE)), hE) below s) D dA h0 4 h6 70 [some (va_rf (some this)), none, some (.int z), none] [])) ?_ _ _ _ e22 ?_
    · rintro ⟨x2_7, x3_7⟩ o hF hgo hr
      change F_X4_fewestTicks_B22 this a1 x2_7 x3_7 h6 = some o at hF
      unfold F_X4_fewestTicks_B22 at hF
      show G p l e R s m args below meth c (RQ D dA h0 (.inr (some (.int rE)), hE) below s) D dA h0 4 h6 22 [some (va_rf (some this)), some (.int a1), some (.int x2_7), some (.int x3_7)] []
      refine g_iload_n X dX4_fewestTicks_22 rfl rfl ?_
      refine g_aload_n X dX4_fewestTicks_23 rfl rfl ?_
      obtain ⟨v8, ev8, hF⟩ := bnd hF
      refine g_get (k := 19) X in_X4 rfl (by decide) q1782 (Or.inl rfl) (getI_V ev8) dX4_fewestTicks_24 ?_
      refine g_icmp_ge X 70 dX4_fewestTicks_27 (by decide) (fun c9 => ?_) (fun c9 => ?_)
      · have hF := (if_pos c9).symm.trans hF
        refine G.drop [true, false, true, false] rfl ?_
        cases hF
        exact hr _ rfl
      · have hF := (if_neg c9).symm.trans hF
        refine g_aload_n X dX4_fewestTicks_30 rfl rfl ?_
        obtain ⟨v10, ev10, hF⟩ := bnd hF
        refine g_get (k := 18) X in_X4 rfl (by decide) q1781 (Or.inl rfl) (getR_V ev10) dX4_fewestTicks_31 ?_
        refine g_iload_n X dX4_fewestTicks_34 rfl rfl ?_
        obtain ⟨v11, ev11, hF⟩ := bnd hF
        refine g_iald X ev11 dX4_fewestTicks_35 ?_
        refine g_sipush (v := (1331 : Int32)) X dX4_fewestTicks_36 (by decide) ?_
        refine g_idiv X dX4_fewestTicks_39 (by decide) ?_
        refine g_iload_n X dX4_fewestTicks_40 rfl rfl ?_
        refine g_icmp_ne X 62 dX4_fewestTicks_41 (by decide) (fun c12 => ?_) (fun c12 => ?_)
        · have hF := (if_neg c12).symm.trans hF
          refine g_iload_n X dX4_fewestTicks_62 rfl rfl ?_
          refine g_istore_n (L' := [some (va_rf (some this)), some (.int a1), some (.int x2_7), some (.int x3_7)]) X dX4_fewestTicks_63 rfl (Nat.le_of_ble_eq_true rfl) (by first | rfl | simp [stL, rm1, clr2, cat_rf, cat_i, cat_j, cat_f, cat_d]) ?_
          refine g_iinc (v := (x3_7 + (1 : Int32))) (L' := [some (va_rf (some this)), some (.int a1), some (.int x2_7), some (.int (x3_7 + (1 : Int32)))]) X dX4_fewestTicks_64 (Nat.le_of_ble_eq_true rfl) rfl rfl (by first | rfl | simp [stL, rm1, clr2, cat_rf, cat_i, cat_j, cat_f, cat_d]) ?_
          refine g_goto X 22 dX4_fewestTicks_67 (by decide) ?_
          cases hF
          exact hgo _ rfl
        · have hF := (if_pos c12).symm.trans hF
          refine g_iload_n X dX4_fewestTicks_44 rfl rfl ?_
          refine g_aload_n X dX4_fewestTicks_45 rfl rfl ?_
          obtain ⟨v13, ev13, hF⟩ := bnd hF
          refine g_get (k := 17) X in_X4 rfl (by decide) q1780 (Or.inl rfl) (getR_V ev13) dX4_fewestTicks_46 ?_
          refine g_aload_n X dX4_fewestTicks_49 rfl rfl ?_
          obtain ⟨v14, ev14, hF⟩ := bnd hF
          refine g_get (k := 18) X in_X4 rfl (by decide) q1781 (Or.inl rfl) (getR_V ev14) dX4_fewestTicks_50 ?_
          refine g_iload_n X dX4_fewestTicks_53 rfl rfl ?_
          obtain ⟨v15, ev15, hF⟩ := bnd hF
          refine g_iald X ev15 dX4_fewestTicks_54 ?_
          obtain ⟨v16, ev16, hF⟩ := bnd hF
          refine g_iald X ev16 dX4_fewestTicks_55 ?_
          refine g_callS X (w_X4_less l hl D dA h6 x2_7 v16) q1893 q1894 q103 q1895 okn_X4_less ⟨by rw [hRf]; exact Nat.le_of_ble_eq_true rfl, by rw [hRl]; exact Nat.le_of_ble_eq_true rfl⟩ (As := [.int x2_7, .int v16]) (rest := []) rfl (by first | exact Nat.le_of_ble_eq_true rfl | simp [cat_rf, cat_i, cat_j, cat_f, cat_d]) dX4_fewestTicks_56 (ac_v ?_)
          refine g_goto X 63 dX4_fewestTicks_59 (by decide) ?_
          refine g_istore_n (L' := [some (va_rf (some this)), some (.int a1), some (.int (F_X4_less x2_7 v16)), some (.int x3_7)]) X dX4_fewestTicks_63 rfl (Nat.le_of_ble_eq_true rfl) (by first | rfl | simp [stL, rm1, clr2, cat_rf, cat_i, cat_j, cat_f, cat_d]) ?_
          refine g_iinc (v := (x3_7 + (1 : Int32))) (L' := [some (va_rf (some this)), some (.int a1), some (.int (F_X4_less x2_7 v16)), some (.int (x3_7 + (1 : Int32)))]) X dX4_fewestTicks_64 (Nat.le_of_ble_eq_true rfl) rfl rfl (by first | rfl | simp [stL, rm1, clr2, cat_rf, cat_i, cat_j, cat_f, cat_d]) ?_
          refine g_goto X 22 dX4_fewestTicks_67 (by decide) ?_
          cases hF
          exact hgo _ rfl
    show G p l e R s m args below meth c (RQ D dA h0 (.inr (some (.int rE)), hE) below s) D dA h0 4 h6 70 [some (va_rf (some this)), none, some (.int v17), none] []
    refine g_iload_n X dX4_fewestTicks_70 rfl rfl ?_
    refine g_ldc (v := (100000 : Int32)) X q1762 dX4_fewestTicks_71 ?_
    refine g_icmp_ge X 80 dX4_fewestTicks_73 (by decide) (fun c18 => ?_) (fun c18 => ?_)
    · have hF := (if_pos c18).symm.trans hF
      refine g_aload_n X dX4_fewestTicks_80 rfl rfl ?_
      refine g_iconst (v := (2 : Int32)) X dX4_fewestTicks_81 (by decide) ?_
      obtain ⟨ob19, eob19, hF⟩ := bnd hF
      obtain ⟨v21, h20, eh20, hF⟩ := b2_some hF
      refine g_callV X eob19 rfl rfl (w_X4_fails l hl D dA h6 ob19 (2 : Int32) v21 h20 eh20) q1900 q1902 qs36 q103 q1903 okn_X4_fails ⟨by rw [hRf]; exact Nat.le_of_ble_eq_true rfl, by rw [hRl]; exact Nat.le_of_ble_eq_true rfl⟩ (As := [.int (2 : Int32)]) (rest := []) rfl (by first | exact Nat.le_of_ble_eq_true rfl | simp [cat_rf, cat_i, cat_j, cat_f, cat_d]) dX4_fewestTicks_82 (ac_v ?_)
      cases hF
      exact g_iret X hr dX4_fewestTicks_85
    · have hF := (if_neg c18).symm.trans hF
      refine g_iload_n X dX4_fewestTicks_76 rfl rfl ?_
      refine g_goto X 85 dX4_fewestTicks_77 (by decide) ?_
      cases hF
      exact g_iret X hr dX4_fewestTicks_85
  · have hF := (if_pos c4).symm.trans hF
    refine g_iconst (v := (0 : Int32)) X dX4_fewestTicks_11 (by decide) ?_
    cases hF
    exact g_iret X hr dX4_fewestTicks_12
def F_X4_linesAt_B4 (this : Nat) (a1 : Int32) (x2_1 : Int32) (x3_1 : Int32) (h0 : HH) : Option ((Int32 × Int32) ⊕ Int32) :=
  Option.bind (getR h0 1 0 (some this)) fun v2 =>
  Option.bind (aldI h0 0 v2 (102 : Int32)) fun v3 =>
  if v3 ≤ x3_1 then (
    some (.inr x2_1)
  ) else (
    Option.bind (isO h0 1 (some this)) fun ob5 =>
    Option.bind (F_X4_carried ob5 a1 x3_1 h0) fun v6 =>
    some (.inl ((x2_1 ||| (if v6 < 0 then (0 : Int32) else ((1 : Int32) <<< (x3_1 &&& 31)))), (x3_1 + (1 : Int32))))
  )
def F_X4_linesAt (this : Nat) (a1 : Int32) (h0 : HH) : Option Int32 :=
  Option.bind (lp (fun z => F_X4_linesAt_B4 this a1 z.1 z.2 h0) 100000 ((0 : Int32), (0 : Int32))) fun v8 =>
  some v8
set_option maxHeartbeats 4000000 in
theorem w_X4_linesAt (l : Launch) (hl : l.stackTraces = false) (D : va_G) (dA : Nat → ClassId) (h0 : HH) (this : Nat) (a1 : Int32) (rE : Int32) (hF : F_X4_linesAt this a1 h0 = some rE) : MC D dA l yX4_linesAt cX4_linesAt 4 (Option.some Jvm.ClassFile.FieldType.int) [] 3 75 [va_rf (some this), .int a1] h0 (.inr (some (.int rE)), h0) := by
  refine mc_of hl (plainFor_of_name pn_X4) (by simp [lg_sl, cat_rf, cat_i, cat_j, cat_f, cat_d]) ?_
  intro p e s m args below meth c R hRf hRl X hr hnm
  unfold F_X4_linesAt at hF
  rw [show argL [va_rf (some this), .int a1] = [some (va_rf (some this)), some (.int a1)] from by simp [argL, cat_rf, cat_i, cat_j, cat_f, cat_d]]
  refine G.pad 2 (L' := [some (va_rf (some this)), some (.int a1), none, none]) rfl ?_
  refine g_iconst (v := (0 : Int32)) X dX4_linesAt_0 (by decide) ?_
  refine g_istore_n (L' := [some (va_rf (some this)), some (.int a1), some (.int (0 : Int32)), none]) X dX4_linesAt_1 rfl (Nat.le_of_ble_eq_true rfl) (by first | rfl | simp [stL, rm1, clr2, cat_rf, cat_i, cat_j, cat_f, cat_d]) ?_
  refine g_iconst (v := (0 : Int32)) X dX4_linesAt_2 (by decide) ?_
  refine g_istore_n (L' := [some (va_rf (some this)), some (.int a1), some (.int (0 : Int32)), some (.int (0 : Int32))]) X dX4_linesAt_3 rfl (Nat.le_of_ble_eq_true rfl) (by first | rfl | simp [stL, rm1, clr2, cat_rf, cat_i, cat_j, cat_f, cat_d]) ?_
  obtain ⟨v8, e9, hF⟩ := bnd hF
  refine lp_ind (Gs := (fun z => G p l e R s m args below meth c (RQ D dA h0 (.inr (some (.int rE)), h0) below s) D dA h0 4 h0 4 [some (va_rf (some this)), some (.int a1), some (.int z.1), some (.int z.2)] [])) (Ge := (fun z => G p l e R s m args below meth c (RQ D dA h0 (.inr (some (.int rE)), h0) below s) D dA h0 4 h0 40 [none, none, some (.int z), none] [])) ?_ _ _ _ e9 ?_
  · rintro ⟨x2_1, x3_1⟩ o hF hgo hr
    change F_X4_linesAt_B4 this a1 x2_1 x3_1 h0 = some o at hF
    unfold F_X4_linesAt_B4 at hF
    show G p l e R s m args below meth c (RQ D dA h0 (.inr (some (.int rE)), h0) below s) D dA h0 4 h0 4 [some (va_rf (some this)), some (.int a1), some (.int x2_1), some (.int x3_1)] []
    refine g_iload_n X dX4_linesAt_4 rfl rfl ?_
    refine g_aload_n X dX4_linesAt_5 rfl rfl ?_
    obtain ⟨v2, ev2, hF⟩ := bnd hF
    refine g_get (k := 0) X in_X4 rfl (by decide) q1763 (Or.inl rfl) (getR_V ev2) dX4_linesAt_6 ?_
    refine g_bipush (v := (102 : Int32)) X dX4_linesAt_9 (by decide) ?_
    obtain ⟨v3, ev3, hF⟩ := bnd hF
    refine g_iald X ev3 dX4_linesAt_11 ?_
    refine g_icmp_ge X 40 dX4_linesAt_12 (by decide) (fun c4 => ?_) (fun c4 => ?_)
    · have hF := (if_pos c4).symm.trans hF
      refine G.drop [false, false, true, false] rfl ?_
      cases hF
      exact hr _ rfl
    · have hF := (if_neg c4).symm.trans hF
      refine g_iload_n X dX4_linesAt_15 rfl rfl ?_
      refine g_aload_n X dX4_linesAt_16 rfl rfl ?_
      refine g_iload_n X dX4_linesAt_17 rfl rfl ?_
      refine g_iload_n X dX4_linesAt_18 rfl rfl ?_
      obtain ⟨ob5, eob5, hF⟩ := bnd hF
      obtain ⟨v6, ev6, hF⟩ := bnd hF
      refine g_callV X eob5 rfl rfl (w_X4_carried l hl D dA h0 ob5 a1 x3_1 v6 ev6) q2262 q2264 qs79 q103 q2265 okn_X4_carried ⟨by rw [hRf]; exact Nat.le_of_ble_eq_true rfl, by rw [hRl]; exact Nat.le_of_ble_eq_true rfl⟩ (As := [.int a1, .int x3_1]) (rest := [.int x2_1]) rfl (by first | exact Nat.le_of_ble_eq_true rfl | simp [cat_rf, cat_i, cat_j, cat_f, cat_d]) dX4_linesAt_19 (ac_v ?_)
      suffices K : G p l e R s m args below meth c (RQ D dA h0 (.inr (some (.int rE)), h0) below s) D dA h0 4 h0 32 [some (va_rf (some this)), some (.int a1), none, some (.int x3_1)] [.int (if v6 < 0 then (0 : Int32) else ((1 : Int32) <<< (x3_1 &&& 31))), .int x2_1] by
        refine g_if_lt X 31 dX4_linesAt_22 (by decide) (fun c7 => ?_) (fun c7 => ?_)
        · (try simp only [if_pos c7] at K)
          refine g_iconst (v := (0 : Int32)) X dX4_linesAt_31 (by decide) ?_
          refine G.drop [true, true, false, true] rfl ?_
          first | exact K | (simp only [if_pos c7]; exact K)
        · (try simp only [if_neg c7] at K)
          refine g_iconst (v := (1 : Int32)) X dX4_linesAt_25 (by decide) ?_
          refine g_iload_n X dX4_linesAt_26 rfl rfl ?_
          refine g_ishl X dX4_linesAt_27 ?_
          refine g_goto X 32 dX4_linesAt_28 (by decide) ?_
          refine G.drop [true, true, false, true] rfl ?_
          first | exact K | (simp only [if_neg c7]; exact K)
      refine g_ior X dX4_linesAt_32 ?_
      refine g_istore_n (L' := [some (va_rf (some this)), some (.int a1), some (.int (x2_1 ||| (if v6 < 0 then (0 : Int32) else ((1 : Int32) <<< (x3_1 &&& 31))))), some (.int x3_1)]) X dX4_linesAt_33 rfl (Nat.le_of_ble_eq_true rfl) (by first | rfl | simp [stL, rm1, clr2, cat_rf, cat_i, cat_j, cat_f, cat_d]) ?_
      refine g_iinc (v := (x3_1 + (1 : Int32))) (L' := [some (va_rf (some this)), some (.int a1), some (.int (x2_1 ||| (if v6 < 0 then (0 : Int32) else ((1 : Int32) <<< (x3_1 &&& 31))))), some (.int (x3_1 + (1 : Int32)))]) X dX4_linesAt_34 (Nat.le_of_ble_eq_true rfl) rfl rfl (by first | rfl | simp [stL, rm1, clr2, cat_rf, cat_i, cat_j, cat_f, cat_d]) ?_
      refine g_goto X 4 dX4_linesAt_37 (by decide) ?_
      cases hF
      exact hgo _ rfl
  show G p l e R s m args below meth c (RQ D dA h0 (.inr (some (.int rE)), h0) below s) D dA h0 4 h0 40 [none, none, some (.int v8), none] []
  refine g_iload_n X dX4_linesAt_40 rfl rfl ?_
  cases hF
  exact g_iret X hr dX4_linesAt_41
def F_X4_stuckIn_T52 (this : Nat) (x1_4 : Int32) (x2_4 : Int32) (y0_52 : Int32) (h3 : HH) : Option ((Int32 × Int32) ⊕ Int32) :=
  if y0_52 = 0 then (
    some (.inl ((x1_4 ||| (0 : Int32)), (x2_4 + (1 : Int32))))
  ) else (
    Option.bind (getR h3 1 18 (some this)) fun v12 =>
    Option.bind (aldI h3 0 v12 x2_4) fun v13 =>
    some (.inl ((x1_4 ||| ((1 : Int32) <<< ((v13 / (1331 : Int32)) &&& 31))), (x2_4 + (1 : Int32))))
  )
def F_X4_stuckIn_B13 (this : Nat) (x1_4 : Int32) (x2_4 : Int32) (h3 : HH) : Option ((Int32 × Int32) ⊕ Int32) :=
  Option.bind (getI h3 1 19 (some this)) fun v5 =>
  if v5 ≤ x2_4 then (
    some (.inr x1_4)
  ) else (
    Option.bind (getR h3 1 18 (some this)) fun v7 =>
    Option.bind (aldI h3 0 v7 x2_4) fun v8 =>
    Option.bind (isO h3 1 (some this)) fun ob9 =>
    Option.bind (F_X4_ticked ob9 v8 h3) fun v10 =>
    if 0 ≤ v10 then (
      F_X4_stuckIn_T52 this x1_4 x2_4 (0 : Int32) h3
    ) else (
      Option.bind (getR h3 1 18 (some this)) fun v15 =>
      Option.bind (aldI h3 0 v15 x2_4) fun v16 =>
      Option.bind (isO h3 1 (some this)) fun ob17 =>
      Option.bind (F_X4_linesAt ob17 v16 h3) fun v18 =>
      if v18 = 0 then (
        F_X4_stuckIn_T52 this x1_4 x2_4 (1 : Int32) h3
      ) else (
        F_X4_stuckIn_T52 this x1_4 x2_4 (0 : Int32) h3
      )
    )
  )
def F_X4_stuckIn (this : Nat) (h0 : HH) : Option (Int32 × HH) :=
  Option.bind (putV h0 1 8 (some this) (.int (0 : Int32))) fun h1 =>
  Option.bind (isO h1 1 (some this)) fun ob2 =>
  Option.bind (F_X4_rides ob2 h1) fun h3 =>
  Option.bind (lp (fun z => F_X4_stuckIn_B13 this z.1 z.2 h3) 100000 ((0 : Int32), (0 : Int32))) fun v20 =>
  some (v20, h3)
set_option maxHeartbeats 4000000 in
theorem w_X4_stuckIn (l : Launch) (hl : l.stackTraces = false) (D : va_G) (dA : Nat → ClassId) (h0 : HH) (this : Nat) (rE : Int32) (hE : HH) (hF : F_X4_stuckIn this h0 = some (rE, hE)) : MC D dA l yX4_stuckIn cX4_stuckIn 4 (Option.some Jvm.ClassFile.FieldType.int) [] 4 99 [va_rf (some this)] h0 (.inr (some (.int rE)), hE) := by
  refine mc_of hl (plainFor_of_name pn_X4) (by simp [lg_sl, cat_rf, cat_i, cat_j, cat_f, cat_d]) ?_
  intro p e s m args below meth c R hRf hRl X hr hnm
  unfold F_X4_stuckIn at hF
  rw [show argL [va_rf (some this)] = [some (va_rf (some this))] from by simp [argL, cat_rf, cat_i, cat_j, cat_f, cat_d]]
  refine G.pad 3 (L' := [some (va_rf (some this)), none, none, none]) rfl ?_
  refine g_aload_n X dX4_stuckIn_0 rfl rfl ?_
  refine g_iconst (v := (0 : Int32)) X dX4_stuckIn_1 (by decide) ?_
  obtain ⟨h1, eh1, hF⟩ := bnd hF
  refine g_put (k := 8) X in_X4 tyX4 tyX4_ok nmX4 rfl (by decide) q1771 (Or.inl rfl) rfl (tyX4_ok 8 (by decide)) rfl rfl eh1 dX4_stuckIn_2 ?_
  refine g_aload_n X dX4_stuckIn_5 rfl rfl ?_
  obtain ⟨ob2, eob2, hF⟩ := bnd hF
  obtain ⟨h3, eh3, hF⟩ := bnd hF
  refine g_callV X eob2 rfl rfl (w_X4_rides l hl D dA h1 ob2  h3 eh3) q2254 q2256 qs77 q103 q2257 okn_X4_rides ⟨by rw [hRf]; exact Nat.le_of_ble_eq_true rfl, by rw [hRl]; exact Nat.le_of_ble_eq_true rfl⟩ (As := []) (rest := []) rfl (by first | exact Nat.le_of_ble_eq_true rfl | simp [cat_rf, cat_i, cat_j, cat_f, cat_d]) dX4_stuckIn_6 (ac_0 ?_)
  refine g_iconst (v := (0 : Int32)) X dX4_stuckIn_9 (by decide) ?_
  refine g_istore_n (L' := [some (va_rf (some this)), some (.int (0 : Int32)), none, none]) X dX4_stuckIn_10 rfl (Nat.le_of_ble_eq_true rfl) (by first | rfl | simp [stL, rm1, clr2, cat_rf, cat_i, cat_j, cat_f, cat_d]) ?_
  refine g_iconst (v := (0 : Int32)) X dX4_stuckIn_11 (by decide) ?_
  refine g_istore_n (L' := [some (va_rf (some this)), some (.int (0 : Int32)), some (.int (0 : Int32)), none]) X dX4_stuckIn_12 rfl (Nat.le_of_ble_eq_true rfl) (by first | rfl | simp [stL, rm1, clr2, cat_rf, cat_i, cat_j, cat_f, cat_d]) ?_
  obtain ⟨v20, e21, hF⟩ := bnd hF
  refine lp_ind (Gs := (fun z => G p l e R s m args below meth c (RQ D dA h0 (.inr (some (.int rE)), hE) below s) D dA h0 4 h3 13 [some (va_rf (some this)), some (.int z.1), some (.int z.2), none] [])) (Ge := (fun z => G p l e R s m args below meth c (RQ D dA h0 (.inr (some (.int rE)), hE) below s) D dA h0 4 h3 82 [none, some (.int z), none, none] [])) ?_ _ _ _ e21 ?_
  · rintro ⟨x1_4, x2_4⟩ o hF hgo hr
    change F_X4_stuckIn_B13 this x1_4 x2_4 h3 = some o at hF
    unfold F_X4_stuckIn_B13 at hF
    show G p l e R s m args below meth c (RQ D dA h0 (.inr (some (.int rE)), hE) below s) D dA h0 4 h3 13 [some (va_rf (some this)), some (.int x1_4), some (.int x2_4), none] []
    refine g_iload_n X dX4_stuckIn_13 rfl rfl ?_
    refine g_aload_n X dX4_stuckIn_14 rfl rfl ?_
    obtain ⟨v5, ev5, hF⟩ := bnd hF
    refine g_get (k := 19) X in_X4 rfl (by decide) q1782 (Or.inl rfl) (getI_V ev5) dX4_stuckIn_15 ?_
    refine g_icmp_ge X 82 dX4_stuckIn_18 (by decide) (fun c6 => ?_) (fun c6 => ?_)
    · have hF := (if_pos c6).symm.trans hF
      refine G.drop [false, true, false, false] rfl ?_
      cases hF
      exact hr _ rfl
    · have hF := (if_neg c6).symm.trans hF
      refine g_aload_n X dX4_stuckIn_21 rfl rfl ?_
      refine g_aload_n X dX4_stuckIn_22 rfl rfl ?_
      obtain ⟨v7, ev7, hF⟩ := bnd hF
      refine g_get (k := 18) X in_X4 rfl (by decide) q1781 (Or.inl rfl) (getR_V ev7) dX4_stuckIn_23 ?_
      refine g_iload_n X dX4_stuckIn_26 rfl rfl ?_
      obtain ⟨v8, ev8, hF⟩ := bnd hF
      refine g_iald X ev8 dX4_stuckIn_27 ?_
      obtain ⟨ob9, eob9, hF⟩ := bnd hF
      obtain ⟨v10, ev10, hF⟩ := bnd hF
      refine g_callV X eob9 rfl rfl (w_X4_ticked l hl D dA h3 ob9 v8 v10 ev10) q2276 q2278 qs81 q103 q2279 okn_X4_ticked ⟨by rw [hRf]; exact Nat.le_of_ble_eq_true rfl, by rw [hRl]; exact Nat.le_of_ble_eq_true rfl⟩ (As := [.int v8]) (rest := []) rfl (by first | exact Nat.le_of_ble_eq_true rfl | simp [cat_rf, cat_i, cat_j, cat_f, cat_d]) dX4_stuckIn_28 (ac_v ?_)
      have T52 : ∀ (y0_52 : Int32) (o : (Int32 × Int32) ⊕ Int32), F_X4_stuckIn_T52 this x1_4 x2_4 y0_52 h3 = some o → (∀ y, o = .inl y → (fun z => G p l e R s m args below meth c (RQ D dA h0 (.inr (some (.int rE)), hE) below s) D dA h0 4 h3 13 [some (va_rf (some this)), some (.int z.1), some (.int z.2), none] []) y) → (∀ r, o = .inr r → (fun z => G p l e R s m args below meth c (RQ D dA h0 (.inr (some (.int rE)), hE) below s) D dA h0 4 h3 82 [none, some (.int z), none, none] []) r) → G p l e R s m args below meth c (RQ D dA h0 (.inr (some (.int rE)), hE) below s) D dA h0 4 h3 52 [some (va_rf (some this)), some (.int x1_4), some (.int x2_4), none] [.int y0_52] := by
        intro y0_52 o hF hgo hr
        unfold F_X4_stuckIn_T52 at hF
        refine g_istore_n (L' := [some (va_rf (some this)), some (.int x1_4), some (.int x2_4), some (.int y0_52)]) X dX4_stuckIn_52 rfl (Nat.le_of_ble_eq_true rfl) (by first | rfl | simp [stL, rm1, clr2, cat_rf, cat_i, cat_j, cat_f, cat_d]) ?_
        refine g_iload_n X dX4_stuckIn_53 rfl rfl ?_
        refine g_iload_n X dX4_stuckIn_54 rfl rfl ?_
        refine g_if_eq X 73 dX4_stuckIn_55 (by decide) (fun c11 => ?_) (fun c11 => ?_)
        · have hF := (if_pos c11).symm.trans hF
          refine g_iconst (v := (0 : Int32)) X dX4_stuckIn_73 (by decide) ?_
          refine g_ior X dX4_stuckIn_74 ?_
          refine g_istore_n (L' := [some (va_rf (some this)), some (.int (x1_4 ||| (0 : Int32))), some (.int x2_4), some (.int y0_52)]) X dX4_stuckIn_75 rfl (Nat.le_of_ble_eq_true rfl) (by first | rfl | simp [stL, rm1, clr2, cat_rf, cat_i, cat_j, cat_f, cat_d]) ?_
          refine g_iinc (v := (x2_4 + (1 : Int32))) (L' := [some (va_rf (some this)), some (.int (x1_4 ||| (0 : Int32))), some (.int (x2_4 + (1 : Int32))), some (.int y0_52)]) X dX4_stuckIn_76 (Nat.le_of_ble_eq_true rfl) rfl rfl (by first | rfl | simp [stL, rm1, clr2, cat_rf, cat_i, cat_j, cat_f, cat_d]) ?_
          refine g_goto X 13 dX4_stuckIn_79 (by decide) ?_
          refine G.drop [true, true, true, false] rfl ?_
          cases hF
          exact hgo _ rfl
        · have hF := (if_neg c11).symm.trans hF
          refine g_iconst (v := (1 : Int32)) X dX4_stuckIn_58 (by decide) ?_
          refine g_aload_n X dX4_stuckIn_59 rfl rfl ?_
          obtain ⟨v12, ev12, hF⟩ := bnd hF
          refine g_get (k := 18) X in_X4 rfl (by decide) q1781 (Or.inl rfl) (getR_V ev12) dX4_stuckIn_60 ?_
          refine g_iload_n X dX4_stuckIn_63 rfl rfl ?_
          obtain ⟨v13, ev13, hF⟩ := bnd hF
          refine g_iald X ev13 dX4_stuckIn_64 ?_
          refine g_sipush (v := (1331 : Int32)) X dX4_stuckIn_65 (by decide) ?_
          refine g_idiv X dX4_stuckIn_68 (by decide) ?_
          refine g_ishl X dX4_stuckIn_69 ?_
          refine g_goto X 74 dX4_stuckIn_70 (by decide) ?_
          refine g_ior X dX4_stuckIn_74 ?_
          refine g_istore_n (L' := [some (va_rf (some this)), some (.int (x1_4 ||| ((1 : Int32) <<< ((v13 / (1331 : Int32)) &&& 31)))), some (.int x2_4), some (.int y0_52)]) X dX4_stuckIn_75 rfl (Nat.le_of_ble_eq_true rfl) (by first | rfl | simp [stL, rm1, clr2, cat_rf, cat_i, cat_j, cat_f, cat_d]) ?_
          refine g_iinc (v := (x2_4 + (1 : Int32))) (L' := [some (va_rf (some this)), some (.int (x1_4 ||| ((1 : Int32) <<< ((v13 / (1331 : Int32)) &&& 31)))), some (.int (x2_4 + (1 : Int32))), some (.int y0_52)]) X dX4_stuckIn_76 (Nat.le_of_ble_eq_true rfl) rfl rfl (by first | rfl | simp [stL, rm1, clr2, cat_rf, cat_i, cat_j, cat_f, cat_d]) ?_
          refine g_goto X 13 dX4_stuckIn_79 (by decide) ?_
          refine G.drop [true, true, true, false] rfl ?_
          cases hF
          exact hgo _ rfl
      refine g_if_ge X 51 dX4_stuckIn_31 (by decide) (fun c14 => ?_) (fun c14 => ?_)
      · have hF := (if_pos c14).symm.trans hF
        refine g_iconst (v := (0 : Int32)) X dX4_stuckIn_51 (by decide) ?_
        exact T52 _ _ hF hgo hr
      · have hF := (if_neg c14).symm.trans hF
        refine g_aload_n X dX4_stuckIn_34 rfl rfl ?_
        refine g_aload_n X dX4_stuckIn_35 rfl rfl ?_
        obtain ⟨v15, ev15, hF⟩ := bnd hF
        refine g_get (k := 18) X in_X4 rfl (by decide) q1781 (Or.inl rfl) (getR_V ev15) dX4_stuckIn_36 ?_
        refine g_iload_n X dX4_stuckIn_39 rfl rfl ?_
        obtain ⟨v16, ev16, hF⟩ := bnd hF
        refine g_iald X ev16 dX4_stuckIn_40 ?_
        obtain ⟨ob17, eob17, hF⟩ := bnd hF
        obtain ⟨v18, ev18, hF⟩ := bnd hF
        refine g_callV X eob17 rfl rfl (w_X4_linesAt l hl D dA h3 ob17 v16 v18 ev18) q2288 q2290 qs82 q103 q2291 okn_X4_linesAt ⟨by rw [hRf]; exact Nat.le_of_ble_eq_true rfl, by rw [hRl]; exact Nat.le_of_ble_eq_true rfl⟩ (As := [.int v16]) (rest := []) rfl (by first | exact Nat.le_of_ble_eq_true rfl | simp [cat_rf, cat_i, cat_j, cat_f, cat_d]) dX4_stuckIn_41 (ac_v ?_)
        refine g_if_ne X 51 dX4_stuckIn_44 (by decide) (fun c19 => ?_) (fun c19 => ?_)
        · have hF := (if_neg c19).symm.trans hF
          refine g_iconst (v := (0 : Int32)) X dX4_stuckIn_51 (by decide) ?_
          exact T52 _ _ hF hgo hr
        · have hF := (if_pos c19).symm.trans hF
          refine g_iconst (v := (1 : Int32)) X dX4_stuckIn_47 (by decide) ?_
          refine g_goto X 52 dX4_stuckIn_48 (by decide) ?_
          exact T52 _ _ hF hgo hr
  show G p l e R s m args below meth c (RQ D dA h0 (.inr (some (.int rE)), hE) below s) D dA h0 4 h3 82 [none, some (.int v20), none, none] []
  refine g_iload_n X dX4_stuckIn_82 rfl rfl ?_
  cases hF
  exact g_iret X hr dX4_stuckIn_83
def F_X4_usableLines_B13 (this : Nat) (x1_4 : Int32) (x2_4 : Int32) (h3 : HH) : Option ((Int32 × Int32) ⊕ Int32) :=
  Option.bind (getI h3 1 19 (some this)) fun v5 =>
  if v5 ≤ x2_4 then (
    some (.inr x1_4)
  ) else (
    Option.bind (getR h3 1 18 (some this)) fun v7 =>
    Option.bind (aldI h3 0 v7 x2_4) fun v8 =>
    Option.bind (isO h3 1 (some this)) fun ob9 =>
    Option.bind (F_X4_linesAt ob9 v8 h3) fun v10 =>
    some (.inl ((x1_4 ||| v10), (x2_4 + (1 : Int32))))
  )
def F_X4_usableLines (this : Nat) (h0 : HH) : Option (Int32 × HH) :=
  Option.bind (putV h0 1 8 (some this) (.int (0 : Int32))) fun h1 =>
  Option.bind (isO h1 1 (some this)) fun ob2 =>
  Option.bind (F_X4_rides ob2 h1) fun h3 =>
  Option.bind (lp (fun z => F_X4_usableLines_B13 this z.1 z.2 h3) 100000 ((0 : Int32), (0 : Int32))) fun v11 =>
  some (v11, h3)
set_option maxHeartbeats 4000000 in
theorem w_X4_usableLines (l : Launch) (hl : l.stackTraces = false) (D : va_G) (dA : Nat → ClassId) (h0 : HH) (this : Nat) (rE : Int32) (hE : HH) (hF : F_X4_usableLines this h0 = some (rE, hE)) : MC D dA l yX4_usableLines cX4_usableLines 3 (Option.some Jvm.ClassFile.FieldType.int) [] 4 99 [va_rf (some this)] h0 (.inr (some (.int rE)), hE) := by
  refine mc_of hl (plainFor_of_name pn_X4) (by simp [lg_sl, cat_rf, cat_i, cat_j, cat_f, cat_d]) ?_
  intro p e s m args below meth c R hRf hRl X hr hnm
  unfold F_X4_usableLines at hF
  rw [show argL [va_rf (some this)] = [some (va_rf (some this))] from by simp [argL, cat_rf, cat_i, cat_j, cat_f, cat_d]]
  refine G.pad 2 (L' := [some (va_rf (some this)), none, none]) rfl ?_
  refine g_aload_n X dX4_usableLines_0 rfl rfl ?_
  refine g_iconst (v := (0 : Int32)) X dX4_usableLines_1 (by decide) ?_
  obtain ⟨h1, eh1, hF⟩ := bnd hF
  refine g_put (k := 8) X in_X4 tyX4 tyX4_ok nmX4 rfl (by decide) q1771 (Or.inl rfl) rfl (tyX4_ok 8 (by decide)) rfl rfl eh1 dX4_usableLines_2 ?_
  refine g_aload_n X dX4_usableLines_5 rfl rfl ?_
  obtain ⟨ob2, eob2, hF⟩ := bnd hF
  obtain ⟨h3, eh3, hF⟩ := bnd hF
  refine g_callV X eob2 rfl rfl (w_X4_rides l hl D dA h1 ob2  h3 eh3) q2254 q2256 qs77 q103 q2257 okn_X4_rides ⟨by rw [hRf]; exact Nat.le_of_ble_eq_true rfl, by rw [hRl]; exact Nat.le_of_ble_eq_true rfl⟩ (As := []) (rest := []) rfl (by first | exact Nat.le_of_ble_eq_true rfl | simp [cat_rf, cat_i, cat_j, cat_f, cat_d]) dX4_usableLines_6 (ac_0 ?_)
  refine g_iconst (v := (0 : Int32)) X dX4_usableLines_9 (by decide) ?_
  refine g_istore_n (L' := [some (va_rf (some this)), some (.int (0 : Int32)), none]) X dX4_usableLines_10 rfl (Nat.le_of_ble_eq_true rfl) (by first | rfl | simp [stL, rm1, clr2, cat_rf, cat_i, cat_j, cat_f, cat_d]) ?_
  refine g_iconst (v := (0 : Int32)) X dX4_usableLines_11 (by decide) ?_
  refine g_istore_n (L' := [some (va_rf (some this)), some (.int (0 : Int32)), some (.int (0 : Int32))]) X dX4_usableLines_12 rfl (Nat.le_of_ble_eq_true rfl) (by first | rfl | simp [stL, rm1, clr2, cat_rf, cat_i, cat_j, cat_f, cat_d]) ?_
  obtain ⟨v11, e12, hF⟩ := bnd hF
  refine lp_ind (Gs := (fun z => G p l e R s m args below meth c (RQ D dA h0 (.inr (some (.int rE)), hE) below s) D dA h0 3 h3 13 [some (va_rf (some this)), some (.int z.1), some (.int z.2)] [])) (Ge := (fun z => G p l e R s m args below meth c (RQ D dA h0 (.inr (some (.int rE)), hE) below s) D dA h0 3 h3 40 [none, some (.int z), none] [])) ?_ _ _ _ e12 ?_
  · rintro ⟨x1_4, x2_4⟩ o hF hgo hr
    change F_X4_usableLines_B13 this x1_4 x2_4 h3 = some o at hF
    unfold F_X4_usableLines_B13 at hF
    show G p l e R s m args below meth c (RQ D dA h0 (.inr (some (.int rE)), hE) below s) D dA h0 3 h3 13 [some (va_rf (some this)), some (.int x1_4), some (.int x2_4)] []
    refine g_iload_n X dX4_usableLines_13 rfl rfl ?_
    refine g_aload_n X dX4_usableLines_14 rfl rfl ?_
    obtain ⟨v5, ev5, hF⟩ := bnd hF
    refine g_get (k := 19) X in_X4 rfl (by decide) q1782 (Or.inl rfl) (getI_V ev5) dX4_usableLines_15 ?_
    refine g_icmp_ge X 40 dX4_usableLines_18 (by decide) (fun c6 => ?_) (fun c6 => ?_)
    · have hF := (if_pos c6).symm.trans hF
      refine G.drop [false, true, false] rfl ?_
      cases hF
      exact hr _ rfl
    · have hF := (if_neg c6).symm.trans hF
      refine g_iload_n X dX4_usableLines_21 rfl rfl ?_
      refine g_aload_n X dX4_usableLines_22 rfl rfl ?_
      refine g_aload_n X dX4_usableLines_23 rfl rfl ?_
      obtain ⟨v7, ev7, hF⟩ := bnd hF
      refine g_get (k := 18) X in_X4 rfl (by decide) q1781 (Or.inl rfl) (getR_V ev7) dX4_usableLines_24 ?_
      refine g_iload_n X dX4_usableLines_27 rfl rfl ?_
      obtain ⟨v8, ev8, hF⟩ := bnd hF
      refine g_iald X ev8 dX4_usableLines_28 ?_
      obtain ⟨ob9, eob9, hF⟩ := bnd hF
      obtain ⟨v10, ev10, hF⟩ := bnd hF
      refine g_callV X eob9 rfl rfl (w_X4_linesAt l hl D dA h3 ob9 v8 v10 ev10) q2288 q2290 qs82 q103 q2291 okn_X4_linesAt ⟨by rw [hRf]; exact Nat.le_of_ble_eq_true rfl, by rw [hRl]; exact Nat.le_of_ble_eq_true rfl⟩ (As := [.int v8]) (rest := [.int x1_4]) rfl (by first | exact Nat.le_of_ble_eq_true rfl | simp [cat_rf, cat_i, cat_j, cat_f, cat_d]) dX4_usableLines_29 (ac_v ?_)
      refine g_ior X dX4_usableLines_32 ?_
      refine g_istore_n (L' := [some (va_rf (some this)), some (.int (x1_4 ||| v10)), some (.int x2_4)]) X dX4_usableLines_33 rfl (Nat.le_of_ble_eq_true rfl) (by first | rfl | simp [stL, rm1, clr2, cat_rf, cat_i, cat_j, cat_f, cat_d]) ?_
      refine g_iinc (v := (x2_4 + (1 : Int32))) (L' := [some (va_rf (some this)), some (.int (x1_4 ||| v10)), some (.int (x2_4 + (1 : Int32)))]) X dX4_usableLines_34 (Nat.le_of_ble_eq_true rfl) rfl rfl (by first | rfl | simp [stL, rm1, clr2, cat_rf, cat_i, cat_j, cat_f, cat_d]) ?_
      refine g_goto X 13 dX4_usableLines_37 (by decide) ?_
      cases hF
      exact hgo _ rfl
  show G p l e R s m args below meth c (RQ D dA h0 (.inr (some (.int rE)), hE) below s) D dA h0 3 h3 40 [none, some (.int v11), none] []
  refine g_iload_n X dX4_usableLines_40 rfl rfl ?_
  cases hF
  exact g_iret X hr dX4_usableLines_41
def F_X4_part (this : Nat) (h0 : HH) : Option (UInt32 × HH) :=
  Option.bind (putV h0 1 8 (some this) (.int (0 : Int32))) fun h1 =>
  Option.bind (isO h1 1 (some this)) fun ob2 =>
  b2 (F_X4_count ob2 h1) fun v4 h3 =>
  Option.bind (fdivP (FP.i2f v4) (1189658112 : UInt32)) fun v5 =>
  some ((FP.fdiv (FP.i2f v4) (1189658112 : UInt32)), h3)
set_option maxHeartbeats 4000000 in
theorem w_X4_part (l : Launch) (hl : l.stackTraces = false) (D : va_G) (dA : Nat → ClassId) (h0 : HH) (this : Nat) (rE : UInt32) (hE : HH) (hF : F_X4_part this h0 = some (rE, hE)) : MC D dA l yX4_part cX4_part 1 (Option.some Jvm.ClassFile.FieldType.float) [] 3 76 [va_rf (some this)] h0 (.inr (some (.float rE)), hE) := by
  refine mc_of hl (plainFor_of_name pn_X4) (by simp [lg_sl, cat_rf, cat_i, cat_j, cat_f, cat_d]) ?_
  intro p e s m args below meth c R hRf hRl X hr hnm
  unfold F_X4_part at hF
  rw [show argL [va_rf (some this)] = [some (va_rf (some this))] from by simp [argL, cat_rf, cat_i, cat_j, cat_f, cat_d]]
  refine g_aload_n X dX4_part_0 rfl rfl ?_
  refine g_iconst (v := (0 : Int32)) X dX4_part_1 (by decide) ?_
  obtain ⟨h1, eh1, hF⟩ := bnd hF
  refine g_put (k := 8) X in_X4 tyX4 tyX4_ok nmX4 rfl (by decide) q1771 (Or.inl rfl) rfl (tyX4_ok 8 (by decide)) rfl rfl eh1 dX4_part_2 ?_
  refine g_aload_n X dX4_part_5 rfl rfl ?_
  obtain ⟨ob2, eob2, hF⟩ := bnd hF
  obtain ⟨v4, h3, eh3, hF⟩ := b2_some hF
  refine g_callV X eob2 rfl rfl (w_X4_count l hl D dA h1 ob2  v4 h3 eh3) q2122 q2124 qs64 q103 q2125 okn_X4_count ⟨by rw [hRf]; exact Nat.le_of_ble_eq_true rfl, by rw [hRl]; exact Nat.le_of_ble_eq_true rfl⟩ (As := []) (rest := []) rfl (by first | exact Nat.le_of_ble_eq_true rfl | simp [cat_rf, cat_i, cat_j, cat_f, cat_d]) dX4_part_6 (ac_v ?_)
  refine g_i2f X dX4_part_9 ?_
  refine g_ldcfw (v := (1189658112 : UInt32)) X q2304 dX4_part_10 ?_
  obtain ⟨v5, ev5, hF⟩ := bnd hF
  obtain ⟨nv5, rfl⟩ := fdivP_some ev5
  refine g_fdiv X dX4_part_13 nv5 ?_
  cases hF
  exact g_fret X hr dX4_part_14
def F_X4_share (this : Nat) (h0 : HH) : Option (UInt32 × HH) :=
  Option.bind (isO h0 1 (some this)) fun ob1 =>
  b2 (F_X4_part ob1 h0) fun v3 h2 =>
  some (v3, h2)
set_option maxHeartbeats 4000000 in
theorem w_X4_share (l : Launch) (hl : l.stackTraces = false) (D : va_G) (dA : Nat → ClassId) (h0 : HH) (this : Nat) (rE : UInt32) (hE : HH) (hF : F_X4_share this h0 = some (rE, hE)) : MC D dA l yX4_share cX4_share 1 (Option.some Jvm.ClassFile.FieldType.float) [] 4 96 [va_rf (some this)] h0 (.inr (some (.float rE)), hE) := by
  refine mc_of hl (plainFor_of_name pn_X4) (by simp [lg_sl, cat_rf, cat_i, cat_j, cat_f, cat_d]) ?_
  intro p e s m args below meth c R hRf hRl X hr hnm
  unfold F_X4_share at hF
  rw [show argL [va_rf (some this)] = [some (va_rf (some this))] from by simp [argL, cat_rf, cat_i, cat_j, cat_f, cat_d]]
  refine g_aload_n X dX4_share_0 rfl rfl ?_
  obtain ⟨ob1, eob1, hF⟩ := bnd hF
  obtain ⟨v3, h2, eh2, hF⟩ := b2_some hF
  refine g_callV X eob1 rfl rfl (w_X4_part l hl D dA h0 ob1  v3 h2 eh2) q2300 q2302 qs83 q103 q2303 okn_X4_part ⟨by rw [hRf]; exact Nat.le_of_ble_eq_true rfl, by rw [hRl]; exact Nat.le_of_ble_eq_true rfl⟩ (As := []) (rest := []) rfl (by first | exact Nat.le_of_ble_eq_true rfl | simp [cat_rf, cat_i, cat_j, cat_f, cat_d]) dX4_share_1 (ac_v ?_)
  cases hF
  exact g_fret X hr dX4_share_4
def F_J19_isNaN (a1 : UInt32) : Int32 :=
  (if (Op.cmpValue (FP.fcmp a1 a1) .l) = 0 then (0 : Int32) else (1 : Int32))
set_option maxHeartbeats 4000000 in
theorem w_J19_isNaN (l : Launch) (hl : l.stackTraces = false) (D : va_G) (dA : Nat → ClassId) (h0 : HH) (a1 : UInt32) : MC D dA l yJ19_isNaN cJ19_isNaN 1 (Option.some Jvm.ClassFile.FieldType.boolean) [] 0 0 [.float a1] h0 (.inr (some (.int (F_J19_isNaN a1))), h0) := by
  refine mc_of hl pf_J19_isNaN (by simp [lg_sl, cat_rf, cat_i, cat_j, cat_f, cat_d]) ?_
  intro p e s m args below meth c R hRf hRl X hr hnm
  generalize hF : F_J19_isNaN a1 = rE
  unfold F_J19_isNaN at hF
  rw [show argL [.float a1] = [some (.float a1)] from by simp [argL, cat_rf, cat_i, cat_j, cat_f, cat_d]]
  refine g_fload_n X dJ19_isNaN_0 rfl rfl ?_
  refine g_fload_n X dJ19_isNaN_1 rfl rfl ?_
  refine g_fcmp X dJ19_isNaN_2 ?_
  suffices K : G p l e R s m args below meth c (RQ D dA h0 (.inr (some (.int rE)), h0) below s) D dA h0 1 h0 11 [none] [.int (if (Op.cmpValue (FP.fcmp a1 a1) .l) = 0 then (0 : Int32) else (1 : Int32))] by
    refine g_if_eq X 10 dJ19_isNaN_3 (by decide) (fun c1 => ?_) (fun c1 => ?_)
    · (try simp only [if_pos c1] at K)
      refine g_iconst (v := (0 : Int32)) X dJ19_isNaN_10 (by decide) ?_
      refine G.drop [false] rfl ?_
      first | exact K | (simp only [if_pos c1]; exact K)
    · (try simp only [if_neg c1] at K)
      refine g_iconst (v := (1 : Int32)) X dJ19_isNaN_6 (by decide) ?_
      refine g_goto X 11 dJ19_isNaN_7 (by decide) ?_
      refine G.drop [false] rfl ?_
      first | exact K | (simp only [if_neg c1]; exact K)
  cases hF
  exact g_zret X hr (by (repeat' split) <;> rfl) dJ19_isNaN_11
def F_J19_floatToIntBits (a1 : UInt32) (h0 : HH) : Option Int32 :=
  if (F_J19_isNaN a1) = 0 then (
    some (f2raw a1)
  ) else (
    some (2143289344 : Int32)
  )
set_option maxHeartbeats 4000000 in
theorem w_J19_floatToIntBits (l : Launch) (hl : l.stackTraces = false) (D : va_G) (dA : Nat → ClassId) (h0 : HH) (a1 : UInt32) (rE : Int32) (hF : F_J19_floatToIntBits a1 h0 = some rE) : MC D dA l yJ19_floatToIntBits cJ19_floatToIntBits 1 (Option.some Jvm.ClassFile.FieldType.int) [] 2 40 [.float a1] h0 (.inr (some (.int rE)), h0) := by
  refine mc_of hl pf_J19_floatToIntBits (by simp [lg_sl, cat_rf, cat_i, cat_j, cat_f, cat_d]) ?_
  intro p e s m args below meth c R hRf hRl X hr hnm
  unfold F_J19_floatToIntBits at hF
  rw [show argL [.float a1] = [some (.float a1)] from by simp [argL, cat_rf, cat_i, cat_j, cat_f, cat_d]]
  refine g_fload_n X dJ19_floatToIntBits_0 rfl rfl ?_
  refine g_callS X (w_J19_isNaN l hl D dA h0 a1) q892 q893 q120 q894 okn_J19_isNaN ⟨by rw [hRf]; exact Nat.le_of_ble_eq_true rfl, by rw [hRl]; exact Nat.le_of_ble_eq_true rfl⟩ (As := [.float a1]) (rest := []) rfl (by first | exact Nat.le_of_ble_eq_true rfl | simp [cat_rf, cat_i, cat_j, cat_f, cat_d]) dJ19_floatToIntBits_1 (ac_v ?_)
  refine g_if_ne X 12 dJ19_floatToIntBits_4 (by decide) (fun c1 => ?_) (fun c1 => ?_)
  · have hF := (if_neg c1).symm.trans hF
    refine g_ldc (v := (2143289344 : Int32)) X q898 dJ19_floatToIntBits_12 ?_
    cases hF
    exact g_iret X hr dJ19_floatToIntBits_14
  · have hF := (if_pos c1).symm.trans hF
    refine g_fload_n X dJ19_floatToIntBits_7 rfl rfl ?_
    refine g_f2raw X q895 ⟨by rw [hRf]; exact Nat.le_of_ble_eq_true rfl, by rw [hRl]; exact Nat.le_of_ble_eq_true rfl⟩ (by first | exact Nat.le_of_ble_eq_true rfl | simp [cat_rf, cat_i, cat_j, cat_f, cat_d]) dJ19_floatToIntBits_8 ?_
    cases hF
    exact g_iret X hr dJ19_floatToIntBits_11
def F_X4_shareBits (this : Nat) (h0 : HH) : Option (Int32 × HH) :=
  Option.bind (isO h0 1 (some this)) fun ob1 =>
  b2 (F_X4_part ob1 h0) fun v3 h2 =>
  Option.bind (F_J19_floatToIntBits v3 h2) fun v4 =>
  some (v4, h2)
set_option maxHeartbeats 4000000 in
theorem w_X4_shareBits (l : Launch) (hl : l.stackTraces = false) (D : va_G) (dA : Nat → ClassId) (h0 : HH) (this : Nat) (rE : Int32) (hE : HH) (hF : F_X4_shareBits this h0 = some (rE, hE)) : MC D dA l yX4_shareBits cX4_shareBits 1 (Option.some Jvm.ClassFile.FieldType.int) [] 4 96 [va_rf (some this)] h0 (.inr (some (.int rE)), hE) := by
  refine mc_of hl (plainFor_of_name pn_X4) (by simp [lg_sl, cat_rf, cat_i, cat_j, cat_f, cat_d]) ?_
  intro p e s m args below meth c R hRf hRl X hr hnm
  unfold F_X4_shareBits at hF
  rw [show argL [va_rf (some this)] = [some (va_rf (some this))] from by simp [argL, cat_rf, cat_i, cat_j, cat_f, cat_d]]
  refine g_aload_n X dX4_shareBits_0 rfl rfl ?_
  obtain ⟨ob1, eob1, hF⟩ := bnd hF
  obtain ⟨v3, h2, eh2, hF⟩ := b2_some hF
  refine g_callV X eob1 rfl rfl (w_X4_part l hl D dA h0 ob1  v3 h2 eh2) q2300 q2302 qs83 q103 q2303 okn_X4_part ⟨by rw [hRf]; exact Nat.le_of_ble_eq_true rfl, by rw [hRl]; exact Nat.le_of_ble_eq_true rfl⟩ (As := []) (rest := []) rfl (by first | exact Nat.le_of_ble_eq_true rfl | simp [cat_rf, cat_i, cat_j, cat_f, cat_d]) dX4_shareBits_1 (ac_v ?_)
  obtain ⟨v4, ev4, hF⟩ := bnd hF
  refine g_callS X (w_J19_floatToIntBits l hl D dA h2 v3 v4 ev4) q2309 q890 q120 q891 okn_J19_floatToIntBits ⟨by rw [hRf]; exact Nat.le_of_ble_eq_true rfl, by rw [hRl]; exact Nat.le_of_ble_eq_true rfl⟩ (As := [.float v3]) (rest := []) rfl (by first | exact Nat.le_of_ble_eq_true rfl | simp [cat_rf, cat_i, cat_j, cat_f, cat_d]) dX4_shareBits_4 (ac_v ?_)
  cases hF
  exact g_iret X hr dX4_shareBits_7
def F_J20_isNaN (a1 : UInt64) : Int32 :=
  (if (Op.cmpValue (FP.dcmp a1 a1) .l) = 0 then (0 : Int32) else (1 : Int32))
set_option maxHeartbeats 4000000 in
theorem w_J20_isNaN (l : Launch) (hl : l.stackTraces = false) (D : va_G) (dA : Nat → ClassId) (h0 : HH) (a1 : UInt64) : MC D dA l yJ20_isNaN cJ20_isNaN 2 (Option.some Jvm.ClassFile.FieldType.boolean) [] 0 0 [.double a1] h0 (.inr (some (.int (F_J20_isNaN a1))), h0) := by
  refine mc_of hl (plainFor_of_name pn_J20) (by simp [lg_sl, cat_rf, cat_i, cat_j, cat_f, cat_d]) ?_
  intro p e s m args below meth c R hRf hRl X hr hnm
  generalize hF : F_J20_isNaN a1 = rE
  unfold F_J20_isNaN at hF
  rw [show argL [.double a1] = [some (.double a1), none] from by simp [argL, cat_rf, cat_i, cat_j, cat_f, cat_d]]
  refine g_dload_n X dJ20_isNaN_0 rfl rfl ?_
  refine g_dload_n X dJ20_isNaN_1 rfl rfl ?_
  refine g_dcmp X dJ20_isNaN_2 ?_
  suffices K : G p l e R s m args below meth c (RQ D dA h0 (.inr (some (.int rE)), h0) below s) D dA h0 2 h0 11 [none, none] [.int (if (Op.cmpValue (FP.dcmp a1 a1) .l) = 0 then (0 : Int32) else (1 : Int32))] by
    refine g_if_eq X 10 dJ20_isNaN_3 (by decide) (fun c1 => ?_) (fun c1 => ?_)
    · (try simp only [if_pos c1] at K)
      refine g_iconst (v := (0 : Int32)) X dJ20_isNaN_10 (by decide) ?_
      refine G.drop [false, false] rfl ?_
      first | exact K | (simp only [if_pos c1]; exact K)
    · (try simp only [if_neg c1] at K)
      refine g_iconst (v := (1 : Int32)) X dJ20_isNaN_6 (by decide) ?_
      refine g_goto X 11 dJ20_isNaN_7 (by decide) ?_
      refine G.drop [false, false] rfl ?_
      first | exact K | (simp only [if_neg c1]; exact K)
  cases hF
  exact g_zret X hr (by (repeat' split) <;> rfl) dJ20_isNaN_11
def F_J20_doubleToLongBits (a1 : UInt64) (h0 : HH) : Option Int64 :=
  if (F_J20_isNaN a1) = 0 then (
    some (d2raw a1)
  ) else (
    some (9221120237041090560 : Int64)
  )
set_option maxHeartbeats 4000000 in
theorem w_J20_doubleToLongBits (l : Launch) (hl : l.stackTraces = false) (D : va_G) (dA : Nat → ClassId) (h0 : HH) (a1 : UInt64) (rE : Int64) (hF : F_J20_doubleToLongBits a1 h0 = some rE) : MC D dA l yJ20_doubleToLongBits cJ20_doubleToLongBits 2 (Option.some Jvm.ClassFile.FieldType.long) [] 2 40 [.double a1] h0 (.inr (some (.long rE)), h0) := by
  refine mc_of hl (plainFor_of_name pn_J20) (by simp [lg_sl, cat_rf, cat_i, cat_j, cat_f, cat_d]) ?_
  intro p e s m args below meth c R hRf hRl X hr hnm
  unfold F_J20_doubleToLongBits at hF
  rw [show argL [.double a1] = [some (.double a1), none] from by simp [argL, cat_rf, cat_i, cat_j, cat_f, cat_d]]
  refine g_dload_n X dJ20_doubleToLongBits_0 rfl rfl ?_
  refine g_callS X (w_J20_isNaN l hl D dA h0 a1) q1526 q1527 q121 q1528 okn_J20_isNaN ⟨by rw [hRf]; exact Nat.le_of_ble_eq_true rfl, by rw [hRl]; exact Nat.le_of_ble_eq_true rfl⟩ (As := [.double a1]) (rest := []) rfl (by first | exact Nat.le_of_ble_eq_true rfl | simp [cat_rf, cat_i, cat_j, cat_f, cat_d]) dJ20_doubleToLongBits_1 (ac_v ?_)
  refine g_if_ne X 12 dJ20_doubleToLongBits_4 (by decide) (fun c1 => ?_) (fun c1 => ?_)
  · have hF := (if_neg c1).symm.trans hF
    refine g_ldc2 (v := (9221120237041090560 : Int64)) X q1532 dJ20_doubleToLongBits_12 ?_
    cases hF
    exact g_lret X hr dJ20_doubleToLongBits_15
  · have hF := (if_pos c1).symm.trans hF
    refine g_dload_n X dJ20_doubleToLongBits_7 rfl rfl ?_
    refine g_d2raw X q1529 ⟨by rw [hRf]; exact Nat.le_of_ble_eq_true rfl, by rw [hRl]; exact Nat.le_of_ble_eq_true rfl⟩ (by first | exact Nat.le_of_ble_eq_true rfl | simp [cat_rf, cat_i, cat_j, cat_f, cat_d]) dJ20_doubleToLongBits_8 ?_
    cases hF
    exact g_lret X hr dJ20_doubleToLongBits_11
def F_X4_meanBits (this : Nat) (a1 : Int32) (h0 : HH) : Option (Int64 × HH) :=
  Option.bind (isO h0 1 (some this)) fun ob1 =>
  b2 (F_X4_asks ob1 (F_X4_isClock a1) h0) fun v3 h2 =>
  if v3 = 0 then (
    some ((0 : Int64), h2)
  ) else (
    Option.bind (isO h2 1 (some this)) fun ob5 =>
    Option.bind (F_X4_looksAtMoments ob5 a1 (-1 : Int32) h2) fun h6 =>
    Option.bind (getI h6 1 11 (some this)) fun v7 =>
    Option.bind (putV h6 1 8 (some this) (.int (if v7 = 0 then (2 : Int32) else (0 : Int32)))) fun h9 =>
    Option.bind (getI h9 1 11 (some this)) fun v10 =>
    if v10 = 0 then (
      some ((0 : Int64), h9)
    ) else (
      Option.bind (getJ h9 1 12 (some this)) fun v12 =>
      Option.bind (getI h9 1 11 (some this)) fun v13 =>
      Option.bind (ddivP (FP.l2d v12) (FP.i2d v13)) fun v14 =>
      Option.bind (F_J20_doubleToLongBits (FP.ddiv (FP.l2d v12) (FP.i2d v13)) h9) fun v15 =>
      some (v15, h9)
    )
  )
set_option maxHeartbeats 4000000 in
theorem w_X4_meanBits (l : Launch) (hl : l.stackTraces = false) (D : va_G) (dA : Nat → ClassId) (h0 : HH) (this : Nat) (a1 : Int32) (rE : Int64) (hE : HH) (hF : F_X4_meanBits this a1 h0 = some (rE, hE)) : MC D dA l yX4_meanBits cX4_meanBits 2 (Option.some Jvm.ClassFile.FieldType.long) [] 3 61 [va_rf (some this), .int a1] h0 (.inr (some (.long rE)), hE) := by
  refine mc_of hl (plainFor_of_name pn_X4) (by simp [lg_sl, cat_rf, cat_i, cat_j, cat_f, cat_d]) ?_
  intro p e s m args below meth c R hRf hRl X hr hnm
  unfold F_X4_meanBits at hF
  rw [show argL [va_rf (some this), .int a1] = [some (va_rf (some this)), some (.int a1)] from by simp [argL, cat_rf, cat_i, cat_j, cat_f, cat_d]]
  refine g_aload_n X dX4_meanBits_0 rfl rfl ?_
  refine g_iload_n X dX4_meanBits_1 rfl rfl ?_
  refine g_callS X (w_X4_isClock l hl D dA h0 a1) q1948 q1949 q103 q1950 okn_X4_isClock ⟨by rw [hRf]; exact Nat.le_of_ble_eq_true rfl, by rw [hRl]; exact Nat.le_of_ble_eq_true rfl⟩ (As := [.int a1]) (rest := [va_rf (some this)]) rfl (by first | exact Nat.le_of_ble_eq_true rfl | simp [cat_rf, cat_i, cat_j, cat_f, cat_d]) dX4_meanBits_2 (ac_v ?_)
  obtain ⟨ob1, eob1, hF⟩ := bnd hF
  obtain ⟨v3, h2, eh2, hF⟩ := b2_some hF
  refine g_callV X eob1 rfl rfl (w_X4_asks l hl D dA h0 ob1 (F_X4_isClock a1) v3 h2 eh2) q2076 q2078 qs60 q103 q2079 okn_X4_asks ⟨by rw [hRf]; exact Nat.le_of_ble_eq_true rfl, by rw [hRl]; exact Nat.le_of_ble_eq_true rfl⟩ (As := [.int (F_X4_isClock a1)]) (rest := []) rfl (by first | exact Nat.le_of_ble_eq_true rfl | simp [cat_rf, cat_i, cat_j, cat_f, cat_d]) dX4_meanBits_5 (ac_v ?_)
  refine g_if_ne X 13 dX4_meanBits_8 (by decide) (fun c4 => ?_) (fun c4 => ?_)
  · have hF := (if_neg c4).symm.trans hF
    refine g_aload_n X dX4_meanBits_13 rfl rfl ?_
    refine g_iload_n X dX4_meanBits_14 rfl rfl ?_
    refine g_iconst (v := (-1 : Int32)) X dX4_meanBits_15 (by decide) ?_
    obtain ⟨ob5, eob5, hF⟩ := bnd hF
    obtain ⟨h6, eh6, hF⟩ := bnd hF
    refine g_callV X eob5 rfl rfl (w_X4_looksAtMoments l hl D dA h2 ob5 a1 (-1 : Int32) h6 eh6) q2126 q2128 qs65 q103 q2129 okn_X4_looksAtMoments ⟨by rw [hRf]; exact Nat.le_of_ble_eq_true rfl, by rw [hRl]; exact Nat.le_of_ble_eq_true rfl⟩ (As := [.int a1, .int (-1 : Int32)]) (rest := []) rfl (by first | exact Nat.le_of_ble_eq_true rfl | simp [cat_rf, cat_i, cat_j, cat_f, cat_d]) dX4_meanBits_16 (ac_0 ?_)
    refine g_aload_n X dX4_meanBits_19 rfl rfl ?_
    refine g_aload_n X dX4_meanBits_20 rfl rfl ?_
    obtain ⟨v7, ev7, hF⟩ := bnd hF
    refine g_get (k := 11) X in_X4 rfl (by decide) q1774 (Or.inl rfl) (getI_V ev7) dX4_meanBits_21 ?_
    suffices K : G p l e R s m args below meth c (RQ D dA h0 (.inr (some (.long rE)), hE) below s) D dA h0 2 h6 32 [some (va_rf (some this)), none] [.int (if v7 = 0 then (2 : Int32) else (0 : Int32)), va_rf (some this)] by
      refine g_if_ne X 31 dX4_meanBits_24 (by decide) (fun c8 => ?_) (fun c8 => ?_)
      · (try simp only [if_neg c8] at K)
        refine g_iconst (v := (0 : Int32)) X dX4_meanBits_31 (by decide) ?_
        refine G.drop [true, false] rfl ?_
        first | exact K | (simp only [if_neg c8]; exact K)
      · (try simp only [if_pos c8] at K)
        refine g_iconst (v := (2 : Int32)) X dX4_meanBits_27 (by decide) ?_
        refine g_goto X 32 dX4_meanBits_28 (by decide) ?_
        refine G.drop [true, false] rfl ?_
        first | exact K | (simp only [if_pos c8]; exact K)
    obtain ⟨h9, eh9, hF⟩ := bnd hF
    refine g_put (k := 8) X in_X4 tyX4 tyX4_ok nmX4 rfl (by decide) q1771 (Or.inl rfl) rfl (tyX4_ok 8 (by decide)) rfl rfl eh9 dX4_meanBits_32 ?_
    refine g_aload_n X dX4_meanBits_35 rfl rfl ?_
    obtain ⟨v10, ev10, hF⟩ := bnd hF
    refine g_get (k := 11) X in_X4 rfl (by decide) q1774 (Or.inl rfl) (getI_V ev10) dX4_meanBits_36 ?_
    refine g_if_ne X 46 dX4_meanBits_39 (by decide) (fun c11 => ?_) (fun c11 => ?_)
    · have hF := (if_neg c11).symm.trans hF
      refine g_aload_n X dX4_meanBits_46 rfl rfl ?_
      obtain ⟨v12, ev12, hF⟩ := bnd hF
      refine g_get (k := 12) X in_X4 rfl (by decide) q1775 (Or.inl rfl) (getJ_V ev12) dX4_meanBits_47 ?_
      refine g_l2d X dX4_meanBits_50 ?_
      refine g_aload_n X dX4_meanBits_51 rfl rfl ?_
      obtain ⟨v13, ev13, hF⟩ := bnd hF
      refine g_get (k := 11) X in_X4 rfl (by decide) q1774 (Or.inl rfl) (getI_V ev13) dX4_meanBits_52 ?_
      refine g_i2d X dX4_meanBits_55 ?_
      obtain ⟨v14, ev14, hF⟩ := bnd hF
      obtain ⟨nv14, rfl⟩ := ddivP_some ev14
      refine g_ddiv X dX4_meanBits_56 nv14 ?_
      obtain ⟨v15, ev15, hF⟩ := bnd hF
      refine g_callS X (w_J20_doubleToLongBits l hl D dA h9 (FP.ddiv (FP.l2d v12) (FP.i2d v13)) v15 ev15) q2314 q1524 q121 q1525 okn_J20_doubleToLongBits ⟨by rw [hRf]; exact Nat.le_of_ble_eq_true rfl, by rw [hRl]; exact Nat.le_of_ble_eq_true rfl⟩ (As := [.double (FP.ddiv (FP.l2d v12) (FP.i2d v13))]) (rest := []) rfl (by first | exact Nat.le_of_ble_eq_true rfl | simp [cat_rf, cat_i, cat_j, cat_f, cat_d]) dX4_meanBits_57 (ac_v ?_)
      cases hF
      exact g_lret X hr dX4_meanBits_60
    · have hF := (if_pos c11).symm.trans hF
      refine g_lconst (v := (0 : Int64)) X dX4_meanBits_42 (by decide) ?_
      refine g_goto X 60 dX4_meanBits_43 (by decide) ?_
      cases hF
      exact g_lret X hr dX4_meanBits_60
  · have hF := (if_pos c4).symm.trans hF
    refine g_lconst (v := (0 : Int64)) X dX4_meanBits_11 (by decide) ?_
    cases hF
    exact g_lret X hr dX4_meanBits_12
def F_X4_worked (this : Nat) (h0 : HH) : Option (Int32 × HH) :=
  Option.bind (putV h0 1 8 (some this) (.int (0 : Int32))) fun h1 =>
  Option.bind (getR h1 1 0 (some this)) fun v2 =>
  Option.bind (aldI h1 0 v2 (193 : Int32)) fun v3 =>
  some (v3, h1)
set_option maxHeartbeats 4000000 in
theorem w_X4_worked (l : Launch) (hl : l.stackTraces = false) (D : va_G) (dA : Nat → ClassId) (h0 : HH) (this : Nat) (rE : Int32) (hE : HH) (hF : F_X4_worked this h0 = some (rE, hE)) : MC D dA l yX4_worked cX4_worked 1 (Option.some Jvm.ClassFile.FieldType.int) [] 0 0 [va_rf (some this)] h0 (.inr (some (.int rE)), hE) := by
  refine mc_of hl (plainFor_of_name pn_X4) (by simp [lg_sl, cat_rf, cat_i, cat_j, cat_f, cat_d]) ?_
  intro p e s m args below meth c R hRf hRl X hr hnm
  unfold F_X4_worked at hF
  rw [show argL [va_rf (some this)] = [some (va_rf (some this))] from by simp [argL, cat_rf, cat_i, cat_j, cat_f, cat_d]]
  refine g_aload_n X dX4_worked_0 rfl rfl ?_
  refine g_iconst (v := (0 : Int32)) X dX4_worked_1 (by decide) ?_
  obtain ⟨h1, eh1, hF⟩ := bnd hF
  refine g_put (k := 8) X in_X4 tyX4 tyX4_ok nmX4 rfl (by decide) q1771 (Or.inl rfl) rfl (tyX4_ok 8 (by decide)) rfl rfl eh1 dX4_worked_2 ?_
  refine g_aload_n X dX4_worked_5 rfl rfl ?_
  obtain ⟨v2, ev2, hF⟩ := bnd hF
  refine g_get (k := 0) X in_X4 rfl (by decide) q1763 (Or.inl rfl) (getR_V ev2) dX4_worked_6 ?_
  refine g_sipush (v := (193 : Int32)) X dX4_worked_9 (by decide) ?_
  obtain ⟨v3, ev3, hF⟩ := bnd hF
  refine g_iald X ev3 dX4_worked_12 ?_
  cases hF
  exact g_iret X hr dX4_worked_13
def F_X4_keep (this : Nat) (h0 : HH) : Option (Int32 × HH) :=
  Option.bind (putV h0 1 8 (some this) (.int (0 : Int32))) fun h1 =>
  Option.bind (putV h1 1 3 (some this) (.int (1 : Int32))) fun h2 =>
  Option.bind (getR h2 1 0 (some this)) fun v3 =>
  Option.bind (getR h2 1 2 (some this)) fun v4 =>
  Option.bind (F_X4_copies v3 (0 : Int32) v4 (0 : Int32) h2) fun h5 =>
  Option.bind (isO h5 1 (some this)) fun ob6 =>
  b2 (F_X4_count ob6 h5) fun v8 h7 =>
  some (v8, h7)
set_option maxHeartbeats 4000000 in
theorem w_X4_keep (l : Launch) (hl : l.stackTraces = false) (D : va_G) (dA : Nat → ClassId) (h0 : HH) (this : Nat) (rE : Int32) (hE : HH) (hF : F_X4_keep this h0 = some (rE, hE)) : MC D dA l yX4_keep cX4_keep 1 (Option.some Jvm.ClassFile.FieldType.int) [] 3 76 [va_rf (some this)] h0 (.inr (some (.int rE)), hE) := by
  refine mc_of hl (plainFor_of_name pn_X4) (by simp [lg_sl, cat_rf, cat_i, cat_j, cat_f, cat_d]) ?_
  intro p e s m args below meth c R hRf hRl X hr hnm
  unfold F_X4_keep at hF
  rw [show argL [va_rf (some this)] = [some (va_rf (some this))] from by simp [argL, cat_rf, cat_i, cat_j, cat_f, cat_d]]
  refine g_aload_n X dX4_keep_0 rfl rfl ?_
  refine g_iconst (v := (0 : Int32)) X dX4_keep_1 (by decide) ?_
  obtain ⟨h1, eh1, hF⟩ := bnd hF
  refine g_put (k := 8) X in_X4 tyX4 tyX4_ok nmX4 rfl (by decide) q1771 (Or.inl rfl) rfl (tyX4_ok 8 (by decide)) rfl rfl eh1 dX4_keep_2 ?_
  refine g_aload_n X dX4_keep_5 rfl rfl ?_
  refine g_iconst (v := (1 : Int32)) X dX4_keep_6 (by decide) ?_
  obtain ⟨h2, eh2, hF⟩ := bnd hF
  refine g_put (k := 3) X in_X4 tyX4 tyX4_ok nmX4 rfl (by decide) q1766 (Or.inl rfl) rfl (tyX4_ok 3 (by decide)) rfl rfl eh2 dX4_keep_7 ?_
  refine g_aload_n X dX4_keep_10 rfl rfl ?_
  obtain ⟨v3, ev3, hF⟩ := bnd hF
  refine g_get (k := 0) X in_X4 rfl (by decide) q1763 (Or.inl rfl) (getR_V ev3) dX4_keep_11 ?_
  refine g_iconst (v := (0 : Int32)) X dX4_keep_14 (by decide) ?_
  refine g_aload_n X dX4_keep_15 rfl rfl ?_
  obtain ⟨v4, ev4, hF⟩ := bnd hF
  refine g_get (k := 2) X in_X4 rfl (by decide) q1765 (Or.inl rfl) (getR_V ev4) dX4_keep_16 ?_
  refine g_iconst (v := (0 : Int32)) X dX4_keep_19 (by decide) ?_
  obtain ⟨h5, eh5, hF⟩ := bnd hF
  refine g_callS X (w_X4_copies l hl D dA h2 v3 (0 : Int32) v4 (0 : Int32) h5 eh5) q1863 q1864 q103 q1865 okn_X4_copies ⟨by rw [hRf]; exact Nat.le_of_ble_eq_true rfl, by rw [hRl]; exact Nat.le_of_ble_eq_true rfl⟩ (As := [va_rf v3, .int (0 : Int32), va_rf v4, .int (0 : Int32)]) (rest := []) rfl (by first | exact Nat.le_of_ble_eq_true rfl | simp [cat_rf, cat_i, cat_j, cat_f, cat_d]) dX4_keep_20 (ac_0 ?_)
  refine g_aload_n X dX4_keep_23 rfl rfl ?_
  obtain ⟨ob6, eob6, hF⟩ := bnd hF
  obtain ⟨v8, h7, eh7, hF⟩ := b2_some hF
  refine g_callV X eob6 rfl rfl (w_X4_count l hl D dA h5 ob6  v8 h7 eh7) q2122 q2124 qs64 q103 q2125 okn_X4_count ⟨by rw [hRf]; exact Nat.le_of_ble_eq_true rfl, by rw [hRl]; exact Nat.le_of_ble_eq_true rfl⟩ (As := []) (rest := []) rfl (by first | exact Nat.le_of_ble_eq_true rfl | simp [cat_rf, cat_i, cat_j, cat_f, cat_d]) dX4_keep_24 (ac_v ?_)
  cases hF
  exact g_iret X hr dX4_keep_27
def F_X4_goBack (this : Nat) (h0 : HH) : Option (Int32 × HH) :=
  Option.bind (isO h0 1 (some this)) fun ob1 =>
  Option.bind (F_X4_begins ob1 h0) fun h2 =>
  Option.bind (getI h2 1 3 (some this)) fun v3 =>
  if v3 = 0 then (
    Option.bind (isO h2 1 (some this)) fun ob13 =>
    b2 (F_X4_fails ob13 (1 : Int32) h2) fun v15 h14 =>
    some (v15, h14)
  ) else (
    Option.bind (getR h2 1 2 (some this)) fun v5 =>
    Option.bind (getR h2 1 0 (some this)) fun v6 =>
    Option.bind (F_X4_copies v5 (0 : Int32) v6 (0 : Int32) h2) fun h7 =>
    Option.bind (isO h7 1 (some this)) fun ob8 =>
    Option.bind (F_X4_records ob8 h7) fun h9 =>
    Option.bind (isO h9 1 (some this)) fun ob10 =>
    b2 (F_X4_count ob10 h9) fun v12 h11 =>
    some (v12, h11)
  )
set_option maxHeartbeats 4000000 in
theorem w_X4_goBack (l : Launch) (hl : l.stackTraces = false) (D : va_G) (dA : Nat → ClassId) (h0 : HH) (this : Nat) (rE : Int32) (hE : HH) (hF : F_X4_goBack this h0 = some (rE, hE)) : MC D dA l yX4_goBack cX4_goBack 1 (Option.some Jvm.ClassFile.FieldType.int) [] 3 76 [va_rf (some this)] h0 (.inr (some (.int rE)), hE) := by
  refine mc_of hl (plainFor_of_name pn_X4) (by simp [lg_sl, cat_rf, cat_i, cat_j, cat_f, cat_d]) ?_
  intro p e s m args below meth c R hRf hRl X hr hnm
  unfold F_X4_goBack at hF
  rw [show argL [va_rf (some this)] = [some (va_rf (some this))] from by simp [argL, cat_rf, cat_i, cat_j, cat_f, cat_d]]
  refine g_aload_n X dX4_goBack_0 rfl rfl ?_
  obtain ⟨ob1, eob1, hF⟩ := bnd hF
  obtain ⟨h2, eh2, hF⟩ := bnd hF
  refine g_callV X eob1 rfl rfl (w_X4_begins l hl D dA h0 ob1  h2 eh2) q1859 q1861 qs31 q103 q1862 okn_X4_begins ⟨by rw [hRf]; exact Nat.le_of_ble_eq_true rfl, by rw [hRl]; exact Nat.le_of_ble_eq_true rfl⟩ (As := []) (rest := []) rfl (by first | exact Nat.le_of_ble_eq_true rfl | simp [cat_rf, cat_i, cat_j, cat_f, cat_d]) dX4_goBack_1 (ac_0 ?_)
  refine g_aload_n X dX4_goBack_4 rfl rfl ?_
  obtain ⟨v3, ev3, hF⟩ := bnd hF
  refine g_get (k := 3) X in_X4 rfl (by decide) q1766 (Or.inl rfl) (getI_V ev3) dX4_goBack_5 ?_
  refine g_if_ne X 17 dX4_goBack_8 (by decide) (fun c4 => ?_) (fun c4 => ?_)
  · have hF := (if_neg c4).symm.trans hF
    refine g_aload_n X dX4_goBack_17 rfl rfl ?_
    obtain ⟨v5, ev5, hF⟩ := bnd hF
    refine g_get (k := 2) X in_X4 rfl (by decide) q1765 (Or.inl rfl) (getR_V ev5) dX4_goBack_18 ?_
    refine g_iconst (v := (0 : Int32)) X dX4_goBack_21 (by decide) ?_
    refine g_aload_n X dX4_goBack_22 rfl rfl ?_
    obtain ⟨v6, ev6, hF⟩ := bnd hF
    refine g_get (k := 0) X in_X4 rfl (by decide) q1763 (Or.inl rfl) (getR_V ev6) dX4_goBack_23 ?_
    refine g_iconst (v := (0 : Int32)) X dX4_goBack_26 (by decide) ?_
    obtain ⟨h7, eh7, hF⟩ := bnd hF
    refine g_callS X (w_X4_copies l hl D dA h2 v5 (0 : Int32) v6 (0 : Int32) h7 eh7) q1863 q1864 q103 q1865 okn_X4_copies ⟨by rw [hRf]; exact Nat.le_of_ble_eq_true rfl, by rw [hRl]; exact Nat.le_of_ble_eq_true rfl⟩ (As := [va_rf v5, .int (0 : Int32), va_rf v6, .int (0 : Int32)]) (rest := []) rfl (by first | exact Nat.le_of_ble_eq_true rfl | simp [cat_rf, cat_i, cat_j, cat_f, cat_d]) dX4_goBack_27 (ac_0 ?_)
    refine g_aload_n X dX4_goBack_30 rfl rfl ?_
    obtain ⟨ob8, eob8, hF⟩ := bnd hF
    obtain ⟨h9, eh9, hF⟩ := bnd hF
    refine g_callV X eob8 rfl rfl (w_X4_records l hl D dA h7 ob8  h9 eh9) q1904 q1906 qs37 q103 q1907 okn_X4_records ⟨by rw [hRf]; exact Nat.le_of_ble_eq_true rfl, by rw [hRl]; exact Nat.le_of_ble_eq_true rfl⟩ (As := []) (rest := []) rfl (by first | exact Nat.le_of_ble_eq_true rfl | simp [cat_rf, cat_i, cat_j, cat_f, cat_d]) dX4_goBack_31 (ac_0 ?_)
    refine g_aload_n X dX4_goBack_34 rfl rfl ?_
    obtain ⟨ob10, eob10, hF⟩ := bnd hF
    obtain ⟨v12, h11, eh11, hF⟩ := b2_some hF
    refine g_callV X eob10 rfl rfl (w_X4_count l hl D dA h9 ob10  v12 h11 eh11) q2122 q2124 qs64 q103 q2125 okn_X4_count ⟨by rw [hRf]; exact Nat.le_of_ble_eq_true rfl, by rw [hRl]; exact Nat.le_of_ble_eq_true rfl⟩ (As := []) (rest := []) rfl (by first | exact Nat.le_of_ble_eq_true rfl | simp [cat_rf, cat_i, cat_j, cat_f, cat_d]) dX4_goBack_35 (ac_v ?_)
    cases hF
    exact g_iret X hr dX4_goBack_38
  · have hF := (if_pos c4).symm.trans hF
    refine g_aload_n X dX4_goBack_11 rfl rfl ?_
    refine g_iconst (v := (1 : Int32)) X dX4_goBack_12 (by decide) ?_
    obtain ⟨ob13, eob13, hF⟩ := bnd hF
    obtain ⟨v15, h14, eh14, hF⟩ := b2_some hF
    refine g_callV X eob13 rfl rfl (w_X4_fails l hl D dA h2 ob13 (1 : Int32) v15 h14 eh14) q1900 q1902 qs36 q103 q1903 okn_X4_fails ⟨by rw [hRf]; exact Nat.le_of_ble_eq_true rfl, by rw [hRl]; exact Nat.le_of_ble_eq_true rfl⟩ (As := [.int (1 : Int32)]) (rest := []) rfl (by first | exact Nat.le_of_ble_eq_true rfl | simp [cat_rf, cat_i, cat_j, cat_f, cat_d]) dX4_goBack_13 (ac_v ?_)
    cases hF
    exact g_iret X hr dX4_goBack_16
def F_X4_undo (this : Nat) (h0 : HH) : Option (Int32 × HH) :=
  Option.bind (putV h0 1 8 (some this) (.int (0 : Int32))) fun h1 =>
  Option.bind (getI h1 1 5 (some this)) fun v2 =>
  if v2 = 0 then (
    Option.bind (isO h1 1 (some this)) fun ob11 =>
    b2 (F_X4_fails ob11 (1 : Int32) h1) fun v13 h12 =>
    some (v13, h12)
  ) else (
    Option.bind (getI h1 1 5 (some this)) fun v4 =>
    Option.bind (putV h1 1 5 (some this) (.int (v4 - (1 : Int32)))) fun h5 =>
    Option.bind (getR h5 1 4 (some this)) fun v6 =>
    Option.bind (getI h5 1 5 (some this)) fun v7 =>
    Option.bind (getR h5 1 0 (some this)) fun v8 =>
    Option.bind (F_X4_copies v6 ((194 : Int32) * v7) v8 (0 : Int32) h5) fun h9 =>
    Option.bind (getI h9 1 5 (some this)) fun v10 =>
    some (v10, h9)
  )
set_option maxHeartbeats 4000000 in
theorem w_X4_undo (l : Launch) (hl : l.stackTraces = false) (D : va_G) (dA : Nat → ClassId) (h0 : HH) (this : Nat) (rE : Int32) (hE : HH) (hF : F_X4_undo this h0 = some (rE, hE)) : MC D dA l yX4_undo cX4_undo 1 (Option.some Jvm.ClassFile.FieldType.int) [] 1 24 [va_rf (some this)] h0 (.inr (some (.int rE)), hE) := by
  refine mc_of hl (plainFor_of_name pn_X4) (by simp [lg_sl, cat_rf, cat_i, cat_j, cat_f, cat_d]) ?_
  intro p e s m args below meth c R hRf hRl X hr hnm
  unfold F_X4_undo at hF
  rw [show argL [va_rf (some this)] = [some (va_rf (some this))] from by simp [argL, cat_rf, cat_i, cat_j, cat_f, cat_d]]
  refine g_aload_n X dX4_undo_0 rfl rfl ?_
  refine g_iconst (v := (0 : Int32)) X dX4_undo_1 (by decide) ?_
  obtain ⟨h1, eh1, hF⟩ := bnd hF
  refine g_put (k := 8) X in_X4 tyX4 tyX4_ok nmX4 rfl (by decide) q1771 (Or.inl rfl) rfl (tyX4_ok 8 (by decide)) rfl rfl eh1 dX4_undo_2 ?_
  refine g_aload_n X dX4_undo_5 rfl rfl ?_
  obtain ⟨v2, ev2, hF⟩ := bnd hF
  refine g_get (k := 5) X in_X4 rfl (by decide) q1768 (Or.inl rfl) (getI_V ev2) dX4_undo_6 ?_
  refine g_if_ne X 18 dX4_undo_9 (by decide) (fun c3 => ?_) (fun c3 => ?_)
  · have hF := (if_neg c3).symm.trans hF
    refine g_aload_n X dX4_undo_18 rfl rfl ?_
    refine g_dup X dX4_undo_19 (cat_rf _) ?_
    obtain ⟨v4, ev4, hF⟩ := bnd hF
    refine g_get (k := 5) X in_X4 rfl (by decide) q1768 (Or.inl rfl) (getI_V ev4) dX4_undo_20 ?_
    refine g_iconst (v := (1 : Int32)) X dX4_undo_23 (by decide) ?_
    refine g_isub X dX4_undo_24 ?_
    obtain ⟨h5, eh5, hF⟩ := bnd hF
    refine g_put (k := 5) X in_X4 tyX4 tyX4_ok nmX4 rfl (by decide) q1768 (Or.inl rfl) rfl (tyX4_ok 5 (by decide)) rfl rfl eh5 dX4_undo_25 ?_
    refine g_aload_n X dX4_undo_28 rfl rfl ?_
    obtain ⟨v6, ev6, hF⟩ := bnd hF
    refine g_get (k := 4) X in_X4 rfl (by decide) q1767 (Or.inl rfl) (getR_V ev6) dX4_undo_29 ?_
    refine g_sipush (v := (194 : Int32)) X dX4_undo_32 (by decide) ?_
    refine g_aload_n X dX4_undo_35 rfl rfl ?_
    obtain ⟨v7, ev7, hF⟩ := bnd hF
    refine g_get (k := 5) X in_X4 rfl (by decide) q1768 (Or.inl rfl) (getI_V ev7) dX4_undo_36 ?_
    refine g_imul X dX4_undo_39 ?_
    refine g_aload_n X dX4_undo_40 rfl rfl ?_
    obtain ⟨v8, ev8, hF⟩ := bnd hF
    refine g_get (k := 0) X in_X4 rfl (by decide) q1763 (Or.inl rfl) (getR_V ev8) dX4_undo_41 ?_
    refine g_iconst (v := (0 : Int32)) X dX4_undo_44 (by decide) ?_
    obtain ⟨h9, eh9, hF⟩ := bnd hF
    refine g_callS X (w_X4_copies l hl D dA h5 v6 ((194 : Int32) * v7) v8 (0 : Int32) h9 eh9) q1863 q1864 q103 q1865 okn_X4_copies ⟨by rw [hRf]; exact Nat.le_of_ble_eq_true rfl, by rw [hRl]; exact Nat.le_of_ble_eq_true rfl⟩ (As := [va_rf v6, .int ((194 : Int32) * v7), va_rf v8, .int (0 : Int32)]) (rest := []) rfl (by first | exact Nat.le_of_ble_eq_true rfl | simp [cat_rf, cat_i, cat_j, cat_f, cat_d]) dX4_undo_45 (ac_0 ?_)
    refine g_aload_n X dX4_undo_48 rfl rfl ?_
    obtain ⟨v10, ev10, hF⟩ := bnd hF
    refine g_get (k := 5) X in_X4 rfl (by decide) q1768 (Or.inl rfl) (getI_V ev10) dX4_undo_49 ?_
    cases hF
    exact g_iret X hr dX4_undo_52
  · have hF := (if_pos c3).symm.trans hF
    refine g_aload_n X dX4_undo_12 rfl rfl ?_
    refine g_iconst (v := (1 : Int32)) X dX4_undo_13 (by decide) ?_
    obtain ⟨ob11, eob11, hF⟩ := bnd hF
    obtain ⟨v13, h12, eh12, hF⟩ := b2_some hF
    refine g_callV X eob11 rfl rfl (w_X4_fails l hl D dA h1 ob11 (1 : Int32) v13 h12 eh12) q1900 q1902 qs36 q103 q1903 okn_X4_fails ⟨by rw [hRf]; exact Nat.le_of_ble_eq_true rfl, by rw [hRl]; exact Nat.le_of_ble_eq_true rfl⟩ (As := [.int (1 : Int32)]) (rest := []) rfl (by first | exact Nat.le_of_ble_eq_true rfl | simp [cat_rf, cat_i, cat_j, cat_f, cat_d]) dX4_undo_14 (ac_v ?_)
    cases hF
    exact g_iret X hr dX4_undo_17
def F_X4_states (this : Nat) (h0 : HH) : Option (Int32 × HH) :=
  Option.bind (putV h0 1 8 (some this) (.int (0 : Int32))) fun h1 =>
  Option.bind (getI h1 1 5 (some this)) fun v2 =>
  some (v2, h1)
set_option maxHeartbeats 4000000 in
theorem w_X4_states (l : Launch) (hl : l.stackTraces = false) (D : va_G) (dA : Nat → ClassId) (h0 : HH) (this : Nat) (rE : Int32) (hE : HH) (hF : F_X4_states this h0 = some (rE, hE)) : MC D dA l yX4_states cX4_states 1 (Option.some Jvm.ClassFile.FieldType.int) [] 0 0 [va_rf (some this)] h0 (.inr (some (.int rE)), hE) := by
  refine mc_of hl (plainFor_of_name pn_X4) (by simp [lg_sl, cat_rf, cat_i, cat_j, cat_f, cat_d]) ?_
  intro p e s m args below meth c R hRf hRl X hr hnm
  unfold F_X4_states at hF
  rw [show argL [va_rf (some this)] = [some (va_rf (some this))] from by simp [argL, cat_rf, cat_i, cat_j, cat_f, cat_d]]
  refine g_aload_n X dX4_states_0 rfl rfl ?_
  refine g_iconst (v := (0 : Int32)) X dX4_states_1 (by decide) ?_
  obtain ⟨h1, eh1, hF⟩ := bnd hF
  refine g_put (k := 8) X in_X4 tyX4 tyX4_ok nmX4 rfl (by decide) q1771 (Or.inl rfl) rfl (tyX4_ok 8 (by decide)) rfl rfl eh1 dX4_states_2 ?_
  refine g_aload_n X dX4_states_5 rfl rfl ?_
  obtain ⟨v2, ev2, hF⟩ := bnd hF
  refine g_get (k := 5) X in_X4 rfl (by decide) q1768 (Or.inl rfl) (getI_V ev2) dX4_states_6 ?_
  cases hF
  exact g_iret X hr dX4_states_9
