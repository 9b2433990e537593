def F_X2_turnsReset (this : Nat) (a1 : Int32) (a2 : Int32) (h0 : HH) : Option (((Nat × String) ⊕ Int32) × HH) :=
  Option.bind (isO h0 2 (some this)) fun ob1 =>
  Option.bind (F_X2_isLine ob1 a1 h0) fun v2 =>
  thr (F_X1_need (if v2 = 0 then (0 : Int32) else (if (F_X1_isClock a2) = 0 then (0 : Int32) else (1 : Int32))) (1 : Int32) h0) (fun q7 h5 =>
    some (.inl q7, h5)
  ) (fun u6 h5 =>
    Option.bind (getR h5 2 1 (some this)) fun v9 =>
    Option.bind (isO h5 8 v9) fun ob10 =>
    Option.bind (F_J2_get ob10 a1 h5) fun v11 =>
    Option.bind (castO h5 4 v11) fun _ =>
    Option.bind (getI h5 4 4 v11) fun v13 =>
    Option.bind (putV h5 4 4 v11 (.int (v13 ^^^ ((1 : Int32) <<< (a2 &&& 31))))) fun h14 =>
    Option.bind (getR h14 2 1 (some this)) fun v15 =>
    Option.bind (isO h14 8 v15) fun ob16 =>
    Option.bind (F_J2_get ob16 a1 h14) fun v17 =>
    Option.bind (castO h14 4 v17) fun _ =>
    Option.bind (isO h14 4 v17) fun ob19 =>
    Option.bind (F_X5_isReset ob19 a2 h14) fun v20 =>
    some (.inr (if v20 = 0 then (0 : Int32) else (1 : Int32)), h14)
  )
set_option maxHeartbeats 4000000 in
theorem w_X2_turnsReset (l : Launch) (hl : l.stackTraces = false) (D : va_G) (dA : Nat → ClassId) (h0 : HH) (this : Nat) (a1 : Int32) (a2 : Int32) (oE : (Nat × String) ⊕ Int32) (hE : HH) (hF : F_X2_turnsReset this a1 a2 h0 = some (oE, hE)) : MC D dA l yX2_turnsReset cX2_turnsReset 3 (Option.some Jvm.ClassFile.FieldType.int) [] 11 321 [va_rf (some this), .int a1, .int a2] h0 (rsI oE, hE) := by
  refine mc_of hl (plainFor_of_name pn_X2) (by simp [lg_sl, cat_rf, cat_i, cat_j, cat_f, cat_d]) ?_
  intro p e s m args below meth c R hRf hRl X hr hnm
  unfold F_X2_turnsReset at hF
  rw [show argL [va_rf (some this), .int a1, .int a2] = [some (va_rf (some this)), some (.int a1), some (.int a2)] from by simp [argL, cat_rf, cat_i, cat_j, cat_f, cat_d]]
  refine g_aload_n X dX2_turnsReset_0 rfl rfl ?_
  refine g_iload_n X dX2_turnsReset_1 rfl rfl ?_
  obtain ⟨ob1, eob1, hF⟩ := bnd hF
  obtain ⟨v2, ev2, hF⟩ := bnd hF
  refine g_callV X eob1 rfl rfl (w_X2_isLine l hl D dA h0 ob1 a1 v2 ev2) q660 q661 q662 q93 q663 okn_X2_isLine ⟨by rw [hRf]; exact Nat.le_of_ble_eq_true rfl, by rw [hRl]; exact Nat.le_of_ble_eq_true rfl⟩ (As := [.int a1]) (rest := []) rfl (by first | exact Nat.le_of_ble_eq_true rfl | simp [cat_rf, cat_i, cat_j, cat_f, cat_d]) dX2_turnsReset_2 (ac_v ?_)
  suffices K : G p l e R s m args below meth c (RQ D dA h0 (rsI oE, hE) below s) D dA h0 3 h0 20 [some (va_rf (some this)), some (.int a1), some (.int a2)] [.int (if v2 = 0 then (0 : Int32) else (if (F_X1_isClock a2) = 0 then (0 : Int32) else (1 : Int32)))] by
    refine g_if_eq X 19 dX2_turnsReset_5 (by decide) (fun c3 => ?_) (fun c3 => ?_)
    · (try simp only [if_pos c3] at K)
      refine g_iconst (v := (0 : Int32)) X dX2_turnsReset_19 (by decide) ?_
      first | exact K | (simp only [if_pos c3]; exact K)
    · (try simp only [if_neg c3] at K)
      refine g_iload_n X dX2_turnsReset_8 rfl rfl ?_
      refine g_callSN X (w_X1_isClock l hl D dA h0 a2) (nw_in q559 rfl) q560 q92 q561 okn_X1_isClock ⟨by rw [hRf]; exact Nat.le_of_ble_eq_true rfl, by rw [hRl]; exact Nat.le_of_ble_eq_true rfl⟩ (As := [.int a2]) (rest := []) rfl (by first | exact Nat.le_of_ble_eq_true rfl | simp [cat_rf, cat_i, cat_j, cat_f, cat_d]) dX2_turnsReset_9 (ac_v ?_)
      refine g_if_eq X 19 dX2_turnsReset_12 (by decide) (fun c4 => ?_) (fun c4 => ?_)
      · (try simp only [if_pos c4] at K)
        refine g_iconst (v := (0 : Int32)) X dX2_turnsReset_19 (by decide) ?_
        first | exact K | (simp only [if_neg c3, if_pos c4]; exact K)
      · (try simp only [if_neg c4] at K)
        refine g_iconst (v := (1 : Int32)) X dX2_turnsReset_15 (by decide) ?_
        refine g_goto X 20 dX2_turnsReset_16 (by decide) ?_
        first | exact K | (simp only [if_neg c3, if_neg c4]; exact K)
  refine g_iconst (v := (1 : Int32)) X dX2_turnsReset_20 (by decide) ?_
  rcases thr_some hF with ⟨q7, h5, e8, hF⟩ | ⟨u6, h5, e8, hF⟩
  · refine g_callSN X (w_X1_need l hl D dA h0 (if v2 = 0 then (0 : Int32) else (if (F_X1_isClock a2) = 0 then (0 : Int32) else (1 : Int32))) (1 : Int32) (.inl q7) h5 e8) (nw_in q420 rfl) q421 q92 q422 okn_X1_need ⟨by rw [hRf]; exact Nat.le_of_ble_eq_true rfl, by rw [hRl]; exact Nat.le_of_ble_eq_true rfl⟩ (As := [.int (if v2 = 0 then (0 : Int32) else (if (F_X1_isClock a2) = 0 then (0 : Int32) else (1 : Int32))), .int (1 : Int32)]) (rest := []) rfl (by first | exact Nat.le_of_ble_eq_true rfl | simp [cat_rf, cat_i, cat_j, cat_f, cat_d]) dX2_turnsReset_21 (ac_x ?_)
    cases hF
    exact gx_out X (fun x hx => nomatch hx)
  · refine g_callSN X (w_X1_need l hl D dA h0 (if v2 = 0 then (0 : Int32) else (if (F_X1_isClock a2) = 0 then (0 : Int32) else (1 : Int32))) (1 : Int32) (.inr u6) h5 e8) (nw_in q420 rfl) q421 q92 q422 okn_X1_need ⟨by rw [hRf]; exact Nat.le_of_ble_eq_true rfl, by rw [hRl]; exact Nat.le_of_ble_eq_true rfl⟩ (As := [.int (if v2 = 0 then (0 : Int32) else (if (F_X1_isClock a2) = 0 then (0 : Int32) else (1 : Int32))), .int (1 : Int32)]) (rest := []) rfl (by first | exact Nat.le_of_ble_eq_true rfl | simp [cat_rf, cat_i, cat_j, cat_f, cat_d]) dX2_turnsReset_21 (ac_0 ?_)
    refine g_aload_n X dX2_turnsReset_24 rfl rfl ?_
    obtain ⟨v9, ev9, hF⟩ := bnd hF
    refine g_get (k := 1) X in_X2 rfl (by decide) q184 (Or.inl rfl) (getR_V ev9) dX2_turnsReset_25 ?_
    refine g_iload_n X dX2_turnsReset_28 rfl rfl ?_
    obtain ⟨ob10, eob10, hF⟩ := bnd hF
    obtain ⟨v11, ev11, hF⟩ := bnd hF
    refine g_callV X eob10 rfl rfl (w_J2_get l hl D dA h5 ob10 a1 v11 ev11) q294 q295 q296 q96 q297 okn_J2_get ⟨by rw [hRf]; exact Nat.le_of_ble_eq_true rfl, by rw [hRl]; exact Nat.le_of_ble_eq_true rfl⟩ (As := [.int a1]) (rest := []) rfl (by first | exact Nat.le_of_ble_eq_true rfl | simp [cat_rf, cat_i, cat_j, cat_f, cat_d]) dX2_turnsReset_29 (ac_v ?_)
    obtain ⟨_, z12, hF⟩ := bnd hF
    refine g_castO X q292 rfl z12 dX2_turnsReset_32 ?_
    refine g_dup X dX2_turnsReset_35 (cat_rf _) ?_
    obtain ⟨v13, ev13, hF⟩ := bnd hF
    refine g_getN (k := 4) X in_X5 rfl (by decide) (nw_in q325 rfl) rfl (getI_V ev13) dX2_turnsReset_36 ?_
    refine g_iconst (v := (1 : Int32)) X dX2_turnsReset_39 (by decide) ?_
    refine g_iload_n X dX2_turnsReset_40 rfl rfl ?_
    refine g_ishl X dX2_turnsReset_41 ?_
    refine g_ixor X dX2_turnsReset_42 ?_
    obtain ⟨h14, eh14, hF⟩ := bnd hF
    refine g_putN (k := 4) X in_X5 tyX5 tyX5_ok nmX5 rfl (by decide) (nw_in q325 rfl) rfl rfl (tyX5_ok 4 (by decide)) rfl rfl eh14 dX2_turnsReset_43 ?_
    refine g_aload_n X dX2_turnsReset_46 rfl rfl ?_
    obtain ⟨v15, ev15, hF⟩ := bnd hF
    refine g_get (k := 1) X in_X2 rfl (by decide) q184 (Or.inl rfl) (getR_V ev15) dX2_turnsReset_47 ?_
    refine g_iload_n X dX2_turnsReset_50 rfl rfl ?_
    obtain ⟨ob16, eob16, hF⟩ := bnd hF
    obtain ⟨v17, ev17, hF⟩ := bnd hF
    refine g_callV X eob16 rfl rfl (w_J2_get l hl D dA h14 ob16 a1 v17 ev17) q294 q295 q296 q96 q297 okn_J2_get ⟨by rw [hRf]; exact Nat.le_of_ble_eq_true rfl, by rw [hRl]; exact Nat.le_of_ble_eq_true rfl⟩ (As := [.int a1]) (rest := []) rfl (by first | exact Nat.le_of_ble_eq_true rfl | simp [cat_rf, cat_i, cat_j, cat_f, cat_d]) dX2_turnsReset_51 (ac_v ?_)
    obtain ⟨_, z18, hF⟩ := bnd hF
    refine g_castO X q292 rfl z18 dX2_turnsReset_54 ?_
    refine g_iload_n X dX2_turnsReset_57 rfl rfl ?_
    obtain ⟨ob19, eob19, hF⟩ := bnd hF
    obtain ⟨v20, ev20, hF⟩ := bnd hF
    refine g_callV X eob19 rfl rfl (w_X5_isReset l hl D dA h14 ob19 a2 v20 ev20) q668 q669 q670 q104 q671 okn_X5_isReset ⟨by rw [hRf]; exact Nat.le_of_ble_eq_true rfl, by rw [hRl]; exact Nat.le_of_ble_eq_true rfl⟩ (As := [.int a2]) (rest := []) rfl (by first | exact Nat.le_of_ble_eq_true rfl | simp [cat_rf, cat_i, cat_j, cat_f, cat_d]) dX2_turnsReset_58 (ac_v ?_)
    suffices K : G p l e R s m args below meth c (RQ D dA h0 (rsI oE, hE) below s) D dA h0 3 h14 69 [none, none, none] [.int (if v20 = 0 then (0 : Int32) else (1 : Int32))] by
      refine g_if_eq X 68 dX2_turnsReset_61 (by decide) (fun c21 => ?_) (fun c21 => ?_)
      · (try simp only [if_pos c21] at K)
        refine g_iconst (v := (0 : Int32)) X dX2_turnsReset_68 (by decide) ?_
        refine G.drop [false, false, false] rfl ?_
        first | exact K | (simp only [if_pos c21]; exact K)
      · (try simp only [if_neg c21] at K)
        refine g_iconst (v := (1 : Int32)) X dX2_turnsReset_64 (by decide) ?_
        refine g_goto X 69 dX2_turnsReset_65 (by decide) ?_
        refine G.drop [false, false, false] rfl ?_
        first | exact K | (simp only [if_neg c21]; exact K)
    cases hF
    exact g_iret X hr dX2_turnsReset_69
def F_X2_allowed_B4 (this : Nat) (a1 : Int32) (x2_1 : Int32) (x3_1 : Int32) (h0 : HH) : Option ((Int32 × Int32) ⊕ Int32) :=
  if (3 : Int32) ≤ x3_1 then (
    some (.inr x2_1)
  ) else (
    Option.bind (isO h0 2 (some this)) fun ob3 =>
    Option.bind (F_X2_stay ob3 (a1 / (1331 : Int32)) x3_1 h0) fun v4 =>
    some (.inl ((x2_1 &&& (if v4 = (10 : Int32) then (1 : Int32) else (if v4 < (F_X1_clockOf a1 x3_1) then (0 : Int32) else (1 : Int32)))), (x3_1 + (1 : Int32))))
  )
def F_X2_allowed (this : Nat) (a1 : Int32) (h0 : HH) : Option Int32 :=
  Option.bind (lp (fun z => F_X2_allowed_B4 this a1 z.1 z.2 h0) 100000 ((1 : Int32), (0 : Int32))) fun v7 =>
  some (if v7 = 0 then (-1 : Int32) else a1)
set_option maxHeartbeats 4000000 in
theorem w_X2_allowed (l : Launch) (hl : l.stackTraces = false) (D : va_G) (dA : Nat → ClassId) (h0 : HH) (this : Nat) (a1 : Int32) (rE : Int32) (hF : F_X2_allowed this a1 h0 = some rE) : MC D dA l yX2_allowed cX2_allowed 5 (Option.some Jvm.ClassFile.FieldType.int) [] 1 22 [va_rf (some this), .int a1] h0 (.inr (some (.int rE)), h0) := by
  refine mc_of hl (plainFor_of_name pn_X2) (by simp [lg_sl, cat_rf, cat_i, cat_j, cat_f, cat_d]) ?_
  intro p e s m args below meth c R hRf hRl X hr hnm
  unfold F_X2_allowed at hF
  rw [show argL [va_rf (some this), .int a1] = [some (va_rf (some this)), some (.int a1)] from by simp [argL, cat_rf, cat_i, cat_j, cat_f, cat_d]]
  refine G.pad 3 (L' := [some (va_rf (some this)), some (.int a1), none, none, none]) rfl ?_
  refine g_iconst (v := (1 : Int32)) X dX2_allowed_0 (by decide) ?_
  refine g_istore_n (L' := [some (va_rf (some this)), some (.int a1), some (.int (1 : Int32)), none, none]) X dX2_allowed_1 rfl (Nat.le_of_ble_eq_true rfl) (by first | rfl | simp [stL, rm1, clr2, cat_rf, cat_i, cat_j, cat_f, cat_d]) ?_
  refine g_iconst (v := (0 : Int32)) X dX2_allowed_2 (by decide) ?_
  refine g_istore_n (L' := [some (va_rf (some this)), some (.int a1), some (.int (1 : Int32)), some (.int (0 : Int32)), none]) X dX2_allowed_3 rfl (Nat.le_of_ble_eq_true rfl) (by first | rfl | simp [stL, rm1, clr2, cat_rf, cat_i, cat_j, cat_f, cat_d]) ?_
  obtain ⟨v7, e9, hF⟩ := bnd hF
  refine lp_ind (Gs := (fun z => G p l e R s m args below meth c (RQ D dA h0 (.inr (some (.int rE)), h0) below s) D dA h0 5 h0 4 [some (va_rf (some this)), some (.int a1), some (.int z.1), some (.int z.2), none] [])) (Ge := (fun z => G p l e R s m args below meth c (RQ D dA h0 (.inr (some (.int rE)), h0) below s) D dA h0 5 h0 52 [none, some (.int a1), some (.int z), none, none] [])) ?_ _ _ _ e9 ?_
  · rintro ⟨x2_1, x3_1⟩ o hF hgo hr
    change F_X2_allowed_B4 this a1 x2_1 x3_1 h0 = some o at hF
    unfold F_X2_allowed_B4 at hF
    show G p l e R s m args below meth c (RQ D dA h0 (.inr (some (.int rE)), h0) below s) D dA h0 5 h0 4 [some (va_rf (some this)), some (.int a1), some (.int x2_1), some (.int x3_1), none] []
    refine g_iload_n X dX2_allowed_4 rfl rfl ?_
    refine g_iconst (v := (3 : Int32)) X dX2_allowed_5 (by decide) ?_
    refine g_icmp_ge X 52 dX2_allowed_6 (by decide) (fun c2 => ?_) (fun c2 => ?_)
    · have hF := (if_pos c2).symm.trans hF
      refine G.drop [false, true, true, false, false] rfl ?_
      cases hF
      exact hr _ rfl
    · have hF := (if_neg c2).symm.trans hF
      refine g_aload_n X dX2_allowed_9 rfl rfl ?_
      refine g_iload_n X dX2_allowed_10 rfl rfl ?_
      refine g_sipush (v := (1331 : Int32)) X dX2_allowed_11 (by decide) ?_
      refine g_idiv X dX2_allowed_14 (by decide) ?_
      refine g_iload_n X dX2_allowed_15 rfl rfl ?_
      obtain ⟨ob3, eob3, hF⟩ := bnd hF
      obtain ⟨v4, ev4, hF⟩ := bnd hF
      refine g_callV X eob3 rfl rfl (w_X2_stay l hl D dA h0 ob3 (a1 / (1331 : Int32)) x3_1 v4 ev4) q645 q646 q647 q93 q648 okn_X2_stay ⟨by rw [hRf]; exact Nat.le_of_ble_eq_true rfl, by rw [hRl]; exact Nat.le_of_ble_eq_true rfl⟩ (As := [.int (a1 / (1331 : Int32)), .int x3_1]) (rest := []) rfl (by first | exact Nat.le_of_ble_eq_true rfl | simp [cat_rf, cat_i, cat_j, cat_f, cat_d]) dX2_allowed_16 (ac_v ?_)
      refine g_istore (L' := [some (va_rf (some this)), some (.int a1), some (.int x2_1), some (.int x3_1), some (.int v4)]) X dX2_allowed_19 (Nat.le_of_ble_eq_true rfl) (by first | rfl | simp [stL, rm1, clr2, cat_rf, cat_i, cat_j, cat_f, cat_d]) ?_
      refine g_iload_n X dX2_allowed_21 rfl rfl ?_
      refine g_iload X dX2_allowed_22 rfl ?_
      refine g_bipush (v := (10 : Int32)) X dX2_allowed_24 (by decide) ?_
      suffices K : G p l e R s m args below meth c (RQ D dA h0 (.inr (some (.int rE)), h0) below s) D dA h0 5 h0 44 [some (va_rf (some this)), some (.int a1), none, some (.int x3_1), none] [.int (if v4 = (10 : Int32) then (1 : Int32) else (if v4 < (F_X1_clockOf a1 x3_1) then (0 : Int32) else (1 : Int32))), .int x2_1] by
        refine g_icmp_eq X 39 dX2_allowed_26 (by decide) (fun c5 => ?_) (fun c5 => ?_)
        · (try simp only [if_pos c5] at K)
          refine g_iconst (v := (1 : Int32)) X dX2_allowed_39 (by decide) ?_
          refine g_goto X 44 dX2_allowed_40 (by decide) ?_
          refine G.drop [true, true, false, true, false] rfl ?_
          first | exact K | (simp only [if_pos c5]; exact K)
        · (try simp only [if_neg c5] at K)
          refine g_iload_n X dX2_allowed_29 rfl rfl ?_
          refine g_iload_n X dX2_allowed_30 rfl rfl ?_
          refine g_callSN X (w_X1_clockOf l hl D dA h0 a1 x3_1) (nw_in q835 rfl) q836 q92 q837 okn_X1_clockOf ⟨by rw [hRf]; exact Nat.le_of_ble_eq_true rfl, by rw [hRl]; exact Nat.le_of_ble_eq_true rfl⟩ (As := [.int a1, .int x3_1]) (rest := [.int x2_1]) rfl (by first | exact Nat.le_of_ble_eq_true rfl | simp [cat_rf, cat_i, cat_j, cat_f, cat_d]) dX2_allowed_31 (ac_v ?_)
          refine g_iload X dX2_allowed_34 rfl ?_
          refine g_icmp_gt X 43 dX2_allowed_36 (by decide) (fun c6 => ?_) (fun c6 => ?_)
          · (try simp only [if_pos c6] at K)
            refine g_iconst (v := (0 : Int32)) X dX2_allowed_43 (by decide) ?_
            refine G.drop [true, true, false, true, false] rfl ?_
            first | exact K | (simp only [if_neg c5, if_pos c6]; exact K)
          · (try simp only [if_neg c6] at K)
            refine g_iconst (v := (1 : Int32)) X dX2_allowed_39 (by decide) ?_
            refine g_goto X 44 dX2_allowed_40 (by decide) ?_
            refine G.drop [true, true, false, true, false] rfl ?_
            first | exact K | (simp only [if_neg c5, if_neg c6]; exact K)
      refine g_iand X dX2_allowed_44 ?_
      refine g_istore_n (L' := [some (va_rf (some this)), some (.int a1), some (.int (x2_1 &&& (if v4 = (10 : Int32) then (1 : Int32) else (if v4 < (F_X1_clockOf a1 x3_1) then (0 : Int32) else (1 : Int32))))), some (.int x3_1), none]) X dX2_allowed_45 rfl (Nat.le_of_ble_eq_true rfl) (by first | rfl | simp [stL, rm1, clr2, cat_rf, cat_i, cat_j, cat_f, cat_d]) ?_
      refine g_iinc (v := (x3_1 + (1 : Int32))) (L' := [some (va_rf (some this)), some (.int a1), some (.int (x2_1 &&& (if v4 = (10 : Int32) then (1 : Int32) else (if v4 < (F_X1_clockOf a1 x3_1) then (0 : Int32) else (1 : Int32))))), some (.int (x3_1 + (1 : Int32))), none]) X dX2_allowed_46 (Nat.le_of_ble_eq_true rfl) rfl rfl (by first | rfl | simp [stL, rm1, clr2, cat_rf, cat_i, cat_j, cat_f, cat_d]) ?_
      refine g_goto X 4 dX2_allowed_49 (by decide) ?_
      cases hF
      exact hgo _ rfl
  show G p l e R s m args below meth c (RQ D dA h0 (.inr (some (.int rE)), h0) below s) D dA h0 5 h0 52 [none, some (.int a1), some (.int v7), none, none] []
  refine g_iload_n X dX2_allowed_52 rfl rfl ?_
  suffices K : G p l e R s m args below meth c (RQ D dA h0 (.inr (some (.int rE)), h0) below s) D dA h0 5 h0 61 [none, none, none, none, none] [.int (if v7 = 0 then (-1 : Int32) else a1)] by
    refine g_if_eq X 60 dX2_allowed_53 (by decide) (fun c8 => ?_) (fun c8 => ?_)
    · (try simp only [if_pos c8] at K)
      refine g_iconst (v := (-1 : Int32)) X dX2_allowed_60 (by decide) ?_
      refine G.drop [false, false, false, false, false] rfl ?_
      first | exact K | (simp only [if_pos c8]; exact K)
    · (try simp only [if_neg c8] at K)
      refine g_iload_n X dX2_allowed_56 rfl rfl ?_
      refine g_goto X 61 dX2_allowed_57 (by decide) ?_
      refine G.drop [false, false, false, false, false] rfl ?_
      first | exact K | (simp only [if_neg c8]; exact K)
  cases hF
  exact g_iret X hr dX2_allowed_61
def F_X1_codeOf (a1 : Int32) (a2 : Int32) (a3 : Int32) (a4 : Int32) : Int32 :=
  ((((((a1 * (11 : Int32)) + a2) * (11 : Int32)) + a3) * (11 : Int32)) + a4)
set_option maxHeartbeats 4000000 in
theorem w_X1_codeOf (l : Launch) (hl : l.stackTraces = false) (D : va_G) (dA : Nat → ClassId) (h0 : HH) (a1 : Int32) (a2 : Int32) (a3 : Int32) (a4 : Int32) : MC D dA l yX1_codeOf cX1_codeOf 4 (Option.some Jvm.ClassFile.FieldType.int) [] 0 0 [.int a1, .int a2, .int a3, .int a4] h0 (.inr (some (.int (F_X1_codeOf a1 a2 a3 a4))), h0) := by
  refine mc_of hl (plainFor_of_name pn_X1) (by simp [lg_sl, cat_rf, cat_i, cat_j, cat_f, cat_d]) ?_
  intro p e s m args below meth c R hRf hRl X hr hnm
  generalize hF : F_X1_codeOf a1 a2 a3 a4 = rE
  unfold F_X1_codeOf at hF
  rw [show argL [.int a1, .int a2, .int a3, .int a4] = [some (.int a1), some (.int a2), some (.int a3), some (.int a4)] from by simp [argL, cat_rf, cat_i, cat_j, cat_f, cat_d]]
  refine g_iload_n X dX1_codeOf_0 rfl rfl ?_
  refine g_bipush (v := (11 : Int32)) X dX1_codeOf_1 (by decide) ?_
  refine g_imul X dX1_codeOf_3 ?_
  refine g_iload_n X dX1_codeOf_4 rfl rfl ?_
  refine g_iadd X dX1_codeOf_5 ?_
  refine g_bipush (v := (11 : Int32)) X dX1_codeOf_6 (by decide) ?_
  refine g_imul X dX1_codeOf_8 ?_
  refine g_iload_n X dX1_codeOf_9 rfl rfl ?_
  refine g_iadd X dX1_codeOf_10 ?_
  refine g_bipush (v := (11 : Int32)) X dX1_codeOf_11 (by decide) ?_
  refine g_imul X dX1_codeOf_13 ?_
  refine g_iload_n X dX1_codeOf_14 rfl rfl ?_
  refine g_iadd X dX1_codeOf_15 ?_
  cases hF
  exact g_iret X hr dX1_codeOf_16
def F_X2_moved (this : Nat) (a1 : Int32) (a2 : Option Nat) (h0 : HH) : Option Int32 :=
  Option.bind (getI h0 4 0 a2) fun v1 =>
  if v1 = (a1 / (1331 : Int32)) then (
    Option.bind (isO h0 4 a2) fun ob3 =>
    Option.bind (F_X5_canBeTaken ob3 a1 h0) fun v4 =>
    if v4 = 0 then (
      some (-1 : Int32)
    ) else (
      Option.bind (isO h0 4 a2) fun ob6 =>
      Option.bind (F_X5_isReset ob6 (0 : Int32) h0) fun v7 =>
      Option.bind (isO h0 4 a2) fun ob9 =>
      Option.bind (F_X5_isReset ob9 (1 : Int32) h0) fun v10 =>
      Option.bind (isO h0 4 a2) fun ob12 =>
      Option.bind (F_X5_isReset ob12 (2 : Int32) h0) fun v13 =>
      Option.bind (getI h0 4 1 a2) fun v15 =>
      Option.bind (isO h0 2 (some this)) fun ob16 =>
      Option.bind (F_X2_allowed ob16 (F_X1_codeOf v15 (if v7 = 0 then (F_X1_clockOf a1 (0 : Int32)) else (0 : Int32)) (if v10 = 0 then (F_X1_clockOf a1 (1 : Int32)) else (0 : Int32)) (if v13 = 0 then (F_X1_clockOf a1 (2 : Int32)) else (0 : Int32))) h0) fun v17 =>
      some v17
    )
  ) else (
    some (-1 : Int32)
  )
set_option maxHeartbeats 4000000 in
theorem w_X2_moved (l : Launch) (hl : l.stackTraces = false) (D : va_G) (dA : Nat → ClassId) (h0 : HH) (this : Nat) (a1 : Int32) (a2 : Option Nat) (rE : Int32) (hF : F_X2_moved this a1 a2 h0 = some rE) : MC D dA l yX2_moved cX2_moved 6 (Option.some Jvm.ClassFile.FieldType.int) [] 2 46 [va_rf (some this), .int a1, va_rf a2] h0 (.inr (some (.int rE)), h0) := by
  refine mc_of hl (plainFor_of_name pn_X2) (by simp [lg_sl, cat_rf, cat_i, cat_j, cat_f, cat_d]) ?_
  intro p e s m args below meth c R hRf hRl X hr hnm
  unfold F_X2_moved at hF
  rw [show argL [va_rf (some this), .int a1, va_rf a2] = [some (va_rf (some this)), some (.int a1), some (va_rf a2)] from by simp [argL, cat_rf, cat_i, cat_j, cat_f, cat_d]]
  refine G.pad 3 (L' := [some (va_rf (some this)), some (.int a1), some (va_rf a2), none, none, none]) rfl ?_
  refine g_aload_n X dX2_moved_0 rfl rfl ?_
  obtain ⟨v1, ev1, hF⟩ := bnd hF
  refine g_getN (k := 0) X in_X5 rfl (by decide) (nw_in q315 rfl) rfl (getI_V ev1) dX2_moved_1 ?_
  refine g_iload_n X dX2_moved_4 rfl rfl ?_
  refine g_sipush (v := (1331 : Int32)) X dX2_moved_5 (by decide) ?_
  refine g_idiv X dX2_moved_8 (by decide) ?_
  refine g_icmp_ne X 20 dX2_moved_9 (by decide) (fun c2 => ?_) (fun c2 => ?_)
  · have hF := (if_neg c2).symm.trans hF
    refine g_iconst (v := (-1 : Int32)) X dX2_moved_20 (by decide) ?_
    cases hF
    exact g_iret X hr dX2_moved_21
  · have hF := (if_pos c2).symm.trans hF
    refine g_aload_n X dX2_moved_12 rfl rfl ?_
    refine g_iload_n X dX2_moved_13 rfl rfl ?_
    obtain ⟨ob3, eob3, hF⟩ := bnd hF
    obtain ⟨v4, ev4, hF⟩ := bnd hF
    refine g_callV X eob3 rfl rfl (w_X5_canBeTaken l hl D dA h0 ob3 a1 v4 ev4) q846 q847 q848 q104 q849 okn_X5_canBeTaken ⟨by rw [hRf]; exact Nat.le_of_ble_eq_true rfl, by rw [hRl]; exact Nat.le_of_ble_eq_true rfl⟩ (As := [.int a1]) (rest := []) rfl (by first | exact Nat.le_of_ble_eq_true rfl | simp [cat_rf, cat_i, cat_j, cat_f, cat_d]) dX2_moved_14 (ac_v ?_)
    refine g_if_ne X 22 dX2_moved_17 (by decide) (fun c5 => ?_) (fun c5 => ?_)
    · have hF := (if_neg c5).symm.trans hF
      refine g_aload_n X dX2_moved_22 rfl rfl ?_
      refine g_iconst (v := (0 : Int32)) X dX2_moved_23 (by decide) ?_
      obtain ⟨ob6, eob6, hF⟩ := bnd hF
      obtain ⟨v7, ev7, hF⟩ := bnd hF
      refine g_callV X eob6 rfl rfl (w_X5_isReset l hl D dA h0 ob6 (0 : Int32) v7 ev7) q668 q669 q670 q104 q671 okn_X5_isReset ⟨by rw [hRf]; exact Nat.le_of_ble_eq_true rfl, by rw [hRl]; exact Nat.le_of_ble_eq_true rfl⟩ (As := [.int (0 : Int32)]) (rest := []) rfl (by first | exact Nat.le_of_ble_eq_true rfl | simp [cat_rf, cat_i, cat_j, cat_f, cat_d]) dX2_moved_24 (ac_v ?_)
      suffices K : G p l e R s m args below meth c (RQ D dA h0 (.inr (some (.int rE)), h0) below s) D dA h0 6 h0 39 [some (va_rf (some this)), some (.int a1), some (va_rf a2), none, none, none] [.int (if v7 = 0 then (F_X1_clockOf a1 (0 : Int32)) else (0 : Int32))] by
        refine g_if_eq X 34 dX2_moved_27 (by decide) (fun c8 => ?_) (fun c8 => ?_)
        · (try simp only [if_pos c8] at K)
          refine g_iload_n X dX2_moved_34 rfl rfl ?_
          refine g_iconst (v := (0 : Int32)) X dX2_moved_35 (by decide) ?_
          refine g_callSN X (w_X1_clockOf l hl D dA h0 a1 (0 : Int32)) (nw_in q835 rfl) q836 q92 q837 okn_X1_clockOf ⟨by rw [hRf]; exact Nat.le_of_ble_eq_true rfl, by rw [hRl]; exact Nat.le_of_ble_eq_true rfl⟩ (As := [.int a1, .int (0 : Int32)]) (rest := []) rfl (by first | exact Nat.le_of_ble_eq_true rfl | simp [cat_rf, cat_i, cat_j, cat_f, cat_d]) dX2_moved_36 (ac_v ?_)
          first | exact K | (simp only [if_pos c8]; exact K)
        · (try simp only [if_neg c8] at K)
          refine g_iconst (v := (0 : Int32)) X dX2_moved_30 (by decide) ?_
          refine g_goto X 39 dX2_moved_31 (by decide) ?_
          first | exact K | (simp only [if_neg c8]; exact K)
      refine g_istore_n (L' := [some (va_rf (some this)), some (.int a1), some (va_rf a2), some (.int (if v7 = 0 then (F_X1_clockOf a1 (0 : Int32)) else (0 : Int32))), none, none]) X dX2_moved_39 rfl (Nat.le_of_ble_eq_true rfl) (by first | rfl | simp [stL, rm1, clr2, cat_rf, cat_i, cat_j, cat_f, cat_d]) ?_
      refine g_aload_n X dX2_moved_40 rfl rfl ?_
      refine g_iconst (v := (1 : Int32)) X dX2_moved_41 (by decide) ?_
      obtain ⟨ob9, eob9, hF⟩ := bnd hF
      obtain ⟨v10, ev10, hF⟩ := bnd hF
      refine g_callV X eob9 rfl rfl (w_X5_isReset l hl D dA h0 ob9 (1 : Int32) v10 ev10) q668 q669 q670 q104 q671 okn_X5_isReset ⟨by rw [hRf]; exact Nat.le_of_ble_eq_true rfl, by rw [hRl]; exact Nat.le_of_ble_eq_true rfl⟩ (As := [.int (1 : Int32)]) (rest := []) rfl (by first | exact Nat.le_of_ble_eq_true rfl | simp [cat_rf, cat_i, cat_j, cat_f, cat_d]) dX2_moved_42 (ac_v ?_)
      suffices K : G p l e R s m args below meth c (RQ D dA h0 (.inr (some (.int rE)), h0) below s) D dA h0 6 h0 57 [some (va_rf (some this)), some (.int a1), some (va_rf a2), some (.int (if v7 = 0 then (F_X1_clockOf a1 (0 : Int32)) else (0 : Int32))), none, none] [.int (if v10 = 0 then (F_X1_clockOf a1 (1 : Int32)) else (0 : Int32))] by
        refine g_if_eq X 52 dX2_moved_45 (by decide) (fun c11 => ?_) (fun c11 => ?_)
        · (try simp only [if_pos c11] at K)
          refine g_iload_n X dX2_moved_52 rfl rfl ?_
          refine g_iconst (v := (1 : Int32)) X dX2_moved_53 (by decide) ?_
          refine g_callSN X (w_X1_clockOf l hl D dA h0 a1 (1 : Int32)) (nw_in q835 rfl) q836 q92 q837 okn_X1_clockOf ⟨by rw [hRf]; exact Nat.le_of_ble_eq_true rfl, by rw [hRl]; exact Nat.le_of_ble_eq_true rfl⟩ (As := [.int a1, .int (1 : Int32)]) (rest := []) rfl (by first | exact Nat.le_of_ble_eq_true rfl | simp [cat_rf, cat_i, cat_j, cat_f, cat_d]) dX2_moved_54 (ac_v ?_)
          first | exact K | (simp only [if_pos c11]; exact K)
        · (try simp only [if_neg c11] at K)
          refine g_iconst (v := (0 : Int32)) X dX2_moved_48 (by decide) ?_
          refine g_goto X 57 dX2_moved_49 (by decide) ?_
          first | exact K | (simp only [if_neg c11]; exact K)
      refine g_istore (L' := [some (va_rf (some this)), some (.int a1), some (va_rf a2), some (.int (if v7 = 0 then (F_X1_clockOf a1 (0 : Int32)) else (0 : Int32))), some (.int (if v10 = 0 then (F_X1_clockOf a1 (1 : Int32)) else (0 : Int32))), none]) X dX2_moved_57 (Nat.le_of_ble_eq_true rfl) (by first | rfl | simp [stL, rm1, clr2, cat_rf, cat_i, cat_j, cat_f, cat_d]) ?_
      refine g_aload_n X dX2_moved_59 rfl rfl ?_
      refine g_iconst (v := (2 : Int32)) X dX2_moved_60 (by decide) ?_
      obtain ⟨ob12, eob12, hF⟩ := bnd hF
      obtain ⟨v13, ev13, hF⟩ := bnd hF
      refine g_callV X eob12 rfl rfl (w_X5_isReset l hl D dA h0 ob12 (2 : Int32) v13 ev13) q668 q669 q670 q104 q671 okn_X5_isReset ⟨by rw [hRf]; exact Nat.le_of_ble_eq_true rfl, by rw [hRl]; exact Nat.le_of_ble_eq_true rfl⟩ (As := [.int (2 : Int32)]) (rest := []) rfl (by first | exact Nat.le_of_ble_eq_true rfl | simp [cat_rf, cat_i, cat_j, cat_f, cat_d]) dX2_moved_61 (ac_v ?_)
      suffices K : G p l e R s m args below meth c (RQ D dA h0 (.inr (some (.int rE)), h0) below s) D dA h0 6 h0 76 [some (va_rf (some this)), none, some (va_rf a2), some (.int (if v7 = 0 then (F_X1_clockOf a1 (0 : Int32)) else (0 : Int32))), some (.int (if v10 = 0 then (F_X1_clockOf a1 (1 : Int32)) else (0 : Int32))), none] [.int (if v13 = 0 then (F_X1_clockOf a1 (2 : Int32)) else (0 : Int32))] by
        refine g_if_eq X 71 dX2_moved_64 (by decide) (fun c14 => ?_) (fun c14 => ?_)
        · (try simp only [if_pos c14] at K)
          refine g_iload_n X dX2_moved_71 rfl rfl ?_
          refine g_iconst (v := (2 : Int32)) X dX2_moved_72 (by decide) ?_
          refine g_callSN X (w_X1_clockOf l hl D dA h0 a1 (2 : Int32)) (nw_in q835 rfl) q836 q92 q837 okn_X1_clockOf ⟨by rw [hRf]; exact Nat.le_of_ble_eq_true rfl, by rw [hRl]; exact Nat.le_of_ble_eq_true rfl⟩ (As := [.int a1, .int (2 : Int32)]) (rest := []) rfl (by first | exact Nat.le_of_ble_eq_true rfl | simp [cat_rf, cat_i, cat_j, cat_f, cat_d]) dX2_moved_73 (ac_v ?_)
          refine G.drop [true, false, true, true, true, false] rfl ?_
          first | exact K | (simp only [if_pos c14]; exact K)
        · (try simp only [if_neg c14] at K)
          refine g_iconst (v := (0 : Int32)) X dX2_moved_67 (by decide) ?_
          refine g_goto X 76 dX2_moved_68 (by decide) ?_
          refine G.drop [true, false, true, true, true, false] rfl ?_
          first | exact K | (simp only [if_neg c14]; exact K)
      refine g_istore (L' := [some (va_rf (some this)), none, some (va_rf a2), some (.int (if v7 = 0 then (F_X1_clockOf a1 (0 : Int32)) else (0 : Int32))), some (.int (if v10 = 0 then (F_X1_clockOf a1 (1 : Int32)) else (0 : Int32))), some (.int (if v13 = 0 then (F_X1_clockOf a1 (2 : Int32)) else (0 : Int32)))]) X dX2_moved_76 (Nat.le_of_ble_eq_true rfl) (by first | rfl | simp [stL, rm1, clr2, cat_rf, cat_i, cat_j, cat_f, cat_d]) ?_
      refine g_aload_n X dX2_moved_78 rfl rfl ?_
      refine g_aload_n X dX2_moved_79 rfl rfl ?_
      obtain ⟨v15, ev15, hF⟩ := bnd hF
      refine g_getN (k := 1) X in_X5 rfl (by decide) (nw_in q318 rfl) rfl (getI_V ev15) dX2_moved_80 ?_
      refine g_iload_n X dX2_moved_83 rfl rfl ?_
      refine g_iload X dX2_moved_84 rfl ?_
      refine g_iload X dX2_moved_86 rfl ?_
      refine g_callSN X (w_X1_codeOf l hl D dA h0 v15 (if v7 = 0 then (F_X1_clockOf a1 (0 : Int32)) else (0 : Int32)) (if v10 = 0 then (F_X1_clockOf a1 (1 : Int32)) else (0 : Int32)) (if v13 = 0 then (F_X1_clockOf a1 (2 : Int32)) else (0 : Int32))) (nw_in q851 rfl) q852 q92 q853 okn_X1_codeOf ⟨by rw [hRf]; exact Nat.le_of_ble_eq_true rfl, by rw [hRl]; exact Nat.le_of_ble_eq_true rfl⟩ (As := [.int v15, .int (if v7 = 0 then (F_X1_clockOf a1 (0 : Int32)) else (0 : Int32)), .int (if v10 = 0 then (F_X1_clockOf a1 (1 : Int32)) else (0 : Int32)), .int (if v13 = 0 then (F_X1_clockOf a1 (2 : Int32)) else (0 : Int32))]) (rest := [va_rf (some this)]) rfl (by first | exact Nat.le_of_ble_eq_true rfl | simp [cat_rf, cat_i, cat_j, cat_f, cat_d]) dX2_moved_88 (ac_v ?_)
      obtain ⟨ob16, eob16, hF⟩ := bnd hF
      obtain ⟨v17, ev17, hF⟩ := bnd hF
      refine g_callV X eob16 rfl rfl (w_X2_allowed l hl D dA h0 ob16 (F_X1_codeOf v15 (if v7 = 0 then (F_X1_clockOf a1 (0 : Int32)) else (0 : Int32)) (if v10 = 0 then (F_X1_clockOf a1 (1 : Int32)) else (0 : Int32)) (if v13 = 0 then (F_X1_clockOf a1 (2 : Int32)) else (0 : Int32))) v17 ev17) q831 q833 qs12 q93 q834 okn_X2_allowed ⟨by rw [hRf]; exact Nat.le_of_ble_eq_true rfl, by rw [hRl]; exact Nat.le_of_ble_eq_true rfl⟩ (As := [.int (F_X1_codeOf v15 (if v7 = 0 then (F_X1_clockOf a1 (0 : Int32)) else (0 : Int32)) (if v10 = 0 then (F_X1_clockOf a1 (1 : Int32)) else (0 : Int32)) (if v13 = 0 then (F_X1_clockOf a1 (2 : Int32)) else (0 : Int32)))]) (rest := []) rfl (by first | exact Nat.le_of_ble_eq_true rfl | simp [cat_rf, cat_i, cat_j, cat_f, cat_d]) dX2_moved_91 (ac_v ?_)
      cases hF
      exact g_iret X hr dX2_moved_94
    · have hF := (if_pos c5).symm.trans hF
      refine g_iconst (v := (-1 : Int32)) X dX2_moved_20 (by decide) ?_
      cases hF
      exact g_iret X hr dX2_moved_21
def F_X2_spreads_B6 (this : Nat) (a1 : Int32) (a2 : Int32) (a3 : Int32) (a4 : Option Nat) (a5 : Option Nat) (x6_1 : Int32) (x7_1 : Int32) (h_1 : HH) : Option ((Int32 × Int32 × HH) ⊕ (Int32 × HH)) :=
  Option.bind (getR h_1 2 1 (some this)) fun v2 =>
  Option.bind (isO h_1 8 v2) fun ob3 =>
  Option.bind (F_J2_size ob3 h_1) fun v4 =>
  if v4 ≤ x7_1 then (
    some (.inr (x6_1, h_1))
  ) else (
    Option.bind (getR h_1 2 1 (some this)) fun v6 =>
    Option.bind (isO h_1 8 v6) fun ob7 =>
    Option.bind (F_J2_get ob7 x7_1 h_1) fun v8 =>
    Option.bind (castO h_1 4 v8) fun _ =>
    Option.bind (isO h_1 2 (some this)) fun ob10 =>
    Option.bind (F_X2_moved ob10 a1 v8 h_1) fun v11 =>
    if v11 = (-1 : Int32) then (
      some (.inl (x6_1, (x7_1 + (1 : Int32)), h_1))
    ) else (
      Option.bind (aldI h_1 0 a4 v11) fun v13 =>
      if v13 = (-1 : Int32) then (
        Option.bind (astI h_1 a4 v11 a2) fun h15 =>
        Option.bind (astI h15 a5 x6_1 v11) fun h16 =>
        some (.inl ((x6_1 + (1 : Int32)), (x7_1 + (1 : Int32)), h16))
      ) else (
        some (.inl (x6_1, (x7_1 + (1 : Int32)), h_1))
      )
    )
  )
def F_X2_spreads (this : Nat) (a1 : Int32) (a2 : Int32) (a3 : Int32) (a4 : Option Nat) (a5 : Option Nat) (h0 : HH) : Option (Int32 × HH) :=
  Option.bind (lp (fun z => F_X2_spreads_B6 this a1 a2 a3 a4 a5 z.1 z.2.1 z.2.2) 100000 (a3, (0 : Int32), h0)) fun (v17, h18) =>
  some (v17, h18)
set_option maxHeartbeats 4000000 in
theorem w_X2_spreads (l : Launch) (hl : l.stackTraces = false) (D : va_G) (dA : Nat → ClassId) (h0 : HH) (this : Nat) (a1 : Int32) (a2 : Int32) (a3 : Int32) (a4 : Option Nat) (a5 : Option Nat) (rE : Int32) (hE : HH) (hF : F_X2_spreads this a1 a2 a3 a4 a5 h0 = some (rE, hE)) : MC D dA l yX2_spreads cX2_spreads 9 (Option.some Jvm.ClassFile.FieldType.int) [] 3 71 [va_rf (some this), .int a1, .int a2, .int a3, va_rf a4, va_rf a5] h0 (.inr (some (.int rE)), hE) := by
  refine mc_of hl (plainFor_of_name pn_X2) (by simp [lg_sl, cat_rf, cat_i, cat_j, cat_f, cat_d]) ?_
  intro p e s m args below meth c R hRf hRl X hr hnm
  unfold F_X2_spreads at hF
  rw [show argL [va_rf (some this), .int a1, .int a2, .int a3, va_rf a4, va_rf a5] = [some (va_rf (some this)), some (.int a1), some (.int a2), some (.int a3), some (va_rf a4), some (va_rf a5)] from by simp [argL, cat_rf, cat_i, cat_j, cat_f, cat_d]]
  refine G.pad 3 (L' := [some (va_rf (some this)), some (.int a1), some (.int a2), some (.int a3), some (va_rf a4), some (va_rf a5), none, none, none]) rfl ?_
  refine g_iload_n X dX2_spreads_0 rfl rfl ?_
  refine g_istore (L' := [some (va_rf (some this)), some (.int a1), some (.int a2), some (.int a3), some (va_rf a4), some (va_rf a5), some (.int a3), none, none]) X dX2_spreads_1 (Nat.le_of_ble_eq_true rfl) (by first | rfl | simp [stL, rm1, clr2, cat_rf, cat_i, cat_j, cat_f, cat_d]) ?_
  refine g_iconst (v := (0 : Int32)) X dX2_spreads_3 (by decide) ?_
  refine g_istore (L' := [some (va_rf (some this)), some (.int a1), some (.int a2), some (.int a3), some (va_rf a4), some (va_rf a5), some (.int a3), some (.int (0 : Int32)), none]) X dX2_spreads_4 (Nat.le_of_ble_eq_true rfl) (by first | rfl | simp [stL, rm1, clr2, cat_rf, cat_i, cat_j, cat_f, cat_d]) ?_
  refine G.drop [true, true, true, false, true, true, true, true, false] rfl ?_
  obtain ⟨⟨v17, h18⟩, e19, hF⟩ := bnd hF
  dsimp only at hF
  refine lp_ind (Gs := (fun z => G p l e R s m args below meth c (RQ D dA h0 (.inr (some (.int rE)), hE) below s) D dA h0 9 z.2.2 6 [some (va_rf (some this)), some (.int a1), some (.int a2), none, some (va_rf a4), some (va_rf a5), some (.int z.1), some (.int z.2.1), none] [])) (Ge := (fun z => G p l e R s m args below meth c (RQ D dA h0 (.inr (some (.int rE)), hE) below s) D dA h0 9 z.2 74 [none, none, none, none, none, none, some (.int z.1), none, none] [])) ?_ _ _ _ e19 ?_
  · rintro ⟨x6_1, x7_1, h_1⟩ o hF hgo hr
    change F_X2_spreads_B6 this a1 a2 a3 a4 a5 x6_1 x7_1 h_1 = some o at hF
    unfold F_X2_spreads_B6 at hF
    show G p l e R s m args below meth c (RQ D dA h0 (.inr (some (.int rE)), hE) below s) D dA h0 9 h_1 6 [some (va_rf (some this)), some (.int a1), some (.int a2), none, some (va_rf a4), some (va_rf a5), some (.int x6_1), some (.int x7_1), none] []
    refine g_iload X dX2_spreads_6 rfl ?_
    refine g_aload_n X dX2_spreads_8 rfl rfl ?_
    obtain ⟨v2, ev2, hF⟩ := bnd hF
    refine g_get (k := 1) X in_X2 rfl (by decide) q184 (Or.inl rfl) (getR_V ev2) dX2_spreads_9 ?_
    obtain ⟨ob3, eob3, hF⟩ := bnd hF
    obtain ⟨v4, ev4, hF⟩ := bnd hF
    refine g_callV X eob3 rfl rfl (w_J2_size l hl D dA h_1 ob3  v4 ev4) q288 q289 q290 q96 q291 okn_J2_size ⟨by rw [hRf]; exact Nat.le_of_ble_eq_true rfl, by rw [hRl]; exact Nat.le_of_ble_eq_true rfl⟩ (As := []) (rest := [.int x7_1]) rfl (by first | exact Nat.le_of_ble_eq_true rfl | simp [cat_rf, cat_i, cat_j, cat_f, cat_d]) dX2_spreads_12 (ac_v ?_)
    refine g_icmp_ge X 74 dX2_spreads_15 (by decide) (fun c5 => ?_) (fun c5 => ?_)
    · have hF := (if_pos c5).symm.trans hF
      refine G.drop [false, false, false, false, false, false, true, false, false] rfl ?_
      cases hF
      exact hr _ rfl
    · have hF := (if_neg c5).symm.trans hF
      refine g_aload_n X dX2_spreads_18 rfl rfl ?_
      refine g_iload_n X dX2_spreads_19 rfl rfl ?_
      refine g_aload_n X dX2_spreads_20 rfl rfl ?_
      obtain ⟨v6, ev6, hF⟩ := bnd hF
      refine g_get (k := 1) X in_X2 rfl (by decide) q184 (Or.inl rfl) (getR_V ev6) dX2_spreads_21 ?_
      refine g_iload X dX2_spreads_24 rfl ?_
      obtain ⟨ob7, eob7, hF⟩ := bnd hF
      obtain ⟨v8, ev8, hF⟩ := bnd hF
      refine g_callV X eob7 rfl rfl (w_J2_get l hl D dA h_1 ob7 x7_1 v8 ev8) q294 q295 q296 q96 q297 okn_J2_get ⟨by rw [hRf]; exact Nat.le_of_ble_eq_true rfl, by rw [hRl]; exact Nat.le_of_ble_eq_true rfl⟩ (As := [.int x7_1]) (rest := [.int a1, va_rf (some this)]) rfl (by first | exact Nat.le_of_ble_eq_true rfl | simp [cat_rf, cat_i, cat_j, cat_f, cat_d]) dX2_spreads_26 (ac_v ?_)
      obtain ⟨_, z9, hF⟩ := bnd hF
      refine g_castO X q292 rfl z9 dX2_spreads_29 ?_
      obtain ⟨ob10, eob10, hF⟩ := bnd hF
      obtain ⟨v11, ev11, hF⟩ := bnd hF
      refine g_callV X eob10 rfl rfl (w_X2_moved l hl D dA h_1 ob10 a1 v8 v11 ev11) q842 q844 qs14 q93 q845 okn_X2_moved ⟨by rw [hRf]; exact Nat.le_of_ble_eq_true rfl, by rw [hRl]; exact Nat.le_of_ble_eq_true rfl⟩ (As := [.int a1, va_rf v8]) (rest := []) rfl (by first | exact Nat.le_of_ble_eq_true rfl | simp [cat_rf, cat_i, cat_j, cat_f, cat_d]) dX2_spreads_32 (ac_v ?_)
      refine g_istore (L' := [some (va_rf (some this)), some (.int a1), some (.int a2), none, some (va_rf a4), some (va_rf a5), some (.int x6_1), some (.int x7_1), some (.int v11)]) X dX2_spreads_35 (Nat.le_of_ble_eq_true rfl) (by first | rfl | simp [stL, rm1, clr2, cat_rf, cat_i, cat_j, cat_f, cat_d]) ?_
      refine g_iload X dX2_spreads_37 rfl ?_
      refine g_iconst (v := (-1 : Int32)) X dX2_spreads_39 (by decide) ?_
      refine g_icmp_eq X 68 dX2_spreads_40 (by decide) (fun c12 => ?_) (fun c12 => ?_)
      · have hF := (if_pos c12).symm.trans hF
        refine g_iinc (v := (x7_1 + (1 : Int32))) (L' := [some (va_rf (some this)), some (.int a1), some (.int a2), none, some (va_rf a4), some (va_rf a5), some (.int x6_1), some (.int (x7_1 + (1 : Int32))), some (.int v11)]) X dX2_spreads_68 (Nat.le_of_ble_eq_true rfl) rfl rfl (by first | rfl | simp [stL, rm1, clr2, cat_rf, cat_i, cat_j, cat_f, cat_d]) ?_
        refine g_goto X 6 dX2_spreads_71 (by decide) ?_
        refine G.drop [true, true, true, false, true, true, true, true, false] rfl ?_
        cases hF
        exact hgo _ rfl
      · have hF := (if_neg c12).symm.trans hF
        refine g_aload X dX2_spreads_43 rfl ?_
        refine g_iload X dX2_spreads_45 rfl ?_
        obtain ⟨v13, ev13, hF⟩ := bnd hF
        refine g_iald X ev13 dX2_spreads_47 ?_
        refine g_iconst (v := (-1 : Int32)) X dX2_spreads_48 (by decide) ?_
        refine g_icmp_ne X 68 dX2_spreads_49 (by decide) (fun c14 => ?_) (fun c14 => ?_)
        · have hF := (if_neg c14).symm.trans hF
          refine g_iinc (v := (x7_1 + (1 : Int32))) (L' := [some (va_rf (some this)), some (.int a1), some (.int a2), none, some (va_rf a4), some (va_rf a5), some (.int x6_1), some (.int (x7_1 + (1 : Int32))), some (.int v11)]) X dX2_spreads_68 (Nat.le_of_ble_eq_true rfl) rfl rfl (by first | rfl | simp [stL, rm1, clr2, cat_rf, cat_i, cat_j, cat_f, cat_d]) ?_
          refine g_goto X 6 dX2_spreads_71 (by decide) ?_
          refine G.drop [true, true, true, false, true, true, true, true, false] rfl ?_
          cases hF
          exact hgo _ rfl
        · have hF := (if_pos c14).symm.trans hF
          refine g_aload X dX2_spreads_52 rfl ?_
          refine g_iload X dX2_spreads_54 rfl ?_
          refine g_iload_n X dX2_spreads_56 rfl rfl ?_
          obtain ⟨h15, eh15, hF⟩ := bnd hF
          refine g_iast X eh15 dX2_spreads_57 ?_
          refine g_aload X dX2_spreads_58 rfl ?_
          refine g_iload X dX2_spreads_60 rfl ?_
          refine g_iload X dX2_spreads_62 rfl ?_
          obtain ⟨h16, eh16, hF⟩ := bnd hF
          refine g_iast X eh16 dX2_spreads_64 ?_
          refine g_iinc (v := (x6_1 + (1 : Int32))) (L' := [some (va_rf (some this)), some (.int a1), some (.int a2), none, some (va_rf a4), some (va_rf a5), some (.int (x6_1 + (1 : Int32))), some (.int x7_1), some (.int v11)]) X dX2_spreads_65 (Nat.le_of_ble_eq_true rfl) rfl rfl (by first | rfl | simp [stL, rm1, clr2, cat_rf, cat_i, cat_j, cat_f, cat_d]) ?_
          refine g_iinc (v := (x7_1 + (1 : Int32))) (L' := [some (va_rf (some this)), some (.int a1), some (.int a2), none, some (va_rf a4), some (va_rf a5), some (.int (x6_1 + (1 : Int32))), some (.int (x7_1 + (1 : Int32))), some (.int v11)]) X dX2_spreads_68 (Nat.le_of_ble_eq_true rfl) rfl rfl (by first | rfl | simp [stL, rm1, clr2, cat_rf, cat_i, cat_j, cat_f, cat_d]) ?_
          refine g_goto X 6 dX2_spreads_71 (by decide) ?_
          refine G.drop [true, true, true, false, true, true, true, true, false] rfl ?_
          cases hF
          exact hgo _ rfl
  show G p l e R s m args below meth c (RQ D dA h0 (.inr (some (.int rE)), hE) below s) D dA h0 9 h18 74 [none, none, none, none, none, none, some (.int v17), none, none] []
  refine g_iload X dX2_spreads_74 rfl ?_
  cases hF
  exact g_iret X hr dX2_spreads_76
def F_X2_ticked (this : Nat) (a1 : Int32) (h0 : HH) : Option Int32 :=
  Option.bind (isO h0 2 (some this)) fun ob1 =>
  Option.bind (F_X2_allowed ob1 (F_X1_codeOf (a1 / (1331 : Int32)) (F_J11_min (10 : Int32) ((F_X1_clockOf a1 (0 : Int32)) + (1 : Int32))) (F_J11_min (10 : Int32) ((F_X1_clockOf a1 (1 : Int32)) + (1 : Int32))) (F_J11_min (10 : Int32) ((F_X1_clockOf a1 (2 : Int32)) + (1 : Int32)))) h0) fun v2 =>
  some v2
set_option maxHeartbeats 4000000 in
theorem w_X2_ticked (l : Launch) (hl : l.stackTraces = false) (D : va_G) (dA : Nat → ClassId) (h0 : HH) (this : Nat) (a1 : Int32) (rE : Int32) (hF : F_X2_ticked this a1 h0 = some rE) : MC D dA l yX2_ticked cX2_ticked 5 (Option.some Jvm.ClassFile.FieldType.int) [] 2 46 [va_rf (some this), .int a1] h0 (.inr (some (.int rE)), h0) := by
  refine mc_of hl (plainFor_of_name pn_X2) (by simp [lg_sl, cat_rf, cat_i, cat_j, cat_f, cat_d]) ?_
  intro p e s m args below meth c R hRf hRl X hr hnm
  unfold F_X2_ticked at hF
  rw [show argL [va_rf (some this), .int a1] = [some (va_rf (some this)), some (.int a1)] from by simp [argL, cat_rf, cat_i, cat_j, cat_f, cat_d]]
  refine G.pad 3 (L' := [some (va_rf (some this)), some (.int a1), none, none, none]) rfl ?_
  refine g_bipush (v := (10 : Int32)) X dX2_ticked_0 (by decide) ?_
  refine g_iload_n X dX2_ticked_2 rfl rfl ?_
  refine g_iconst (v := (0 : Int32)) X dX2_ticked_3 (by decide) ?_
  refine g_callSN X (w_X1_clockOf l hl D dA h0 a1 (0 : Int32)) (nw_in q835 rfl) q836 q92 q837 okn_X1_clockOf ⟨by rw [hRf]; exact Nat.le_of_ble_eq_true rfl, by rw [hRl]; exact Nat.le_of_ble_eq_true rfl⟩ (As := [.int a1, .int (0 : Int32)]) (rest := [.int (10 : Int32)]) rfl (by first | exact Nat.le_of_ble_eq_true rfl | simp [cat_rf, cat_i, cat_j, cat_f, cat_d]) dX2_ticked_4 (ac_v ?_)
  refine g_iconst (v := (1 : Int32)) X dX2_ticked_7 (by decide) ?_
  refine g_iadd X dX2_ticked_8 ?_
  refine g_callS X (w_J11_min l hl D dA h0 (10 : Int32) ((F_X1_clockOf a1 (0 : Int32)) + (1 : Int32))) q630 q391 q108 q392 okn_J11_min ⟨by rw [hRf]; exact Nat.le_of_ble_eq_true rfl, by rw [hRl]; exact Nat.le_of_ble_eq_true rfl⟩ (As := [.int (10 : Int32), .int ((F_X1_clockOf a1 (0 : Int32)) + (1 : Int32))]) (rest := []) rfl (by first | exact Nat.le_of_ble_eq_true rfl | simp [cat_rf, cat_i, cat_j, cat_f, cat_d]) dX2_ticked_9 (ac_v ?_)
  refine g_istore_n (L' := [some (va_rf (some this)), some (.int a1), some (.int (F_J11_min (10 : Int32) ((F_X1_clockOf a1 (0 : Int32)) + (1 : Int32)))), none, none]) X dX2_ticked_12 rfl (Nat.le_of_ble_eq_true rfl) (by first | rfl | simp [stL, rm1, clr2, cat_rf, cat_i, cat_j, cat_f, cat_d]) ?_
  refine g_bipush (v := (10 : Int32)) X dX2_ticked_13 (by decide) ?_
  refine g_iload_n X dX2_ticked_15 rfl rfl ?_
  refine g_iconst (v := (1 : Int32)) X dX2_ticked_16 (by decide) ?_
  refine g_callSN X (w_X1_clockOf l hl D dA h0 a1 (1 : Int32)) (nw_in q835 rfl) q836 q92 q837 okn_X1_clockOf ⟨by rw [hRf]; exact Nat.le_of_ble_eq_true rfl, by rw [hRl]; exact Nat.le_of_ble_eq_true rfl⟩ (As := [.int a1, .int (1 : Int32)]) (rest := [.int (10 : Int32)]) rfl (by first | exact Nat.le_of_ble_eq_true rfl | simp [cat_rf, cat_i, cat_j, cat_f, cat_d]) dX2_ticked_17 (ac_v ?_)
  refine g_iconst (v := (1 : Int32)) X dX2_ticked_20 (by decide) ?_
  refine g_iadd X dX2_ticked_21 ?_
  refine g_callS X (w_J11_min l hl D dA h0 (10 : Int32) ((F_X1_clockOf a1 (1 : Int32)) + (1 : Int32))) q630 q391 q108 q392 okn_J11_min ⟨by rw [hRf]; exact Nat.le_of_ble_eq_true rfl, by rw [hRl]; exact Nat.le_of_ble_eq_true rfl⟩ (As := [.int (10 : Int32), .int ((F_X1_clockOf a1 (1 : Int32)) + (1 : Int32))]) (rest := []) rfl (by first | exact Nat.le_of_ble_eq_true rfl | simp [cat_rf, cat_i, cat_j, cat_f, cat_d]) dX2_ticked_22 (ac_v ?_)
  refine g_istore_n (L' := [some (va_rf (some this)), some (.int a1), some (.int (F_J11_min (10 : Int32) ((F_X1_clockOf a1 (0 : Int32)) + (1 : Int32)))), some (.int (F_J11_min (10 : Int32) ((F_X1_clockOf a1 (1 : Int32)) + (1 : Int32)))), none]) X dX2_ticked_25 rfl (Nat.le_of_ble_eq_true rfl) (by first | rfl | simp [stL, rm1, clr2, cat_rf, cat_i, cat_j, cat_f, cat_d]) ?_
  refine g_bipush (v := (10 : Int32)) X dX2_ticked_26 (by decide) ?_
  refine g_iload_n X dX2_ticked_28 rfl rfl ?_
  refine g_iconst (v := (2 : Int32)) X dX2_ticked_29 (by decide) ?_
  refine g_callSN X (w_X1_clockOf l hl D dA h0 a1 (2 : Int32)) (nw_in q835 rfl) q836 q92 q837 okn_X1_clockOf ⟨by rw [hRf]; exact Nat.le_of_ble_eq_true rfl, by rw [hRl]; exact Nat.le_of_ble_eq_true rfl⟩ (As := [.int a1, .int (2 : Int32)]) (rest := [.int (10 : Int32)]) rfl (by first | exact Nat.le_of_ble_eq_true rfl | simp [cat_rf, cat_i, cat_j, cat_f, cat_d]) dX2_ticked_30 (ac_v ?_)
  refine g_iconst (v := (1 : Int32)) X dX2_ticked_33 (by decide) ?_
  refine g_iadd X dX2_ticked_34 ?_
  refine g_callS X (w_J11_min l hl D dA h0 (10 : Int32) ((F_X1_clockOf a1 (2 : Int32)) + (1 : Int32))) q630 q391 q108 q392 okn_J11_min ⟨by rw [hRf]; exact Nat.le_of_ble_eq_true rfl, by rw [hRl]; exact Nat.le_of_ble_eq_true rfl⟩ (As := [.int (10 : Int32), .int ((F_X1_clockOf a1 (2 : Int32)) + (1 : Int32))]) (rest := []) rfl (by first | exact Nat.le_of_ble_eq_true rfl | simp [cat_rf, cat_i, cat_j, cat_f, cat_d]) dX2_ticked_35 (ac_v ?_)
  refine g_istore (L' := [some (va_rf (some this)), some (.int a1), some (.int (F_J11_min (10 : Int32) ((F_X1_clockOf a1 (0 : Int32)) + (1 : Int32)))), some (.int (F_J11_min (10 : Int32) ((F_X1_clockOf a1 (1 : Int32)) + (1 : Int32)))), some (.int (F_J11_min (10 : Int32) ((F_X1_clockOf a1 (2 : Int32)) + (1 : Int32))))]) X dX2_ticked_38 (Nat.le_of_ble_eq_true rfl) (by first | rfl | simp [stL, rm1, clr2, cat_rf, cat_i, cat_j, cat_f, cat_d]) ?_
  refine g_aload_n X dX2_ticked_40 rfl rfl ?_
  refine g_iload_n X dX2_ticked_41 rfl rfl ?_
  refine g_sipush (v := (1331 : Int32)) X dX2_ticked_42 (by decide) ?_
  refine g_idiv X dX2_ticked_45 (by decide) ?_
  refine g_iload_n X dX2_ticked_46 rfl rfl ?_
  refine g_iload_n X dX2_ticked_47 rfl rfl ?_
  refine g_iload X dX2_ticked_48 rfl ?_
  refine g_callSN X (w_X1_codeOf l hl D dA h0 (a1 / (1331 : Int32)) (F_J11_min (10 : Int32) ((F_X1_clockOf a1 (0 : Int32)) + (1 : Int32))) (F_J11_min (10 : Int32) ((F_X1_clockOf a1 (1 : Int32)) + (1 : Int32))) (F_J11_min (10 : Int32) ((F_X1_clockOf a1 (2 : Int32)) + (1 : Int32)))) (nw_in q851 rfl) q852 q92 q853 okn_X1_codeOf ⟨by rw [hRf]; exact Nat.le_of_ble_eq_true rfl, by rw [hRl]; exact Nat.le_of_ble_eq_true rfl⟩ (As := [.int (a1 / (1331 : Int32)), .int (F_J11_min (10 : Int32) ((F_X1_clockOf a1 (0 : Int32)) + (1 : Int32))), .int (F_J11_min (10 : Int32) ((F_X1_clockOf a1 (1 : Int32)) + (1 : Int32))), .int (F_J11_min (10 : Int32) ((F_X1_clockOf a1 (2 : Int32)) + (1 : Int32)))]) (rest := [va_rf (some this)]) rfl (by first | exact Nat.le_of_ble_eq_true rfl | simp [cat_rf, cat_i, cat_j, cat_f, cat_d]) dX2_ticked_50 (ac_v ?_)
  obtain ⟨ob1, eob1, hF⟩ := bnd hF
  obtain ⟨v2, ev2, hF⟩ := bnd hF
  refine g_callV X eob1 rfl rfl (w_X2_allowed l hl D dA h0 ob1 (F_X1_codeOf (a1 / (1331 : Int32)) (F_J11_min (10 : Int32) ((F_X1_clockOf a1 (0 : Int32)) + (1 : Int32))) (F_J11_min (10 : Int32) ((F_X1_clockOf a1 (1 : Int32)) + (1 : Int32))) (F_J11_min (10 : Int32) ((F_X1_clockOf a1 (2 : Int32)) + (1 : Int32)))) v2 ev2) q831 q833 qs12 q93 q834 okn_X2_allowed ⟨by rw [hRf]; exact Nat.le_of_ble_eq_true rfl, by rw [hRl]; exact Nat.le_of_ble_eq_true rfl⟩ (As := [.int (F_X1_codeOf (a1 / (1331 : Int32)) (F_J11_min (10 : Int32) ((F_X1_clockOf a1 (0 : Int32)) + (1 : Int32))) (F_J11_min (10 : Int32) ((F_X1_clockOf a1 (1 : Int32)) + (1 : Int32))) (F_J11_min (10 : Int32) ((F_X1_clockOf a1 (2 : Int32)) + (1 : Int32))))]) (rest := []) rfl (by first | exact Nat.le_of_ble_eq_true rfl | simp [cat_rf, cat_i, cat_j, cat_f, cat_d]) dX2_ticked_53 (ac_v ?_)
  cases hF
  exact g_iret X hr dX2_ticked_56
def F_X2_ticksTo_B8 (this : Nat) (k1_2 : Option Nat) (x2_2 : Int32) (h_2 : HH) : Option ((Int32 × HH) ⊕ HH) :=
  Option.bind (alen h_2 k1_2) fun v3 =>
  if v3 ≤ x2_2 then (
    some (.inr h_2)
  ) else (
    Option.bind (astI h_2 k1_2 x2_2 (-1 : Int32)) fun h5 =>
    some (.inl ((x2_2 + (1 : Int32)), h5))
  )
def F_X2_ticksTo_B67 (this : Nat) (k1_12 : Option Nat) (k2_12 : Option Nat) (x3_12 : Int32) (x4_12 : Int32) (x5_12 : Int32) (x3_14 : Int32) (x6_14 : Int32) (h_14 : HH) : Option ((Int32 × Int32 × HH) ⊕ (Int32 × HH)) :=
  if x3_14 ≤ x6_14 then (
    some (.inr (x3_14, h_14))
  ) else (
    Option.bind (aldI h_14 0 k2_12 x6_14) fun v16 =>
    Option.bind (isO h_14 2 (some this)) fun ob17 =>
    b2 (F_X2_spreads ob17 v16 x5_12 x3_14 k1_12 k2_12 h_14) fun v19 h18 =>
    some (.inl (v19, (x6_14 + (1 : Int32)), h18))
  )
def F_X2_ticksTo_B100 (this : Nat) (k1_12 : Option Nat) (k2_12 : Option Nat) (x3_12 : Int32) (x4_12 : Int32) (x5_12 : Int32) (k6_22 : Int32) (x3_22 : Int32) (x7_22 : Int32) (h_22 : HH) : Option ((Int32 × Int32 × HH) ⊕ (Int32 × HH)) :=
  if k6_22 ≤ x7_22 then (
    some (.inr (x3_22, h_22))
  ) else (
    Option.bind (aldI h_22 0 k2_12 x7_22) fun v24 =>
    Option.bind (isO h_22 2 (some this)) fun ob25 =>
    Option.bind (F_X2_ticked ob25 v24 h_22) fun v26 =>
    if v26 = (-1 : Int32) then (
      some (.inl (x3_22, (x7_22 + (1 : Int32)), h_22))
    ) else (
      Option.bind (aldI h_22 0 k1_12 v26) fun v28 =>
      if v28 = (-1 : Int32) then (
        Option.bind (astI h_22 k1_12 v26 (x5_12 + (1 : Int32))) fun h30 =>
        Option.bind (astI h30 k2_12 x3_22 v26) fun h31 =>
        some (.inl ((x3_22 + (1 : Int32)), (x7_22 + (1 : Int32)), h31))
      ) else (
        some (.inl (x3_22, (x7_22 + (1 : Int32)), h_22))
      )
    )
  )
def F_X2_ticksTo_B57 (this : Nat) (k1_12 : Option Nat) (k2_12 : Option Nat) (x3_12 : Int32) (x4_12 : Int32) (x5_12 : Int32) (h_12 : HH) : Option ((Int32 × Int32 × Int32 × HH) ⊕ HH) :=
  if x3_12 ≤ x4_12 then (
    some (.inr h_12)
  ) else (
    Option.bind (lp (fun z => F_X2_ticksTo_B67 this k1_12 k2_12 x3_12 x4_12 x5_12 z.1 z.2.1 z.2.2) 100000 (x3_12, x4_12, h_12)) fun (v20, h21) =>
    Option.bind (lp (fun z => F_X2_ticksTo_B100 this k1_12 k2_12 x3_12 x4_12 x5_12 v20 z.1 z.2.1 z.2.2) 100000 (v20, x4_12, h21)) fun (v32, h33) =>
    some (.inl (v32, v20, (x5_12 + (1 : Int32)), h33))
  )
def F_X2_ticksTo (this : Nat) (h0 : HH) : Option (Option Nat × HH) :=
  Option.bind (newA h0 0 (7986 : Int32)) fun h1 =>
  Option.bind (lp (fun z => F_X2_ticksTo_B8 this (some (hSz h0)) z.1 z.2) 100000 ((0 : Int32), h1)) fun h6 =>
  Option.bind (newA h6 0 (7986 : Int32)) fun h7 =>
  Option.bind (isO h7 2 (some this)) fun ob8 =>
  Option.bind (F_X2_allowed ob8 (0 : Int32) h7) fun v9 =>
  Option.bind (astI h7 (some (hSz h0)) (0 : Int32) ((if v9 = (-1 : Int32) then (0 : Int32) else (1 : Int32)) - (1 : Int32))) fun h11 =>
  Option.bind (lp (fun z => F_X2_ticksTo_B57 this (some (hSz h0)) (some (hSz h6)) z.1 z.2.1 z.2.2.1 z.2.2.2) 100000 ((if v9 = (-1 : Int32) then (0 : Int32) else (1 : Int32)), (0 : Int32), (0 : Int32), h11)) fun h38 =>
  some ((some (hSz h0)), h38)
set_option maxHeartbeats 4000000 in
theorem w_X2_ticksTo (l : Launch) (hl : l.stackTraces = false) (D : va_G) (dA : Nat → ClassId) (h0 : HH) (this : Nat) (rE : Option Nat) (hE : HH) (hF : F_X2_ticksTo this h0 = some (rE, hE)) : MC D dA l yX2_ticksTo cX2_ticksTo 9 (Option.some (Jvm.ClassFile.FieldType.array Jvm.ClassFile.FieldType.int)) [] 4 99 [va_rf (some this)] h0 (.inr (some (va_rf rE)), hE) := by
  refine mc_of hl (plainFor_of_name pn_X2) (by simp [lg_sl, cat_rf, cat_i, cat_j, cat_f, cat_d]) ?_
  intro p e s m args below meth c R hRf hRl X hr hnm
  unfold F_X2_ticksTo at hF
  rw [show argL [va_rf (some this)] = [some (va_rf (some this))] from by simp [argL, cat_rf, cat_i, cat_j, cat_f, cat_d]]
  refine G.pad 8 (L' := [some (va_rf (some this)), none, none, none, none, none, none, none, none]) rfl ?_
  refine g_sipush (v := (7986 : Int32)) X dX2_ticksTo_0 (by decide) ?_
  obtain ⟨h1, eh1, hF⟩ := bnd hF
  refine g_newa (atype := .int) (t := 0) X q182 rfl (funext fun _ => rfl) (by decide) eh1 dX2_ticksTo_3 ?_
  refine g_astore_n (L' := [some (va_rf (some this)), some (va_rf (some (hSz h0))), none, none, none, none, none, none, none]) X dX2_ticksTo_5 rfl (Nat.le_of_ble_eq_true rfl) (by first | rfl | simp [stL, rm1, clr2, cat_rf, cat_i, cat_j, cat_f, cat_d]) ?_
  refine g_iconst (v := (0 : Int32)) X dX2_ticksTo_6 (by decide) ?_
  refine g_istore_n (L' := [some (va_rf (some this)), some (va_rf (some (hSz h0))), some (.int (0 : Int32)), none, none, none, none, none, none]) X dX2_ticksTo_7 rfl (Nat.le_of_ble_eq_true rfl) (by first | rfl | simp [stL, rm1, clr2, cat_rf, cat_i, cat_j, cat_f, cat_d]) ?_
  obtain ⟨h6, e41, hF⟩ := bnd hF
  refine lp_ind (Gs := (fun z => G p l e R s m args below meth c (RQ D dA h0 (.inr (some (va_rf rE)), hE) below s) D dA h0 9 z.2 8 [some (va_rf (some this)), some (va_rf (some (hSz h0))), some (.int z.1), none, none, none, none, none, none] [])) (Ge := (fun z => G p l e R s m args below meth c (RQ D dA h0 (.inr (some (va_rf rE)), hE) below s) D dA h0 9 z 24 [some (va_rf (some this)), some (va_rf (some (hSz h0))), none, none, none, none, none, none, none] [])) ?_ _ _ _ e41 ?_
  · rintro ⟨x2_2, h_2⟩ o hF hgo hr
    change F_X2_ticksTo_B8 this (some (hSz h0)) x2_2 h_2 = some o at hF
    generalize (some (hSz h0)) = k1_2 at hF hgo hr ⊢
    unfold F_X2_ticksTo_B8 at hF
    show G p l e R s m args below meth c (RQ D dA h0 (.inr (some (va_rf rE)), hE) below s) D dA h0 9 h_2 8 [some (va_rf (some this)), some (va_rf k1_2), some (.int x2_2), none, none, none, none, none, none] []
    refine g_iload_n X dX2_ticksTo_8 rfl rfl ?_
    refine g_aload_n X dX2_ticksTo_9 rfl rfl ?_
    obtain ⟨v3, ev3, hF⟩ := bnd hF
    refine g_alen X ev3 dX2_ticksTo_10 ?_
    refine g_icmp_ge X 24 dX2_ticksTo_11 (by decide) (fun c4 => ?_) (fun c4 => ?_)
    · have hF := (if_pos c4).symm.trans hF
      refine G.drop [true, true, false, false, false, false, false, false, false] rfl ?_
      cases hF
      exact hr _ rfl
    · have hF := (if_neg c4).symm.trans hF
      refine g_aload_n X dX2_ticksTo_14 rfl rfl ?_
      refine g_iload_n X dX2_ticksTo_15 rfl rfl ?_
      refine g_iconst (v := (-1 : Int32)) X dX2_ticksTo_16 (by decide) ?_
      obtain ⟨h5, eh5, hF⟩ := bnd hF
      refine g_iast X eh5 dX2_ticksTo_17 ?_
      refine g_iinc (v := (x2_2 + (1 : Int32))) (L' := [some (va_rf (some this)), some (va_rf k1_2), some (.int (x2_2 + (1 : Int32))), none, none, none, none, none, none]) X dX2_ticksTo_18 (Nat.le_of_ble_eq_true rfl) rfl rfl (by first | rfl | simp [stL, rm1, clr2, cat_rf, cat_i, cat_j, cat_f, cat_d]) ?_
      refine g_goto X 8 dX2_ticksTo_21 (by decide) ?_
      cases hF
      exact hgo _ rfl
  show G p l e R s m args below meth c (RQ D dA h0 (.inr (some (va_rf rE)), hE) below s) D dA h0 9 h6 24 [some (va_rf (some this)), some (va_rf (some (hSz h0))), none, none, none, none, none, none, none] []
  refine g_sipush (v := (7986 : Int32)) X dX2_ticksTo_24 (by decide) ?_
  obtain ⟨h7, eh7, hF⟩ := bnd hF
  refine g_newa (atype := .int) (t := 0) X q182 rfl (funext fun _ => rfl) (by decide) eh7 dX2_ticksTo_27 ?_
  refine g_astore_n (L' := [some (va_rf (some this)), some (va_rf (some (hSz h0))), some (va_rf (some (hSz h6))), none, none, none, none, none, none]) X dX2_ticksTo_29 rfl (Nat.le_of_ble_eq_true rfl) (by first | rfl | simp [stL, rm1, clr2, cat_rf, cat_i, cat_j, cat_f, cat_d]) ?_
  refine g_aload_n X dX2_ticksTo_30 rfl rfl ?_
  refine g_iconst (v := (0 : Int32)) X dX2_ticksTo_31 (by decide) ?_
  obtain ⟨ob8, eob8, hF⟩ := bnd hF
  obtain ⟨v9, ev9, hF⟩ := bnd hF
  refine g_callV X eob8 rfl rfl (w_X2_allowed l hl D dA h7 ob8 (0 : Int32) v9 ev9) q831 q833 qs12 q93 q834 okn_X2_allowed ⟨by rw [hRf]; exact Nat.le_of_ble_eq_true rfl, by rw [hRl]; exact Nat.le_of_ble_eq_true rfl⟩ (As := [.int (0 : Int32)]) (rest := []) rfl (by first | exact Nat.le_of_ble_eq_true rfl | simp [cat_rf, cat_i, cat_j, cat_f, cat_d]) dX2_ticksTo_32 (ac_v ?_)
  refine g_iconst (v := (-1 : Int32)) X dX2_ticksTo_35 (by decide) ?_
  suffices K : G p l e R s m args below meth c (RQ D dA h0 (.inr (some (va_rf rE)), hE) below s) D dA h0 9 h7 44 [some (va_rf (some this)), some (va_rf (some (hSz h0))), some (va_rf (some (hSz h6))), none, none, none, none, none, none] [.int (if v9 = (-1 : Int32) then (0 : Int32) else (1 : Int32))] by
    refine g_icmp_ne X 43 dX2_ticksTo_36 (by decide) (fun c10 => ?_) (fun c10 => ?_)
    · (try simp only [if_neg c10] at K)
      refine g_iconst (v := (1 : Int32)) X dX2_ticksTo_43 (by decide) ?_
      first | exact K | (simp only [if_neg c10]; exact K)
    · (try simp only [if_pos c10] at K)
      refine g_iconst (v := (0 : Int32)) X dX2_ticksTo_39 (by decide) ?_
      refine g_goto X 44 dX2_ticksTo_40 (by decide) ?_
      first | exact K | (simp only [if_pos c10]; exact K)
  refine g_istore_n (L' := [some (va_rf (some this)), some (va_rf (some (hSz h0))), some (va_rf (some (hSz h6))), some (.int (if v9 = (-1 : Int32) then (0 : Int32) else (1 : Int32))), none, none, none, none, none]) X dX2_ticksTo_44 rfl (Nat.le_of_ble_eq_true rfl) (by first | rfl | simp [stL, rm1, clr2, cat_rf, cat_i, cat_j, cat_f, cat_d]) ?_
  refine g_aload_n X dX2_ticksTo_45 rfl rfl ?_
  refine g_iconst (v := (0 : Int32)) X dX2_ticksTo_46 (by decide) ?_
  refine g_iload_n X dX2_ticksTo_47 rfl rfl ?_
  refine g_iconst (v := (1 : Int32)) X dX2_ticksTo_48 (by decide) ?_
  refine g_isub X dX2_ticksTo_49 ?_
  obtain ⟨h11, eh11, hF⟩ := bnd hF
  refine g_iast X eh11 dX2_ticksTo_50 ?_
  refine g_iconst (v := (0 : Int32)) X dX2_ticksTo_51 (by decide) ?_
  refine g_istore (L' := [some (va_rf (some this)), some (va_rf (some (hSz h0))), some (va_rf (some (hSz h6))), some (.int (if v9 = (-1 : Int32) then (0 : Int32) else (1 : Int32))), some (.int (0 : Int32)), none, none, none, none]) X dX2_ticksTo_52 (Nat.le_of_ble_eq_true rfl) (by first | rfl | simp [stL, rm1, clr2, cat_rf, cat_i, cat_j, cat_f, cat_d]) ?_
  refine g_iconst (v := (0 : Int32)) X dX2_ticksTo_54 (by decide) ?_
  refine g_istore (L' := [some (va_rf (some this)), some (va_rf (some (hSz h0))), some (va_rf (some (hSz h6))), some (.int (if v9 = (-1 : Int32) then (0 : Int32) else (1 : Int32))), some (.int (0 : Int32)), some (.int (0 : Int32)), none, none, none]) X dX2_ticksTo_55 (Nat.le_of_ble_eq_true rfl) (by first | rfl | simp [stL, rm1, clr2, cat_rf, cat_i, cat_j, cat_f, cat_d]) ?_
  obtain ⟨h38, e39, hF⟩ := bnd hF
  refine lp_ind (Gs := (fun z => G p l e R s m args below meth c (RQ D dA h0 (.inr (some (va_rf rE)), hE) below s) D dA h0 9 z.2.2.2 57 [some (va_rf (some this)), some (va_rf (some (hSz h0))), some (va_rf (some (hSz h6))), some (.int z.1), some (.int z.2.1), some (.int z.2.2.1), none, none, none] [])) (Ge := (fun z => G p l e R s m args below meth c (RQ D dA h0 (.inr (some (va_rf rE)), hE) below s) D dA h0 9 z 163 [none, some (va_rf (some (hSz h0))), none, none, none, none, none, none, none] [])) ?_ _ _ _ e39 ?_
  · rintro ⟨x3_12, x4_12, x5_12, h_12⟩ o hF hgo hr
    change F_X2_ticksTo_B57 this (some (hSz h0)) (some (hSz h6)) x3_12 x4_12 x5_12 h_12 = some o at hF
    generalize (some (hSz h0)) = k1_12 at hF hgo hr ⊢
    generalize (some (hSz h6)) = k2_12 at hF hgo hr ⊢
    unfold F_X2_ticksTo_B57 at hF
    show G p l e R s m args below meth c (RQ D dA h0 (.inr (some (va_rf rE)), hE) below s) D dA h0 9 h_12 57 [some (va_rf (some this)), some (va_rf k1_12), some (va_rf k2_12), some (.int x3_12), some (.int x4_12), some (.int x5_12), none, none, none] []
    refine g_iload X dX2_ticksTo_57 rfl ?_
    refine g_iload_n X dX2_ticksTo_59 rfl rfl ?_
    refine g_icmp_ge X 163 dX2_ticksTo_60 (by decide) (fun c13 => ?_) (fun c13 => ?_)
    · have hF := (if_pos c13).symm.trans hF
      refine G.drop [false, true, false, false, false, false, false, false, false] rfl ?_
      cases hF
      exact hr _ rfl
    · have hF := (if_neg c13).symm.trans hF
      refine g_iload X dX2_ticksTo_63 rfl ?_
      refine g_istore (L' := [some (va_rf (some this)), some (va_rf k1_12), some (va_rf k2_12), some (.int x3_12), some (.int x4_12), some (.int x5_12), some (.int x4_12), none, none]) X dX2_ticksTo_65 (Nat.le_of_ble_eq_true rfl) (by first | rfl | simp [stL, rm1, clr2, cat_rf, cat_i, cat_j, cat_f, cat_d]) ?_
      obtain ⟨⟨v20, h21⟩, e36, hF⟩ := bnd hF
      dsimp only at hF
      refine lp_ind (Gs := (fun z => G p l e R s m args below meth c (RQ D dA h0 (.inr (some (va_rf rE)), hE) below s) D dA h0 9 z.2.2 67 [some (va_rf (some this)), some (va_rf k1_12), some (va_rf k2_12), some (.int z.1), some (.int x4_12), some (.int x5_12), some (.int z.2.1), none, none] [])) (Ge := (fun z => G p l e R s m args below meth c (RQ D dA h0 (.inr (some (va_rf rE)), hE) below s) D dA h0 9 z.2 93 [some (va_rf (some this)), some (va_rf k1_12), some (va_rf k2_12), some (.int z.1), some (.int x4_12), some (.int x5_12), none, none, none] [])) ?_ _ _ _ e36 ?_
      · rintro ⟨x3_14, x6_14, h_14⟩ o hF hgo hr
        change F_X2_ticksTo_B67 this k1_12 k2_12 x3_12 x4_12 x5_12 x3_14 x6_14 h_14 = some o at hF
        unfold F_X2_ticksTo_B67 at hF
        show G p l e R s m args below meth c (RQ D dA h0 (.inr (some (va_rf rE)), hE) below s) D dA h0 9 h_14 67 [some (va_rf (some this)), some (va_rf k1_12), some (va_rf k2_12), some (.int x3_14), some (.int x4_12), some (.int x5_12), some (.int x6_14), none, none] []
        refine g_iload X dX2_ticksTo_67 rfl ?_
        refine g_iload_n X dX2_ticksTo_69 rfl rfl ?_
        refine g_icmp_ge X 93 dX2_ticksTo_70 (by decide) (fun c15 => ?_) (fun c15 => ?_)
        · have hF := (if_pos c15).symm.trans hF
          refine G.drop [true, true, true, true, true, true, false, false, false] rfl ?_
          cases hF
          exact hr _ rfl
        · have hF := (if_neg c15).symm.trans hF
          refine g_aload_n X dX2_ticksTo_73 rfl rfl ?_
          refine g_aload_n X dX2_ticksTo_74 rfl rfl ?_
          refine g_iload X dX2_ticksTo_75 rfl ?_
          obtain ⟨v16, ev16, hF⟩ := bnd hF
          refine g_iald X ev16 dX2_ticksTo_77 ?_
          refine g_iload X dX2_ticksTo_78 rfl ?_
          refine g_iload_n X dX2_ticksTo_80 rfl rfl ?_
          refine g_aload_n X dX2_ticksTo_81 rfl rfl ?_
          refine g_aload_n X dX2_ticksTo_82 rfl rfl ?_
          obtain ⟨ob17, eob17, hF⟩ := bnd hF
          obtain ⟨v19, h18, eh18, hF⟩ := b2_some hF
          refine g_callV X eob17 rfl rfl (w_X2_spreads l hl D dA h_14 ob17 v16 x5_12 x3_14 k1_12 k2_12 v19 h18 eh18) q838 q840 qs13 q93 q841 okn_X2_spreads ⟨by rw [hRf]; exact Nat.le_of_ble_eq_true rfl, by rw [hRl]; exact Nat.le_of_ble_eq_true rfl⟩ (As := [.int v16, .int x5_12, .int x3_14, va_rf k1_12, va_rf k2_12]) (rest := []) rfl (by first | exact Nat.le_of_ble_eq_true rfl | simp [cat_rf, cat_i, cat_j, cat_f, cat_d]) dX2_ticksTo_83 (ac_v ?_)
          refine g_istore_n (L' := [some (va_rf (some this)), some (va_rf k1_12), some (va_rf k2_12), some (.int v19), some (.int x4_12), some (.int x5_12), some (.int x6_14), none, none]) X dX2_ticksTo_86 rfl (Nat.le_of_ble_eq_true rfl) (by first | rfl | simp [stL, rm1, clr2, cat_rf, cat_i, cat_j, cat_f, cat_d]) ?_
          refine g_iinc (v := (x6_14 + (1 : Int32))) (L' := [some (va_rf (some this)), some (va_rf k1_12), some (va_rf k2_12), some (.int v19), some (.int x4_12), some (.int x5_12), some (.int (x6_14 + (1 : Int32))), none, none]) X dX2_ticksTo_87 (Nat.le_of_ble_eq_true rfl) rfl rfl (by first | rfl | simp [stL, rm1, clr2, cat_rf, cat_i, cat_j, cat_f, cat_d]) ?_
          refine g_goto X 67 dX2_ticksTo_90 (by decide) ?_
          cases hF
          exact hgo _ rfl
      show G p l e R s m args below meth c (RQ D dA h0 (.inr (some (va_rf rE)), hE) below s) D dA h0 9 h21 93 [some (va_rf (some this)), some (va_rf k1_12), some (va_rf k2_12), some (.int v20), some (.int x4_12), some (.int x5_12), none, none, none] []
      refine g_iload_n X dX2_ticksTo_93 rfl rfl ?_
      refine g_istore (L' := [some (va_rf (some this)), some (va_rf k1_12), some (va_rf k2_12), some (.int v20), some (.int x4_12), some (.int x5_12), some (.int v20), none, none]) X dX2_ticksTo_94 (Nat.le_of_ble_eq_true rfl) (by first | rfl | simp [stL, rm1, clr2, cat_rf, cat_i, cat_j, cat_f, cat_d]) ?_
      refine g_iload X dX2_ticksTo_96 rfl ?_
      refine g_istore (L' := [some (va_rf (some this)), some (va_rf k1_12), some (va_rf k2_12), some (.int v20), some (.int x4_12), some (.int x5_12), some (.int v20), some (.int x4_12), none]) X dX2_ticksTo_98 (Nat.le_of_ble_eq_true rfl) (by first | rfl | simp [stL, rm1, clr2, cat_rf, cat_i, cat_j, cat_f, cat_d]) ?_
      refine G.drop [true, true, true, true, false, true, true, true, false] rfl ?_
      obtain ⟨⟨v32, h33⟩, e34, hF⟩ := bnd hF
      dsimp only at hF
      refine lp_ind (Gs := (fun z => G p l e R s m args below meth c (RQ D dA h0 (.inr (some (va_rf rE)), hE) below s) D dA h0 9 z.2.2 100 [some (va_rf (some this)), some (va_rf k1_12), some (va_rf k2_12), some (.int z.1), none, some (.int x5_12), some (.int v20), some (.int z.2.1), none] [])) (Ge := (fun z => G p l e R s m args below meth c (RQ D dA h0 (.inr (some (va_rf rE)), hE) below s) D dA h0 9 z.2 153 [some (va_rf (some this)), some (va_rf k1_12), some (va_rf k2_12), some (.int z.1), none, some (.int x5_12), some (.int v20), none, none] [])) ?_ _ _ _ e34 ?_
      · rintro ⟨x3_22, x7_22, h_22⟩ o hF hgo hr
        change F_X2_ticksTo_B100 this k1_12 k2_12 x3_12 x4_12 x5_12 v20 x3_22 x7_22 h_22 = some o at hF
        generalize v20 = k6_22 at hF hgo hr ⊢
        unfold F_X2_ticksTo_B100 at hF
        show G p l e R s m args below meth c (RQ D dA h0 (.inr (some (va_rf rE)), hE) below s) D dA h0 9 h_22 100 [some (va_rf (some this)), some (va_rf k1_12), some (va_rf k2_12), some (.int x3_22), none, some (.int x5_12), some (.int k6_22), some (.int x7_22), none] []
        refine g_iload X dX2_ticksTo_100 rfl ?_
        refine g_iload X dX2_ticksTo_102 rfl ?_
        refine g_icmp_ge X 153 dX2_ticksTo_104 (by decide) (fun c23 => ?_) (fun c23 => ?_)
        · have hF := (if_pos c23).symm.trans hF
          refine G.drop [true, true, true, true, false, true, true, false, false] rfl ?_
          cases hF
          exact hr _ rfl
        · have hF := (if_neg c23).symm.trans hF
          refine g_aload_n X dX2_ticksTo_107 rfl rfl ?_
          refine g_aload_n X dX2_ticksTo_108 rfl rfl ?_
          refine g_iload X dX2_ticksTo_109 rfl ?_
          obtain ⟨v24, ev24, hF⟩ := bnd hF
          refine g_iald X ev24 dX2_ticksTo_111 ?_
          obtain ⟨ob25, eob25, hF⟩ := bnd hF
          obtain ⟨v26, ev26, hF⟩ := bnd hF
          refine g_callV X eob25 rfl rfl (w_X2_ticked l hl D dA h_22 ob25 v24 v26 ev26) q854 q856 qs15 q93 q857 okn_X2_ticked ⟨by rw [hRf]; exact Nat.le_of_ble_eq_true rfl, by rw [hRl]; exact Nat.le_of_ble_eq_true rfl⟩ (As := [.int v24]) (rest := []) rfl (by first | exact Nat.le_of_ble_eq_true rfl | simp [cat_rf, cat_i, cat_j, cat_f, cat_d]) dX2_ticksTo_112 (ac_v ?_)
          refine g_istore (L' := [some (va_rf (some this)), some (va_rf k1_12), some (va_rf k2_12), some (.int x3_22), none, some (.int x5_12), some (.int k6_22), some (.int x7_22), some (.int v26)]) X dX2_ticksTo_115 (Nat.le_of_ble_eq_true rfl) (by first | rfl | simp [stL, rm1, clr2, cat_rf, cat_i, cat_j, cat_f, cat_d]) ?_
          refine g_iload X dX2_ticksTo_117 rfl ?_
          refine g_iconst (v := (-1 : Int32)) X dX2_ticksTo_119 (by decide) ?_
          refine g_icmp_eq X 147 dX2_ticksTo_120 (by decide) (fun c27 => ?_) (fun c27 => ?_)
          · have hF := (if_pos c27).symm.trans hF
            refine g_iinc (v := (x7_22 + (1 : Int32))) (L' := [some (va_rf (some this)), some (va_rf k1_12), some (va_rf k2_12), some (.int x3_22), none, some (.int x5_12), some (.int k6_22), some (.int (x7_22 + (1 : Int32))), some (.int v26)]) X dX2_ticksTo_147 (Nat.le_of_ble_eq_true rfl) rfl rfl (by first | rfl | simp [stL, rm1, clr2, cat_rf, cat_i, cat_j, cat_f, cat_d]) ?_
            refine g_goto X 100 dX2_ticksTo_150 (by decide) ?_
            refine G.drop [true, true, true, true, false, true, true, true, false] rfl ?_
            cases hF
            exact hgo _ rfl
          · have hF := (if_neg c27).symm.trans hF
            refine g_aload_n X dX2_ticksTo_123 rfl rfl ?_
            refine g_iload X dX2_ticksTo_124 rfl ?_
            obtain ⟨v28, ev28, hF⟩ := bnd hF
            refine g_iald X ev28 dX2_ticksTo_126 ?_
            refine g_iconst (v := (-1 : Int32)) X dX2_ticksTo_127 (by decide) ?_
            refine g_icmp_ne X 147 dX2_ticksTo_128 (by decide) (fun c29 => ?_) (fun c29 => ?_)
            · have hF := (if_neg c29).symm.trans hF
              refine g_iinc (v := (x7_22 + (1 : Int32))) (L' := [some (va_rf (some this)), some (va_rf k1_12), some (va_rf k2_12), some (.int x3_22), none, some (.int x5_12), some (.int k6_22), some (.int (x7_22 + (1 : Int32))), some (.int v26)]) X dX2_ticksTo_147 (Nat.le_of_ble_eq_true rfl) rfl rfl (by first | rfl | simp [stL, rm1, clr2, cat_rf, cat_i, cat_j, cat_f, cat_d]) ?_
              refine g_goto X 100 dX2_ticksTo_150 (by decide) ?_
              refine G.drop [true, true, true, true, false, true, true, true, false] rfl ?_
              cases hF
              exact hgo _ rfl
            · have hF := (if_pos c29).symm.trans hF
              refine g_aload_n X dX2_ticksTo_131 rfl rfl ?_
              refine g_iload X dX2_ticksTo_132 rfl ?_
              refine g_iload X dX2_ticksTo_134 rfl ?_
              refine g_iconst (v := (1 : Int32)) X dX2_ticksTo_136 (by decide) ?_
              refine g_iadd X dX2_ticksTo_137 ?_
              obtain ⟨h30, eh30, hF⟩ := bnd hF
              refine g_iast X eh30 dX2_ticksTo_138 ?_
              refine g_aload_n X dX2_ticksTo_139 rfl rfl ?_
              refine g_iload_n X dX2_ticksTo_140 rfl rfl ?_
              refine g_iload X dX2_ticksTo_141 rfl ?_
              obtain ⟨h31, eh31, hF⟩ := bnd hF
              refine g_iast X eh31 dX2_ticksTo_143 ?_
              refine g_iinc (v := (x3_22 + (1 : Int32))) (L' := [some (va_rf (some this)), some (va_rf k1_12), some (va_rf k2_12), some (.int (x3_22 + (1 : Int32))), none, some (.int x5_12), some (.int k6_22), some (.int x7_22), some (.int v26)]) X dX2_ticksTo_144 (Nat.le_of_ble_eq_true rfl) rfl rfl (by first | rfl | simp [stL, rm1, clr2, cat_rf, cat_i, cat_j, cat_f, cat_d]) ?_
              refine g_iinc (v := (x7_22 + (1 : Int32))) (L' := [some (va_rf (some this)), some (va_rf k1_12), some (va_rf k2_12), some (.int (x3_22 + (1 : Int32))), none, some (.int x5_12), some (.int k6_22), some (.int (x7_22 + (1 : Int32))), some (.int v26)]) X dX2_ticksTo_147 (Nat.le_of_ble_eq_true rfl) rfl rfl (by first | rfl | simp [stL, rm1, clr2, cat_rf, cat_i, cat_j, cat_f, cat_d]) ?_
              refine g_goto X 100 dX2_ticksTo_150 (by decide) ?_
              refine G.drop [true, true, true, true, false, true, true, true, false] rfl ?_
              cases hF
              exact hgo _ rfl
      show G p l e R s m args below meth c (RQ D dA h0 (.inr (some (va_rf rE)), hE) below s) D dA h0 9 h33 153 [some (va_rf (some this)), some (va_rf k1_12), some (va_rf k2_12), some (.int v32), none, some (.int x5_12), some (.int v20), none, none] []
      refine g_iload X dX2_ticksTo_153 rfl ?_
      refine g_istore (L' := [some (va_rf (some this)), some (va_rf k1_12), some (va_rf k2_12), some (.int v32), some (.int v20), some (.int x5_12), some (.int v20), none, none]) X dX2_ticksTo_155 (Nat.le_of_ble_eq_true rfl) (by first | rfl | simp [stL, rm1, clr2, cat_rf, cat_i, cat_j, cat_f, cat_d]) ?_
      refine g_iinc (v := (x5_12 + (1 : Int32))) (L' := [some (va_rf (some this)), some (va_rf k1_12), some (va_rf k2_12), some (.int v32), some (.int v20), some (.int (x5_12 + (1 : Int32))), some (.int v20), none, none]) X dX2_ticksTo_157 (Nat.le_of_ble_eq_true rfl) rfl rfl (by first | rfl | simp [stL, rm1, clr2, cat_rf, cat_i, cat_j, cat_f, cat_d]) ?_
      refine g_goto X 57 dX2_ticksTo_160 (by decide) ?_
      refine G.drop [true, true, true, true, true, true, false, false, false] rfl ?_
      cases hF
      exact hgo _ rfl
  show G p l e R s m args below meth c (RQ D dA h0 (.inr (some (va_rf rE)), hE) below s) D dA h0 9 h38 163 [none, some (va_rf (some (hSz h0))), none, none, none, none, none, none, none] []
  refine g_aload_n X dX2_ticksTo_163 rfl rfl ?_
  cases hF
  exact g_aret X hr (Or.inr ⟨_, rfl⟩) dX2_ticksTo_164
def F_X2_harboursByMoments_B9 (this : Nat) (k1_4 : Option Nat) (x2_4 : Int32) (x3_4 : Int32) (h2 : HH) : Option ((Int32 × Int32) ⊕ Int32) :=
  Option.bind (alen h2 k1_4) fun v5 =>
  if v5 ≤ x3_4 then (
    some (.inr x2_4)
  ) else (
    Option.bind (aldI h2 0 k1_4 x3_4) fun v7 =>
    some (.inl ((x2_4 ||| (if v7 = (-1 : Int32) then (0 : Int32) else ((1 : Int32) <<< ((x3_4 / (1331 : Int32)) &&& 31)))), (x3_4 + (1 : Int32))))
  )
def F_X2_harboursByMoments (this : Nat) (h0 : HH) : Option (Int32 × HH) :=
  Option.bind (isO h0 2 (some this)) fun ob1 =>
  b2 (F_X2_ticksTo ob1 h0) fun v3 h2 =>
  Option.bind (lp (fun z => F_X2_harboursByMoments_B9 this v3 z.1 z.2 h2) 100000 ((0 : Int32), (0 : Int32))) fun v9 =>
  some (v9, h2)
set_option maxHeartbeats 4000000 in
theorem w_X2_harboursByMoments (l : Launch) (hl : l.stackTraces = false) (D : va_G) (dA : Nat → ClassId) (h0 : HH) (this : Nat) (rE : Int32) (hE : HH) (hF : F_X2_harboursByMoments this h0 = some (rE, hE)) : MC D dA l yX2_harboursByMoments cX2_harboursByMoments 4 (Option.some Jvm.ClassFile.FieldType.int) [] 5 127 [va_rf (some this)] h0 (.inr (some (.int rE)), hE) := by
  refine mc_of hl (plainFor_of_name pn_X2) (by simp [lg_sl, cat_rf, cat_i, cat_j, cat_f, cat_d]) ?_
  intro p e s m args below meth c R hRf hRl X hr hnm
  unfold F_X2_harboursByMoments at hF
  rw [show argL [va_rf (some this)] = [some (va_rf (some this))] from by simp [argL, cat_rf, cat_i, cat_j, cat_f, cat_d]]
  refine G.pad 3 (L' := [some (va_rf (some this)), none, none, none]) rfl ?_
  refine g_aload_n X dX2_harboursByMoments_0 rfl rfl ?_
  obtain ⟨ob1, eob1, hF⟩ := bnd hF
  obtain ⟨v3, h2, eh2, hF⟩ := b2_some hF
  refine g_callV X eob1 rfl rfl (w_X2_ticksTo l hl D dA h0 ob1  v3 h2 eh2) q827 q828 q829 q93 q830 okn_X2_ticksTo ⟨by rw [hRf]; exact Nat.le_of_ble_eq_true rfl, by rw [hRl]; exact Nat.le_of_ble_eq_true rfl⟩ (As := []) (rest := []) rfl (by first | exact Nat.le_of_ble_eq_true rfl | simp [cat_rf, cat_i, cat_j, cat_f, cat_d]) dX2_harboursByMoments_1 (ac_v ?_)
  refine g_astore_n (L' := [some (va_rf (some this)), some (va_rf v3), none, none]) X dX2_harboursByMoments_4 rfl (Nat.le_of_ble_eq_true rfl) (by first | rfl | simp [stL, rm1, clr2, cat_rf, cat_i, cat_j, cat_f, cat_d]) ?_
  refine g_iconst (v := (0 : Int32)) X dX2_harboursByMoments_5 (by decide) ?_
  refine g_istore_n (L' := [some (va_rf (some this)), some (va_rf v3), some (.int (0 : Int32)), none]) X dX2_harboursByMoments_6 rfl (Nat.le_of_ble_eq_true rfl) (by first | rfl | simp [stL, rm1, clr2, cat_rf, cat_i, cat_j, cat_f, cat_d]) ?_
  refine g_iconst (v := (0 : Int32)) X dX2_harboursByMoments_7 (by decide) ?_
  refine g_istore_n (L' := [some (va_rf (some this)), some (va_rf v3), some (.int (0 : Int32)), some (.int (0 : Int32))]) X dX2_harboursByMoments_8 rfl (Nat.le_of_ble_eq_true rfl) (by first | rfl | simp [stL, rm1, clr2, cat_rf, cat_i, cat_j, cat_f, cat_d]) ?_
  refine G.drop [false, true, true, true] rfl ?_
  obtain ⟨v9, e10, hF⟩ := bnd hF
  refine lp_ind (Gs := (fun z => G p l e R s m args below meth c (RQ D dA h0 (.inr (some (.int rE)), hE) below s) D dA h0 4 h2 9 [none, some (va_rf v3), some (.int z.1), some (.int z.2)] [])) (Ge := (fun z => G p l e R s m args below meth c (RQ D dA h0 (.inr (some (.int rE)), hE) below s) D dA h0 4 h2 42 [none, none, some (.int z), none] [])) ?_ _ _ _ e10 ?_
  · rintro ⟨x2_4, x3_4⟩ o hF hgo hr
    change F_X2_harboursByMoments_B9 this v3 x2_4 x3_4 h2 = some o at hF
    generalize v3 = k1_4 at hF hgo hr ⊢
    unfold F_X2_harboursByMoments_B9 at hF
    show G p l e R s m args below meth c (RQ D dA h0 (.inr (some (.int rE)), hE) below s) D dA h0 4 h2 9 [none, some (va_rf k1_4), some (.int x2_4), some (.int x3_4)] []
    refine g_iload_n X dX2_harboursByMoments_9 rfl rfl ?_
    refine g_aload_n X dX2_harboursByMoments_10 rfl rfl ?_
    obtain ⟨v5, ev5, hF⟩ := bnd hF
    refine g_alen X ev5 dX2_harboursByMoments_11 ?_
    refine g_icmp_ge X 42 dX2_harboursByMoments_12 (by decide) (fun c6 => ?_) (fun c6 => ?_)
    · have hF := (if_pos c6).symm.trans hF
      refine G.drop [false, false, true, false] rfl ?_
      cases hF
      exact hr _ rfl
    · have hF := (if_neg c6).symm.trans hF
      refine g_iload_n X dX2_harboursByMoments_15 rfl rfl ?_
      refine g_aload_n X dX2_harboursByMoments_16 rfl rfl ?_
      refine g_iload_n X dX2_harboursByMoments_17 rfl rfl ?_
      obtain ⟨v7, ev7, hF⟩ := bnd hF
      refine g_iald X ev7 dX2_harboursByMoments_18 ?_
      refine g_iconst (v := (-1 : Int32)) X dX2_harboursByMoments_19 (by decide) ?_
      suffices K : G p l e R s m args below meth c (RQ D dA h0 (.inr (some (.int rE)), hE) below s) D dA h0 4 h2 34 [none, some (va_rf k1_4), none, some (.int x3_4)] [.int (if v7 = (-1 : Int32) then (0 : Int32) else ((1 : Int32) <<< ((x3_4 / (1331 : Int32)) &&& 31))), .int x2_4] by
        refine g_icmp_ne X 27 dX2_harboursByMoments_20 (by decide) (fun c8 => ?_) (fun c8 => ?_)
        · (try simp only [if_neg c8] at K)
          refine g_iconst (v := (1 : Int32)) X dX2_harboursByMoments_27 (by decide) ?_
          refine g_iload_n X dX2_harboursByMoments_28 rfl rfl ?_
          refine g_sipush (v := (1331 : Int32)) X dX2_harboursByMoments_29 (by decide) ?_
          refine g_idiv X dX2_harboursByMoments_32 (by decide) ?_
          refine g_ishl X dX2_harboursByMoments_33 ?_
          refine G.drop [false, true, false, true] rfl ?_
          first | exact K | (simp only [if_neg c8]; exact K)
        · (try simp only [if_pos c8] at K)
          refine g_iconst (v := (0 : Int32)) X dX2_harboursByMoments_23 (by decide) ?_
          refine g_goto X 34 dX2_harboursByMoments_24 (by decide) ?_
          refine G.drop [false, true, false, true] rfl ?_
          first | exact K | (simp only [if_pos c8]; exact K)
      refine g_ior X dX2_harboursByMoments_34 ?_
      refine g_istore_n (L' := [none, some (va_rf k1_4), some (.int (x2_4 ||| (if v7 = (-1 : Int32) then (0 : Int32) else ((1 : Int32) <<< ((x3_4 / (1331 : Int32)) &&& 31))))), some (.int x3_4)]) X dX2_harboursByMoments_35 rfl (Nat.le_of_ble_eq_true rfl) (by first | rfl | simp [stL, rm1, clr2, cat_rf, cat_i, cat_j, cat_f, cat_d]) ?_
      refine g_iinc (v := (x3_4 + (1 : Int32))) (L' := [none, some (va_rf k1_4), some (.int (x2_4 ||| (if v7 = (-1 : Int32) then (0 : Int32) else ((1 : Int32) <<< ((x3_4 / (1331 : Int32)) &&& 31))))), some (.int (x3_4 + (1 : Int32)))]) X dX2_harboursByMoments_36 (Nat.le_of_ble_eq_true rfl) rfl rfl (by first | rfl | simp [stL, rm1, clr2, cat_rf, cat_i, cat_j, cat_f, cat_d]) ?_
      refine g_goto X 9 dX2_harboursByMoments_39 (by decide) ?_
      cases hF
      exact hgo _ rfl
  show G p l e R s m args below meth c (RQ D dA h0 (.inr (some (.int rE)), hE) below s) D dA h0 4 h2 42 [none, none, some (.int v9), none] []
  refine g_iload_n X dX2_harboursByMoments_42 rfl rfl ?_
  cases hF
  exact g_iret X hr dX2_harboursByMoments_43
def F_X2_takable_B4 (this : Nat) (a1 : Int32) (x2_1 : Int32) (x3_1 : Int32) (h0 : HH) : Option ((Int32 × Int32) ⊕ Int32) :=
  Option.bind (getR h0 2 1 (some this)) fun v2 =>
  Option.bind (isO h0 8 v2) fun ob3 =>
  Option.bind (F_J2_size ob3 h0) fun v4 =>
  if v4 ≤ x3_1 then (
    some (.inr x2_1)
  ) else (
    Option.bind (getR h0 2 1 (some this)) fun v6 =>
    Option.bind (isO h0 8 v6) fun ob7 =>
    Option.bind (F_J2_get ob7 x3_1 h0) fun v8 =>
    Option.bind (castO h0 4 v8) fun _ =>
    Option.bind (isO h0 2 (some this)) fun ob10 =>
    Option.bind (F_X2_moved ob10 a1 v8 h0) fun v11 =>
    some (.inl ((x2_1 ||| (if v11 = (-1 : Int32) then (0 : Int32) else ((1 : Int32) <<< (x3_1 &&& 31)))), (x3_1 + (1 : Int32))))
  )
def F_X2_takable (this : Nat) (a1 : Int32) (h0 : HH) : Option Int32 :=
  Option.bind (lp (fun z => F_X2_takable_B4 this a1 z.1 z.2 h0) 100000 ((0 : Int32), (0 : Int32))) fun v13 =>
  some v13
set_option maxHeartbeats 4000000 in
theorem w_X2_takable (l : Launch) (hl : l.stackTraces = false) (D : va_G) (dA : Nat → ClassId) (h0 : HH) (this : Nat) (a1 : Int32) (rE : Int32) (hF : F_X2_takable this a1 h0 = some rE) : MC D dA l yX2_takable cX2_takable 4 (Option.some Jvm.ClassFile.FieldType.int) [] 3 71 [va_rf (some this), .int a1] h0 (.inr (some (.int rE)), h0) := by
  refine mc_of hl (plainFor_of_name pn_X2) (by simp [lg_sl, cat_rf, cat_i, cat_j, cat_f, cat_d]) ?_
  intro p e s m args below meth c R hRf hRl X hr hnm
  unfold F_X2_takable at hF
  rw [show argL [va_rf (some this), .int a1] = [some (va_rf (some this)), some (.int a1)] from by simp [argL, cat_rf, cat_i, cat_j, cat_f, cat_d]]
  refine G.pad 2 (L' := [some (va_rf (some this)), some (.int a1), none, none]) rfl ?_
  refine g_iconst (v := (0 : Int32)) X dX2_takable_0 (by decide) ?_
  refine g_istore_n (L' := [some (va_rf (some this)), some (.int a1), some (.int (0 : Int32)), none]) X dX2_takable_1 rfl (Nat.le_of_ble_eq_true rfl) (by first | rfl | simp [stL, rm1, clr2, cat_rf, cat_i, cat_j, cat_f, cat_d]) ?_
  refine g_iconst (v := (0 : Int32)) X dX2_takable_2 (by decide) ?_
  refine g_istore_n (L' := [some (va_rf (some this)), some (.int a1), some (.int (0 : Int32)), some (.int (0 : Int32))]) X dX2_takable_3 rfl (Nat.le_of_ble_eq_true rfl) (by first | rfl | simp [stL, rm1, clr2, cat_rf, cat_i, cat_j, cat_f, cat_d]) ?_
  obtain ⟨v13, e14, hF⟩ := bnd hF
  refine lp_ind (Gs := (fun z => G p l e R s m args below meth c (RQ D dA h0 (.inr (some (.int rE)), h0) below s) D dA h0 4 h0 4 [some (va_rf (some this)), some (.int a1), some (.int z.1), some (.int z.2)] [])) (Ge := (fun z => G p l e R s m args below meth c (RQ D dA h0 (.inr (some (.int rE)), h0) below s) D dA h0 4 h0 51 [none, none, some (.int z), none] [])) ?_ _ _ _ e14 ?_
  · rintro ⟨x2_1, x3_1⟩ o hF hgo hr
    change F_X2_takable_B4 this a1 x2_1 x3_1 h0 = some o at hF
    unfold F_X2_takable_B4 at hF
    show G p l e R s m args below meth c (RQ D dA h0 (.inr (some (.int rE)), h0) below s) D dA h0 4 h0 4 [some (va_rf (some this)), some (.int a1), some (.int x2_1), some (.int x3_1)] []
    refine g_iload_n X dX2_takable_4 rfl rfl ?_
    refine g_aload_n X dX2_takable_5 rfl rfl ?_
    obtain ⟨v2, ev2, hF⟩ := bnd hF
    refine g_get (k := 1) X in_X2 rfl (by decide) q184 (Or.inl rfl) (getR_V ev2) dX2_takable_6 ?_
    obtain ⟨ob3, eob3, hF⟩ := bnd hF
    obtain ⟨v4, ev4, hF⟩ := bnd hF
    refine g_callV X eob3 rfl rfl (w_J2_size l hl D dA h0 ob3  v4 ev4) q288 q289 q290 q96 q291 okn_J2_size ⟨by rw [hRf]; exact Nat.le_of_ble_eq_true rfl, by rw [hRl]; exact Nat.le_of_ble_eq_true rfl⟩ (As := []) (rest := [.int x3_1]) rfl (by first | exact Nat.le_of_ble_eq_true rfl | simp [cat_rf, cat_i, cat_j, cat_f, cat_d]) dX2_takable_9 (ac_v ?_)
    refine g_icmp_ge X 51 dX2_takable_12 (by decide) (fun c5 => ?_) (fun c5 => ?_)
    · have hF := (if_pos c5).symm.trans hF
      refine G.drop [false, false, true, false] rfl ?_
      cases hF
      exact hr _ rfl
    · have hF := (if_neg c5).symm.trans hF
      refine g_iload_n X dX2_takable_15 rfl rfl ?_
      refine g_aload_n X dX2_takable_16 rfl rfl ?_
      refine g_iload_n X dX2_takable_17 rfl rfl ?_
      refine g_aload_n X dX2_takable_18 rfl rfl ?_
      obtain ⟨v6, ev6, hF⟩ := bnd hF
      refine g_get (k := 1) X in_X2 rfl (by decide) q184 (Or.inl rfl) (getR_V ev6) dX2_takable_19 ?_
      refine g_iload_n X dX2_takable_22 rfl rfl ?_
      obtain ⟨ob7, eob7, hF⟩ := bnd hF
      obtain ⟨v8, ev8, hF⟩ := bnd hF
      refine g_callV X eob7 rfl rfl (w_J2_get l hl D dA h0 ob7 x3_1 v8 ev8) q294 q295 q296 q96 q297 okn_J2_get ⟨by rw [hRf]; exact Nat.le_of_ble_eq_true rfl, by rw [hRl]; exact Nat.le_of_ble_eq_true rfl⟩ (As := [.int x3_1]) (rest := [.int a1, va_rf (some this), .int x2_1]) rfl (by first | exact Nat.le_of_ble_eq_true rfl | simp [cat_rf, cat_i, cat_j, cat_f, cat_d]) dX2_takable_23 (ac_v ?_)
      obtain ⟨_, z9, hF⟩ := bnd hF
      refine g_castO X q292 rfl z9 dX2_takable_26 ?_
      obtain ⟨ob10, eob10, hF⟩ := bnd hF
      obtain ⟨v11, ev11, hF⟩ := bnd hF
      refine g_callV X eob10 rfl rfl (w_X2_moved l hl D dA h0 ob10 a1 v8 v11 ev11) q842 q844 qs14 q93 q845 okn_X2_moved ⟨by rw [hRf]; exact Nat.le_of_ble_eq_true rfl, by rw [hRl]; exact Nat.le_of_ble_eq_true rfl⟩ (As := [.int a1, va_rf v8]) (rest := [.int x2_1]) rfl (by first | exact Nat.le_of_ble_eq_true rfl | simp [cat_rf, cat_i, cat_j, cat_f, cat_d]) dX2_takable_29 (ac_v ?_)
      refine g_iconst (v := (-1 : Int32)) X dX2_takable_32 (by decide) ?_
      suffices K : G p l e R s m args below meth c (RQ D dA h0 (.inr (some (.int rE)), h0) below s) D dA h0 4 h0 43 [some (va_rf (some this)), some (.int a1), none, some (.int x3_1)] [.int (if v11 = (-1 : Int32) then (0 : Int32) else ((1 : Int32) <<< (x3_1 &&& 31))), .int x2_1] by
        refine g_icmp_ne X 40 dX2_takable_33 (by decide) (fun c12 => ?_) (fun c12 => ?_)
        · (try simp only [if_neg c12] at K)
          refine g_iconst (v := (1 : Int32)) X dX2_takable_40 (by decide) ?_
          refine g_iload_n X dX2_takable_41 rfl rfl ?_
          refine g_ishl X dX2_takable_42 ?_
          refine G.drop [true, true, false, true] rfl ?_
          first | exact K | (simp only [if_neg c12]; exact K)
        · (try simp only [if_pos c12] at K)
          refine g_iconst (v := (0 : Int32)) X dX2_takable_36 (by decide) ?_
          refine g_goto X 43 dX2_takable_37 (by decide) ?_
          refine G.drop [true, true, false, true] rfl ?_
          first | exact K | (simp only [if_pos c12]; exact K)
      refine g_ior X dX2_takable_43 ?_
      refine g_istore_n (L' := [some (va_rf (some this)), some (.int a1), some (.int (x2_1 ||| (if v11 = (-1 : Int32) then (0 : Int32) else ((1 : Int32) <<< (x3_1 &&& 31))))), some (.int x3_1)]) X dX2_takable_44 rfl (Nat.le_of_ble_eq_true rfl) (by first | rfl | simp [stL, rm1, clr2, cat_rf, cat_i, cat_j, cat_f, cat_d]) ?_
      refine g_iinc (v := (x3_1 + (1 : Int32))) (L' := [some (va_rf (some this)), some (.int a1), some (.int (x2_1 ||| (if v11 = (-1 : Int32) then (0 : Int32) else ((1 : Int32) <<< (x3_1 &&& 31))))), some (.int (x3_1 + (1 : Int32)))]) X dX2_takable_45 (Nat.le_of_ble_eq_true rfl) rfl rfl (by first | rfl | simp [stL, rm1, clr2, cat_rf, cat_i, cat_j, cat_f, cat_d]) ?_
      refine g_goto X 4 dX2_takable_48 (by decide) ?_
      cases hF
      exact hgo _ rfl
  show G p l e R s m args below meth c (RQ D dA h0 (.inr (some (.int rE)), h0) below s) D dA h0 4 h0 51 [none, none, some (.int v13), none] []
  refine g_iload_n X dX2_takable_51 rfl rfl ?_
  cases hF
  exact g_iret X hr dX2_takable_52
def F_X2_stuck_T44 (this : Nat) (k1_4 : Option Nat) (x2_4 : Int32) (x3_4 : Int32) (y0_44 : Int32) (h2 : HH) : Option ((Int32 × Int32) ⊕ Int32) :=
  some (.inl ((x2_4 ||| (if y0_44 = 0 then (0 : Int32) else ((1 : Int32) <<< ((x3_4 / (1331 : Int32)) &&& 31)))), (x3_4 + (1 : Int32))))
def F_X2_stuck_B9 (this : Nat) (k1_4 : Option Nat) (x2_4 : Int32) (x3_4 : Int32) (h2 : HH) : Option ((Int32 × Int32) ⊕ Int32) :=
  Option.bind (alen h2 k1_4) fun v5 =>
  if v5 ≤ x3_4 then (
    some (.inr x2_4)
  ) else (
    Option.bind (aldI h2 0 k1_4 x3_4) fun v7 =>
    if v7 = (-1 : Int32) then (
      F_X2_stuck_T44 this k1_4 x2_4 x3_4 (0 : Int32) h2
    ) else (
      Option.bind (isO h2 2 (some this)) fun ob10 =>
      Option.bind (F_X2_ticked ob10 x3_4 h2) fun v11 =>
      if v11 = (-1 : Int32) then (
        Option.bind (isO h2 2 (some this)) fun ob13 =>
        Option.bind (F_X2_takable ob13 x3_4 h2) fun v14 =>
        if v14 = 0 then (
          F_X2_stuck_T44 this k1_4 x2_4 x3_4 (1 : Int32) h2
        ) else (
          F_X2_stuck_T44 this k1_4 x2_4 x3_4 (0 : Int32) h2
        )
      ) else (
        F_X2_stuck_T44 this k1_4 x2_4 x3_4 (0 : Int32) h2
      )
    )
  )
def F_X2_stuck (this : Nat) (h0 : HH) : Option (Int32 × HH) :=
  Option.bind (isO h0 2 (some this)) fun ob1 =>
  b2 (F_X2_ticksTo ob1 h0) fun v3 h2 =>
  Option.bind (lp (fun z => F_X2_stuck_B9 this v3 z.1 z.2 h2) 100000 ((0 : Int32), (0 : Int32))) fun v16 =>
  some (v16, h2)
set_option maxHeartbeats 4000000 in
theorem w_X2_stuck (l : Launch) (hl : l.stackTraces = false) (D : va_G) (dA : Nat → ClassId) (h0 : HH) (this : Nat) (rE : Int32) (hE : HH) (hF : F_X2_stuck this h0 = some (rE, hE)) : MC D dA l yX2_stuck cX2_stuck 5 (Option.some Jvm.ClassFile.FieldType.int) [] 5 127 [va_rf (some this)] h0 (.inr (some (.int rE)), hE) := by
  refine mc_of hl (plainFor_of_name pn_X2) (by simp [lg_sl, cat_rf, cat_i, cat_j, cat_f, cat_d]) ?_
  intro p e s m args below meth c R hRf hRl X hr hnm
  unfold F_X2_stuck at hF
  rw [show argL [va_rf (some this)] = [some (va_rf (some this))] from by simp [argL, cat_rf, cat_i, cat_j, cat_f, cat_d]]
  refine G.pad 4 (L' := [some (va_rf (some this)), none, none, none, none]) rfl ?_
  refine g_aload_n X dX2_stuck_0 rfl rfl ?_
  obtain ⟨ob1, eob1, hF⟩ := bnd hF
  obtain ⟨v3, h2, eh2, hF⟩ := b2_some hF
  refine g_callV X eob1 rfl rfl (w_X2_ticksTo l hl D dA h0 ob1  v3 h2 eh2) q827 q828 q829 q93 q830 okn_X2_ticksTo ⟨by rw [hRf]; exact Nat.le_of_ble_eq_true rfl, by rw [hRl]; exact Nat.le_of_ble_eq_true rfl⟩ (As := []) (rest := []) rfl (by first | exact Nat.le_of_ble_eq_true rfl | simp [cat_rf, cat_i, cat_j, cat_f, cat_d]) dX2_stuck_1 (ac_v ?_)
  refine g_astore_n (L' := [some (va_rf (some this)), some (va_rf v3), none, none, none]) X dX2_stuck_4 rfl (Nat.le_of_ble_eq_true rfl) (by first | rfl | simp [stL, rm1, clr2, cat_rf, cat_i, cat_j, cat_f, cat_d]) ?_
  refine g_iconst (v := (0 : Int32)) X dX2_stuck_5 (by decide) ?_
  refine g_istore_n (L' := [some (va_rf (some this)), some (va_rf v3), some (.int (0 : Int32)), none, none]) X dX2_stuck_6 rfl (Nat.le_of_ble_eq_true rfl) (by first | rfl | simp [stL, rm1, clr2, cat_rf, cat_i, cat_j, cat_f, cat_d]) ?_
  refine g_iconst (v := (0 : Int32)) X dX2_stuck_7 (by decide) ?_
  refine g_istore_n (L' := [some (va_rf (some this)), some (va_rf v3), some (.int (0 : Int32)), some (.int (0 : Int32)), none]) X dX2_stuck_8 rfl (Nat.le_of_ble_eq_true rfl) (by first | rfl | simp [stL, rm1, clr2, cat_rf, cat_i, cat_j, cat_f, cat_d]) ?_
  obtain ⟨v16, e17, hF⟩ := bnd hF
  refine lp_ind (Gs := (fun z => G p l e R s m args below meth c (RQ D dA h0 (.inr (some (.int rE)), hE) below s) D dA h0 5 h2 9 [some (va_rf (some this)), some (va_rf v3), some (.int z.1), some (.int z.2), none] [])) (Ge := (fun z => G p l e R s m args below meth c (RQ D dA h0 (.inr (some (.int rE)), hE) below s) D dA h0 5 h2 71 [none, none, some (.int z), none, none] [])) ?_ _ _ _ e17 ?_
  · rintro ⟨x2_4, x3_4⟩ o hF hgo hr
    change F_X2_stuck_B9 this v3 x2_4 x3_4 h2 = some o at hF
    generalize v3 = k1_4 at hF hgo hr ⊢
    unfold F_X2_stuck_B9 at hF
    show G p l e R s m args below meth c (RQ D dA h0 (.inr (some (.int rE)), hE) below s) D dA h0 5 h2 9 [some (va_rf (some this)), some (va_rf k1_4), some (.int x2_4), some (.int x3_4), none] []
    refine g_iload_n X dX2_stuck_9 rfl rfl ?_
    refine g_aload_n X dX2_stuck_10 rfl rfl ?_
    obtain ⟨v5, ev5, hF⟩ := bnd hF
    refine g_alen X ev5 dX2_stuck_11 ?_
    refine g_icmp_ge X 71 dX2_stuck_12 (by decide) (fun c6 => ?_) (fun c6 => ?_)
    · have hF := (if_pos c6).symm.trans hF
      refine G.drop [false, false, true, false, false] rfl ?_
      cases hF
      exact hr _ rfl
    · have hF := (if_neg c6).symm.trans hF
      refine g_aload_n X dX2_stuck_15 rfl rfl ?_
      refine g_iload_n X dX2_stuck_16 rfl rfl ?_
      obtain ⟨v7, ev7, hF⟩ := bnd hF
      refine g_iald X ev7 dX2_stuck_17 ?_
      refine g_iconst (v := (-1 : Int32)) X dX2_stuck_18 (by decide) ?_
      have T44 : ∀ (y0_44 : Int32) (o : (Int32 × Int32) ⊕ Int32), F_X2_stuck_T44 this k1_4 x2_4 x3_4 y0_44 h2 = some o → (∀ y, o = .inl y → (fun z => G p l e R s m args below meth c (RQ D dA h0 (.inr (some (.int rE)), hE) below s) D dA h0 5 h2 9 [some (va_rf (some this)), some (va_rf k1_4), some (.int z.1), some (.int z.2), none] []) y) → (∀ r, o = .inr r → (fun z => G p l e R s m args below meth c (RQ D dA h0 (.inr (some (.int rE)), hE) below s) D dA h0 5 h2 71 [none, none, some (.int z), none, none] []) r) → G p l e R s m args below meth c (RQ D dA h0 (.inr (some (.int rE)), hE) below s) D dA h0 5 h2 44 [some (va_rf (some this)), some (va_rf k1_4), some (.int x2_4), some (.int x3_4), none] [.int y0_44] := by
        intro y0_44 o hF hgo hr
        unfold F_X2_stuck_T44 at hF
        refine g_istore (L' := [some (va_rf (some this)), some (va_rf k1_4), some (.int x2_4), some (.int x3_4), some (.int y0_44)]) X dX2_stuck_44 (Nat.le_of_ble_eq_true rfl) (by first | rfl | simp [stL, rm1, clr2, cat_rf, cat_i, cat_j, cat_f, cat_d]) ?_
        refine g_iload_n X dX2_stuck_46 rfl rfl ?_
        refine g_iload X dX2_stuck_47 rfl ?_
        suffices K : G p l e R s m args below meth c (RQ D dA h0 (.inr (some (.int rE)), hE) below s) D dA h0 5 h2 63 [some (va_rf (some this)), some (va_rf k1_4), none, some (.int x3_4), none] [.int (if y0_44 = 0 then (0 : Int32) else ((1 : Int32) <<< ((x3_4 / (1331 : Int32)) &&& 31))), .int x2_4] by
          refine g_if_eq X 62 dX2_stuck_49 (by decide) (fun c8 => ?_) (fun c8 => ?_)
          · (try simp only [if_pos c8] at K)
            refine g_iconst (v := (0 : Int32)) X dX2_stuck_62 (by decide) ?_
            refine G.drop [true, true, false, true, false] rfl ?_
            first | exact K | (simp only [if_pos c8]; exact K)
          · (try simp only [if_neg c8] at K)
            refine g_iconst (v := (1 : Int32)) X dX2_stuck_52 (by decide) ?_
            refine g_iload_n X dX2_stuck_53 rfl rfl ?_
            refine g_sipush (v := (1331 : Int32)) X dX2_stuck_54 (by decide) ?_
            refine g_idiv X dX2_stuck_57 (by decide) ?_
            refine g_ishl X dX2_stuck_58 ?_
            refine g_goto X 63 dX2_stuck_59 (by decide) ?_
            refine G.drop [true, true, false, true, false] rfl ?_
            first | exact K | (simp only [if_neg c8]; exact K)
        refine g_ior X dX2_stuck_63 ?_
        refine g_istore_n (L' := [some (va_rf (some this)), some (va_rf k1_4), some (.int (x2_4 ||| (if y0_44 = 0 then (0 : Int32) else ((1 : Int32) <<< ((x3_4 / (1331 : Int32)) &&& 31))))), some (.int x3_4), none]) X dX2_stuck_64 rfl (Nat.le_of_ble_eq_true rfl) (by first | rfl | simp [stL, rm1, clr2, cat_rf, cat_i, cat_j, cat_f, cat_d]) ?_
        refine g_iinc (v := (x3_4 + (1 : Int32))) (L' := [some (va_rf (some this)), some (va_rf k1_4), some (.int (x2_4 ||| (if y0_44 = 0 then (0 : Int32) else ((1 : Int32) <<< ((x3_4 / (1331 : Int32)) &&& 31))))), some (.int (x3_4 + (1 : Int32))), none]) X dX2_stuck_65 (Nat.le_of_ble_eq_true rfl) rfl rfl (by first | rfl | simp [stL, rm1, clr2, cat_rf, cat_i, cat_j, cat_f, cat_d]) ?_
        refine g_goto X 9 dX2_stuck_68 (by decide) ?_
        cases hF
        exact hgo _ rfl
      refine g_icmp_eq X 43 dX2_stuck_19 (by decide) (fun c9 => ?_) (fun c9 => ?_)
      · have hF := (if_pos c9).symm.trans hF
        refine g_iconst (v := (0 : Int32)) X dX2_stuck_43 (by decide) ?_
        exact T44 _ _ hF hgo hr
      · have hF := (if_neg c9).symm.trans hF
        refine g_aload_n X dX2_stuck_22 rfl rfl ?_
        refine g_iload_n X dX2_stuck_23 rfl rfl ?_
        obtain ⟨ob10, eob10, hF⟩ := bnd hF
        obtain ⟨v11, ev11, hF⟩ := bnd hF
        refine g_callV X eob10 rfl rfl (w_X2_ticked l hl D dA h2 ob10 x3_4 v11 ev11) q854 q856 qs15 q93 q857 okn_X2_ticked ⟨by rw [hRf]; exact Nat.le_of_ble_eq_true rfl, by rw [hRl]; exact Nat.le_of_ble_eq_true rfl⟩ (As := [.int x3_4]) (rest := []) rfl (by first | exact Nat.le_of_ble_eq_true rfl | simp [cat_rf, cat_i, cat_j, cat_f, cat_d]) dX2_stuck_24 (ac_v ?_)
        refine g_iconst (v := (-1 : Int32)) X dX2_stuck_27 (by decide) ?_
        refine g_icmp_ne X 43 dX2_stuck_28 (by decide) (fun c12 => ?_) (fun c12 => ?_)
        · have hF := (if_neg c12).symm.trans hF
          refine g_iconst (v := (0 : Int32)) X dX2_stuck_43 (by decide) ?_
          exact T44 _ _ hF hgo hr
        · have hF := (if_pos c12).symm.trans hF
          refine g_aload_n X dX2_stuck_31 rfl rfl ?_
          refine g_iload_n X dX2_stuck_32 rfl rfl ?_
          obtain ⟨ob13, eob13, hF⟩ := bnd hF
          obtain ⟨v14, ev14, hF⟩ := bnd hF
          refine g_callV X eob13 rfl rfl (w_X2_takable l hl D dA h2 ob13 x3_4 v14 ev14) q866 q868 qs16 q93 q869 okn_X2_takable ⟨by rw [hRf]; exact Nat.le_of_ble_eq_true rfl, by rw [hRl]; exact Nat.le_of_ble_eq_true rfl⟩ (As := [.int x3_4]) (rest := []) rfl (by first | exact Nat.le_of_ble_eq_true rfl | simp [cat_rf, cat_i, cat_j, cat_f, cat_d]) dX2_stuck_33 (ac_v ?_)
          refine g_if_ne X 43 dX2_stuck_36 (by decide) (fun c15 => ?_) (fun c15 => ?_)
          · have hF := (if_neg c15).symm.trans hF
            refine g_iconst (v := (0 : Int32)) X dX2_stuck_43 (by decide) ?_
            exact T44 _ _ hF hgo hr
          · have hF := (if_pos c15).symm.trans hF
            refine g_iconst (v := (1 : Int32)) X dX2_stuck_39 (by decide) ?_
            refine g_goto X 44 dX2_stuck_40 (by decide) ?_
            exact T44 _ _ hF hgo hr
  show G p l e R s m args below meth c (RQ D dA h0 (.inr (some (.int rE)), hE) below s) D dA h0 5 h2 71 [none, none, some (.int v16), none, none] []
  refine g_iload_n X dX2_stuck_71 rfl rfl ?_
  cases hF
  exact g_iret X hr dX2_stuck_72
def F_X2_usable_B9 (this : Nat) (k1_4 : Option Nat) (x2_4 : Int32) (x3_4 : Int32) (h2 : HH) : Option ((Int32 × Int32) ⊕ Int32) :=
  Option.bind (alen h2 k1_4) fun v5 =>
  if v5 ≤ x3_4 then (
    some (.inr x2_4)
  ) else (
    Option.bind (aldI h2 0 k1_4 x3_4) fun v7 =>
    if v7 = (-1 : Int32) then (
      some (.inl ((x2_4 ||| (0 : Int32)), (x3_4 + (1 : Int32))))
    ) else (
      Option.bind (isO h2 2 (some this)) fun ob9 =>
      Option.bind (F_X2_takable ob9 x3_4 h2) fun v10 =>
      some (.inl ((x2_4 ||| v10), (x3_4 + (1 : Int32))))
    )
  )
def F_X2_usable (this : Nat) (h0 : HH) : Option (Int32 × HH) :=
  Option.bind (isO h0 2 (some this)) fun ob1 =>
  b2 (F_X2_ticksTo ob1 h0) fun v3 h2 =>
  Option.bind (lp (fun z => F_X2_usable_B9 this v3 z.1 z.2 h2) 100000 ((0 : Int32), (0 : Int32))) fun v11 =>
  some (v11, h2)
set_option maxHeartbeats 4000000 in
theorem w_X2_usable (l : Launch) (hl : l.stackTraces = false) (D : va_G) (dA : Nat → ClassId) (h0 : HH) (this : Nat) (rE : Int32) (hE : HH) (hF : F_X2_usable this h0 = some (rE, hE)) : MC D dA l yX2_usable cX2_usable 4 (Option.some Jvm.ClassFile.FieldType.int) [] 5 127 [va_rf (some this)] h0 (.inr (some (.int rE)), hE) := by
  refine mc_of hl (plainFor_of_name pn_X2) (by simp [lg_sl, cat_rf, cat_i, cat_j, cat_f, cat_d]) ?_
  intro p e s m args below meth c R hRf hRl X hr hnm
  unfold F_X2_usable at hF
  rw [show argL [va_rf (some this)] = [some (va_rf (some this))] from by simp [argL, cat_rf, cat_i, cat_j, cat_f, cat_d]]
  refine G.pad 3 (L' := [some (va_rf (some this)), none, none, none]) rfl ?_
  refine g_aload_n X dX2_usable_0 rfl rfl ?_
  obtain ⟨ob1, eob1, hF⟩ := bnd hF
  obtain ⟨v3, h2, eh2, hF⟩ := b2_some hF
  refine g_callV X eob1 rfl rfl (w_X2_ticksTo l hl D dA h0 ob1  v3 h2 eh2) q827 q828 q829 q93 q830 okn_X2_ticksTo ⟨by rw [hRf]; exact Nat.le_of_ble_eq_true rfl, by rw [hRl]; exact Nat.le_of_ble_eq_true rfl⟩ (As := []) (rest := []) rfl (by first | exact Nat.le_of_ble_eq_true rfl | simp [cat_rf, cat_i, cat_j, cat_f, cat_d]) dX2_usable_1 (ac_v ?_)
  refine g_astore_n (L' := [some (va_rf (some this)), some (va_rf v3), none, none]) X dX2_usable_4 rfl (Nat.le_of_ble_eq_true rfl) (by first | rfl | simp [stL, rm1, clr2, cat_rf, cat_i, cat_j, cat_f, cat_d]) ?_
  refine g_iconst (v := (0 : Int32)) X dX2_usable_5 (by decide) ?_
  refine g_istore_n (L' := [some (va_rf (some this)), some (va_rf v3), some (.int (0 : Int32)), none]) X dX2_usable_6 rfl (Nat.le_of_ble_eq_true rfl) (by first | rfl | simp [stL, rm1, clr2, cat_rf, cat_i, cat_j, cat_f, cat_d]) ?_
  refine g_iconst (v := (0 : Int32)) X dX2_usable_7 (by decide) ?_
  refine g_istore_n (L' := [some (va_rf (some this)), some (va_rf v3), some (.int (0 : Int32)), some (.int (0 : Int32))]) X dX2_usable_8 rfl (Nat.le_of_ble_eq_true rfl) (by first | rfl | simp [stL, rm1, clr2, cat_rf, cat_i, cat_j, cat_f, cat_d]) ?_
  obtain ⟨v11, e12, hF⟩ := bnd hF
  refine lp_ind (Gs := (fun z => G p l e R s m args below meth c (RQ D dA h0 (.inr (some (.int rE)), hE) below s) D dA h0 4 h2 9 [some (va_rf (some this)), some (va_rf v3), some (.int z.1), some (.int z.2)] [])) (Ge := (fun z => G p l e R s m args below meth c (RQ D dA h0 (.inr (some (.int rE)), hE) below s) D dA h0 4 h2 40 [none, none, some (.int z), none] [])) ?_ _ _ _ e12 ?_
  · rintro ⟨x2_4, x3_4⟩ o hF hgo hr
    change F_X2_usable_B9 this v3 x2_4 x3_4 h2 = some o at hF
    generalize v3 = k1_4 at hF hgo hr ⊢
    unfold F_X2_usable_B9 at hF
    show G p l e R s m args below meth c (RQ D dA h0 (.inr (some (.int rE)), hE) below s) D dA h0 4 h2 9 [some (va_rf (some this)), some (va_rf k1_4), some (.int x2_4), some (.int x3_4)] []
    refine g_iload_n X dX2_usable_9 rfl rfl ?_
    refine g_aload_n X dX2_usable_10 rfl rfl ?_
    obtain ⟨v5, ev5, hF⟩ := bnd hF
    refine g_alen X ev5 dX2_usable_11 ?_
    refine g_icmp_ge X 40 dX2_usable_12 (by decide) (fun c6 => ?_) (fun c6 => ?_)
    · have hF := (if_pos c6).symm.trans hF
      refine G.drop [false, false, true, false] rfl ?_
      cases hF
      exact hr _ rfl
    · have hF := (if_neg c6).symm.trans hF
      refine g_iload_n X dX2_usable_15 rfl rfl ?_
      refine g_aload_n X dX2_usable_16 rfl rfl ?_
      refine g_iload_n X dX2_usable_17 rfl rfl ?_
      obtain ⟨v7, ev7, hF⟩ := bnd hF
      refine g_iald X ev7 dX2_usable_18 ?_
      refine g_iconst (v := (-1 : Int32)) X dX2_usable_19 (by decide) ?_
      refine g_icmp_ne X 27 dX2_usable_20 (by decide) (fun c8 => ?_) (fun c8 => ?_)
      · have hF := (if_neg c8).symm.trans hF
        refine g_aload_n X dX2_usable_27 rfl rfl ?_
        refine g_iload_n X dX2_usable_28 rfl rfl ?_
        obtain ⟨ob9, eob9, hF⟩ := bnd hF
        obtain ⟨v10, ev10, hF⟩ := bnd hF
        refine g_callV X eob9 rfl rfl (w_X2_takable l hl D dA h2 ob9 x3_4 v10 ev10) q866 q868 qs16 q93 q869 okn_X2_takable ⟨by rw [hRf]; exact Nat.le_of_ble_eq_true rfl, by rw [hRl]; exact Nat.le_of_ble_eq_true rfl⟩ (As := [.int x3_4]) (rest := [.int x2_4]) rfl (by first | exact Nat.le_of_ble_eq_true rfl | simp [cat_rf, cat_i, cat_j, cat_f, cat_d]) dX2_usable_29 (ac_v ?_)
        refine g_ior X dX2_usable_32 ?_
        refine g_istore_n (L' := [some (va_rf (some this)), some (va_rf k1_4), some (.int (x2_4 ||| v10)), some (.int x3_4)]) X dX2_usable_33 rfl (Nat.le_of_ble_eq_true rfl) (by first | rfl | simp [stL, rm1, clr2, cat_rf, cat_i, cat_j, cat_f, cat_d]) ?_
        refine g_iinc (v := (x3_4 + (1 : Int32))) (L' := [some (va_rf (some this)), some (va_rf k1_4), some (.int (x2_4 ||| v10)), some (.int (x3_4 + (1 : Int32)))]) X dX2_usable_34 (Nat.le_of_ble_eq_true rfl) rfl rfl (by first | rfl | simp [stL, rm1, clr2, cat_rf, cat_i, cat_j, cat_f, cat_d]) ?_
        refine g_goto X 9 dX2_usable_37 (by decide) ?_
        cases hF
        exact hgo _ rfl
      · have hF := (if_pos c8).symm.trans hF
        refine g_iconst (v := (0 : Int32)) X dX2_usable_23 (by decide) ?_
        refine g_goto X 32 dX2_usable_24 (by decide) ?_
        refine g_ior X dX2_usable_32 ?_
        refine g_istore_n (L' := [some (va_rf (some this)), some (va_rf k1_4), some (.int (x2_4 ||| (0 : Int32))), some (.int x3_4)]) X dX2_usable_33 rfl (Nat.le_of_ble_eq_true rfl) (by first | rfl | simp [stL, rm1, clr2, cat_rf, cat_i, cat_j, cat_f, cat_d]) ?_
        refine g_iinc (v := (x3_4 + (1 : Int32))) (L' := [some (va_rf (some this)), some (va_rf k1_4), some (.int (x2_4 ||| (0 : Int32))), some (.int (x3_4 + (1 : Int32)))]) X dX2_usable_34 (Nat.le_of_ble_eq_true rfl) rfl rfl (by first | rfl | simp [stL, rm1, clr2, cat_rf, cat_i, cat_j, cat_f, cat_d]) ?_
        refine g_goto X 9 dX2_usable_37 (by decide) ?_
        cases hF
        exact hgo _ rfl
  show G p l e R s m args below meth c (RQ D dA h0 (.inr (some (.int rE)), hE) below s) D dA h0 4 h2 40 [none, none, some (.int v11), none] []
  refine g_iload_n X dX2_usable_40 rfl rfl ?_
  cases hF
  exact g_iret X hr dX2_usable_41
def F_X2_keeps_B2 (this : Nat) (a1 : Int32) (a2 : Option Nat) (x3_1 : Int32) (h_1 : HH) : Option ((Int32 × HH) ⊕ HH) :=
  if (3 : Int32) ≤ x3_1 then (
    some (.inr h_1)
  ) else (
    Option.bind (isO h_1 2 (some this)) fun ob3 =>
    Option.bind (F_X2_stay ob3 a1 x3_1 h_1) fun v4 =>
    if v4 = (10 : Int32) then (
      Option.bind (isO h_1 3 a2) fun ob10 =>
      Option.bind (F_X3_tells ob10 x3_1 (3 : Int32) (9999 : Int32) h_1) fun h11 =>
      some (.inl ((x3_1 + (1 : Int32)), h11))
    ) else (
      Option.bind (isO h_1 2 (some this)) fun ob6 =>
      Option.bind (F_X2_stay ob6 a1 x3_1 h_1) fun v7 =>
      Option.bind (isO h_1 3 a2) fun ob8 =>
      Option.bind (F_X3_tells ob8 x3_1 (3 : Int32) v7 h_1) fun h9 =>
      some (.inl ((x3_1 + (1 : Int32)), h9))
    )
  )
def F_X2_keeps (this : Nat) (a1 : Int32) (a2 : Option Nat) (h0 : HH) : Option HH :=
  Option.bind (lp (fun z => F_X2_keeps_B2 this a1 a2 z.1 z.2) 100000 ((0 : Int32), h0)) fun h12 =>
  Option.bind (isO h12 3 a2) fun ob13 =>
  Option.bind (F_X3_tightens ob13 h12) fun h14 =>
  some h14
set_option maxHeartbeats 4000000 in
theorem w_X2_keeps (l : Launch) (hl : l.stackTraces = false) (D : va_G) (dA : Nat → ClassId) (h0 : HH) (this : Nat) (a1 : Int32) (a2 : Option Nat) (hE : HH) (hF : F_X2_keeps this a1 a2 h0 = some hE) : MC D dA l yX2_keeps cX2_keeps 4 (Option.none : Option Jvm.ClassFile.FieldType) [] 3 69 [va_rf (some this), .int a1, va_rf a2] h0 (.inr none, hE) := by
  refine mc_of hl (plainFor_of_name pn_X2) (by simp [lg_sl, cat_rf, cat_i, cat_j, cat_f, cat_d]) ?_
  intro p e s m args below meth c R hRf hRl X hr hnm
  unfold F_X2_keeps at hF
  rw [show argL [va_rf (some this), .int a1, va_rf a2] = [some (va_rf (some this)), some (.int a1), some (va_rf a2)] from by simp [argL, cat_rf, cat_i, cat_j, cat_f, cat_d]]
  refine G.pad 1 (L' := [some (va_rf (some this)), some (.int a1), some (va_rf a2), none]) rfl ?_
  refine g_iconst (v := (0 : Int32)) X dX2_keeps_0 (by decide) ?_
  refine g_istore_n (L' := [some (va_rf (some this)), some (.int a1), some (va_rf a2), some (.int (0 : Int32))]) X dX2_keeps_1 rfl (Nat.le_of_ble_eq_true rfl) (by first | rfl | simp [stL, rm1, clr2, cat_rf, cat_i, cat_j, cat_f, cat_d]) ?_
  obtain ⟨h12, e15, hF⟩ := bnd hF
  refine lp_ind (Gs := (fun z => G p l e R s m args below meth c (RQ D dA h0 (.inr none, hE) below s) D dA h0 4 z.2 2 [some (va_rf (some this)), some (.int a1), some (va_rf a2), some (.int z.1)] [])) (Ge := (fun z => G p l e R s m args below meth c (RQ D dA h0 (.inr none, hE) below s) D dA h0 4 z 42 [none, none, some (va_rf a2), none] [])) ?_ _ _ _ e15 ?_
  · rintro ⟨x3_1, h_1⟩ o hF hgo hr
    change F_X2_keeps_B2 this a1 a2 x3_1 h_1 = some o at hF
    unfold F_X2_keeps_B2 at hF
    show G p l e R s m args below meth c (RQ D dA h0 (.inr none, hE) below s) D dA h0 4 h_1 2 [some (va_rf (some this)), some (.int a1), some (va_rf a2), some (.int x3_1)] []
    refine g_iload_n X dX2_keeps_2 rfl rfl ?_
    refine g_iconst (v := (3 : Int32)) X dX2_keeps_3 (by decide) ?_
    refine g_icmp_ge X 42 dX2_keeps_4 (by decide) (fun c2 => ?_) (fun c2 => ?_)
    · have hF := (if_pos c2).symm.trans hF
      refine G.drop [false, false, true, false] rfl ?_
      cases hF
      exact hr _ rfl
    · have hF := (if_neg c2).symm.trans hF
      refine g_aload_n X dX2_keeps_7 rfl rfl ?_
      refine g_iload_n X dX2_keeps_8 rfl rfl ?_
      refine g_iconst (v := (3 : Int32)) X dX2_keeps_9 (by decide) ?_
      refine g_aload_n X dX2_keeps_10 rfl rfl ?_
      refine g_iload_n X dX2_keeps_11 rfl rfl ?_
      refine g_iload_n X dX2_keeps_12 rfl rfl ?_
      obtain ⟨ob3, eob3, hF⟩ := bnd hF
      obtain ⟨v4, ev4, hF⟩ := bnd hF
      refine g_callV X eob3 rfl rfl (w_X2_stay l hl D dA h_1 ob3 a1 x3_1 v4 ev4) q645 q646 q647 q93 q648 okn_X2_stay ⟨by rw [hRf]; exact Nat.le_of_ble_eq_true rfl, by rw [hRl]; exact Nat.le_of_ble_eq_true rfl⟩ (As := [.int a1, .int x3_1]) (rest := [.int (3 : Int32), .int x3_1, va_rf a2]) rfl (by first | exact Nat.le_of_ble_eq_true rfl | simp [cat_rf, cat_i, cat_j, cat_f, cat_d]) dX2_keeps_13 (ac_v ?_)
      refine g_bipush (v := (10 : Int32)) X dX2_keeps_16 (by decide) ?_
      refine g_icmp_ne X 27 dX2_keeps_18 (by decide) (fun c5 => ?_) (fun c5 => ?_)
      · have hF := (if_neg c5).symm.trans hF
        refine g_aload_n X dX2_keeps_27 rfl rfl ?_
        refine g_iload_n X dX2_keeps_28 rfl rfl ?_
        refine g_iload_n X dX2_keeps_29 rfl rfl ?_
        obtain ⟨ob6, eob6, hF⟩ := bnd hF
        obtain ⟨v7, ev7, hF⟩ := bnd hF
        refine g_callV X eob6 rfl rfl (w_X2_stay l hl D dA h_1 ob6 a1 x3_1 v7 ev7) q645 q646 q647 q93 q648 okn_X2_stay ⟨by rw [hRf]; exact Nat.le_of_ble_eq_true rfl, by rw [hRl]; exact Nat.le_of_ble_eq_true rfl⟩ (As := [.int a1, .int x3_1]) (rest := [.int (3 : Int32), .int x3_1, va_rf a2]) rfl (by first | exact Nat.le_of_ble_eq_true rfl | simp [cat_rf, cat_i, cat_j, cat_f, cat_d]) dX2_keeps_30 (ac_v ?_)
        obtain ⟨ob8, eob8, hF⟩ := bnd hF
        obtain ⟨h9, eh9, hF⟩ := bnd hF
        refine g_callV X eob8 rfl rfl (w_X3_tells l hl D dA h_1 ob8 x3_1 (3 : Int32) v7 h9 eh9) q490 q491 q492 q97 q493 okn_X3_tells ⟨by rw [hRf]; exact Nat.le_of_ble_eq_true rfl, by rw [hRl]; exact Nat.le_of_ble_eq_true rfl⟩ (As := [.int x3_1, .int (3 : Int32), .int v7]) (rest := []) rfl (by first | exact Nat.le_of_ble_eq_true rfl | simp [cat_rf, cat_i, cat_j, cat_f, cat_d]) dX2_keeps_33 (ac_0 ?_)
        refine g_iinc (v := (x3_1 + (1 : Int32))) (L' := [some (va_rf (some this)), some (.int a1), some (va_rf a2), some (.int (x3_1 + (1 : Int32)))]) X dX2_keeps_36 (Nat.le_of_ble_eq_true rfl) rfl rfl (by first | rfl | simp [stL, rm1, clr2, cat_rf, cat_i, cat_j, cat_f, cat_d]) ?_
        refine g_goto X 2 dX2_keeps_39 (by decide) ?_
        cases hF
        exact hgo _ rfl
      · have hF := (if_pos c5).symm.trans hF
        refine g_sipush (v := (9999 : Int32)) X dX2_keeps_21 (by decide) ?_
        refine g_goto X 33 dX2_keeps_24 (by decide) ?_
        obtain ⟨ob10, eob10, hF⟩ := bnd hF
        obtain ⟨h11, eh11, hF⟩ := bnd hF
        refine g_callV X eob10 rfl rfl (w_X3_tells l hl D dA h_1 ob10 x3_1 (3 : Int32) (9999 : Int32) h11 eh11) q490 q491 q492 q97 q493 okn_X3_tells ⟨by rw [hRf]; exact Nat.le_of_ble_eq_true rfl, by rw [hRl]; exact Nat.le_of_ble_eq_true rfl⟩ (As := [.int x3_1, .int (3 : Int32), .int (9999 : Int32)]) (rest := []) rfl (by first | exact Nat.le_of_ble_eq_true rfl | simp [cat_rf, cat_i, cat_j, cat_f, cat_d]) dX2_keeps_33 (ac_0 ?_)
        refine g_iinc (v := (x3_1 + (1 : Int32))) (L' := [some (va_rf (some this)), some (.int a1), some (va_rf a2), some (.int (x3_1 + (1 : Int32)))]) X dX2_keeps_36 (Nat.le_of_ble_eq_true rfl) rfl rfl (by first | rfl | simp [stL, rm1, clr2, cat_rf, cat_i, cat_j, cat_f, cat_d]) ?_
        refine g_goto X 2 dX2_keeps_39 (by decide) ?_
        cases hF
        exact hgo _ rfl
  show G p l e R s m args below meth c (RQ D dA h0 (.inr none, hE) below s) D dA h0 4 h12 42 [none, none, some (va_rf a2), none] []
  refine g_aload_n X dX2_keeps_42 rfl rfl ?_
  obtain ⟨ob13, eob13, hF⟩ := bnd hF
  obtain ⟨h14, eh14, hF⟩ := bnd hF
  refine g_callV X eob13 rfl rfl (w_X3_tightens l hl D dA h12 ob13  h14 eh14) q1433 q514 q515 q97 q516 okn_X3_tightens ⟨by rw [hRf]; exact Nat.le_of_ble_eq_true rfl, by rw [hRl]; exact Nat.le_of_ble_eq_true rfl⟩ (As := []) (rest := []) rfl (by first | exact Nat.le_of_ble_eq_true rfl | simp [cat_rf, cat_i, cat_j, cat_f, cat_d]) dX2_keeps_43 (ac_0 ?_)
  cases hF
  exact g_vret X hr dX2_keeps_46
def F_X2_arrived (this : Nat) (a1 : Int32) (a2 : Option Nat) (h0 : HH) : Option (Option Nat × HH) :=
  Option.bind (isO h0 2 (some this)) fun ob1 =>
  Option.bind (F_X2_keeps ob1 a1 a2 h0) fun h2 =>
  Option.bind (isO h2 3 a2) fun ob3 =>
  Option.bind (F_X3_hasNone ob3 h2) fun v4 =>
  if v4 = 0 then (
    Option.bind (isO h2 3 a2) fun ob6 =>
    b2 (F_X3_delays ob6 h2) fun v8 h7 =>
    Option.bind (isO h7 2 (some this)) fun ob9 =>
    Option.bind (F_X2_keeps ob9 a1 a2 h7) fun h10 =>
    Option.bind (isO h10 3 a2) fun ob11 =>
    Option.bind (F_X3_widens ob11 h10) fun h12 =>
    Option.bind (isO h12 3 a2) fun ob13 =>
    Option.bind (F_X3_tightens ob13 h12) fun h14 =>
    some (a2, h14)
  ) else (
    some (none, h2)
  )
set_option maxHeartbeats 4000000 in
theorem w_X2_arrived (l : Launch) (hl : l.stackTraces = false) (D : va_G) (dA : Nat → ClassId) (h0 : HH) (this : Nat) (a1 : Int32) (a2 : Option Nat) (rE : Option Nat) (hE : HH) (hF : F_X2_arrived this a1 a2 h0 = some (rE, hE)) : MC D dA l yX2_arrived cX2_arrived 4 (Option.some (Jvm.ClassFile.FieldType.object "FerryClocks$Zone")) [] 4 92 [va_rf (some this), .int a1, va_rf a2] h0 (.inr (some (va_rf rE)), hE) := by
  refine mc_of hl (plainFor_of_name pn_X2) (by simp [lg_sl, cat_rf, cat_i, cat_j, cat_f, cat_d]) ?_
  intro p e s m args below meth c R hRf hRl X hr hnm
  unfold F_X2_arrived at hF
  rw [show argL [va_rf (some this), .int a1, va_rf a2] = [some (va_rf (some this)), some (.int a1), some (va_rf a2)] from by simp [argL, cat_rf, cat_i, cat_j, cat_f, cat_d]]
  refine G.pad 1 (L' := [some (va_rf (some this)), some (.int a1), some (va_rf a2), none]) rfl ?_
  refine g_aload_n X dX2_arrived_0 rfl rfl ?_
  refine g_iload_n X dX2_arrived_1 rfl rfl ?_
  refine g_aload_n X dX2_arrived_2 rfl rfl ?_
  obtain ⟨ob1, eob1, hF⟩ := bnd hF
  obtain ⟨h2, eh2, hF⟩ := bnd hF
  refine g_callV X eob1 rfl rfl (w_X2_keeps l hl D dA h0 ob1 a1 a2 h2 eh2) q1429 q1431 qs23 q93 q1432 okn_X2_keeps ⟨by rw [hRf]; exact Nat.le_of_ble_eq_true rfl, by rw [hRl]; exact Nat.le_of_ble_eq_true rfl⟩ (As := [.int a1, va_rf a2]) (rest := []) rfl (by first | exact Nat.le_of_ble_eq_true rfl | simp [cat_rf, cat_i, cat_j, cat_f, cat_d]) dX2_arrived_3 (ac_0 ?_)
  refine g_aload_n X dX2_arrived_6 rfl rfl ?_
  obtain ⟨ob3, eob3, hF⟩ := bnd hF
  obtain ⟨v4, ev4, hF⟩ := bnd hF
  refine g_callV X eob3 rfl rfl (w_X3_hasNone l hl D dA h2 ob3  v4 ev4) q521 q522 q523 q97 q524 okn_X3_hasNone ⟨by rw [hRf]; exact Nat.le_of_ble_eq_true rfl, by rw [hRl]; exact Nat.le_of_ble_eq_true rfl⟩ (As := []) (rest := []) rfl (by first | exact Nat.le_of_ble_eq_true rfl | simp [cat_rf, cat_i, cat_j, cat_f, cat_d]) dX2_arrived_7 (ac_v ?_)
  refine g_if_eq X 15 dX2_arrived_10 (by decide) (fun c5 => ?_) (fun c5 => ?_)
  · have hF := (if_pos c5).symm.trans hF
    refine g_aload_n X dX2_arrived_15 rfl rfl ?_
    obtain ⟨ob6, eob6, hF⟩ := bnd hF
    obtain ⟨v8, h7, eh7, hF⟩ := b2_some hF
    refine g_callV X eob6 rfl rfl (w_X3_delays l hl D dA h2 ob6  v8 h7 eh7) q576 q577 q578 q97 q579 okn_X3_delays ⟨by rw [hRf]; exact Nat.le_of_ble_eq_true rfl, by rw [hRl]; exact Nat.le_of_ble_eq_true rfl⟩ (As := []) (rest := []) rfl (by first | exact Nat.le_of_ble_eq_true rfl | simp [cat_rf, cat_i, cat_j, cat_f, cat_d]) dX2_arrived_16 (ac_v ?_)
    refine g_istore_n (L' := [some (va_rf (some this)), some (.int a1), some (va_rf a2), some (.int v8)]) X dX2_arrived_19 rfl (Nat.le_of_ble_eq_true rfl) (by first | rfl | simp [stL, rm1, clr2, cat_rf, cat_i, cat_j, cat_f, cat_d]) ?_
    refine g_aload_n X dX2_arrived_20 rfl rfl ?_
    refine g_iload_n X dX2_arrived_21 rfl rfl ?_
    refine g_aload_n X dX2_arrived_22 rfl rfl ?_
    obtain ⟨ob9, eob9, hF⟩ := bnd hF
    obtain ⟨h10, eh10, hF⟩ := bnd hF
    refine g_callV X eob9 rfl rfl (w_X2_keeps l hl D dA h7 ob9 a1 a2 h10 eh10) q1429 q1431 qs23 q93 q1432 okn_X2_keeps ⟨by rw [hRf]; exact Nat.le_of_ble_eq_true rfl, by rw [hRl]; exact Nat.le_of_ble_eq_true rfl⟩ (As := [.int a1, va_rf a2]) (rest := []) rfl (by first | exact Nat.le_of_ble_eq_true rfl | simp [cat_rf, cat_i, cat_j, cat_f, cat_d]) dX2_arrived_23 (ac_0 ?_)
    refine g_aload_n X dX2_arrived_26 rfl rfl ?_
    obtain ⟨ob11, eob11, hF⟩ := bnd hF
    obtain ⟨h12, eh12, hF⟩ := bnd hF
    refine g_callV X eob11 rfl rfl (w_X3_widens l hl D dA h10 ob11  h12 eh12) q1434 q1435 q1436 q97 q1437 okn_X3_widens ⟨by rw [hRf]; exact Nat.le_of_ble_eq_true rfl, by rw [hRl]; exact Nat.le_of_ble_eq_true rfl⟩ (As := []) (rest := []) rfl (by first | exact Nat.le_of_ble_eq_true rfl | simp [cat_rf, cat_i, cat_j, cat_f, cat_d]) dX2_arrived_27 (ac_0 ?_)
    refine g_aload_n X dX2_arrived_30 rfl rfl ?_
    obtain ⟨ob13, eob13, hF⟩ := bnd hF
    obtain ⟨h14, eh14, hF⟩ := bnd hF
    refine g_callV X eob13 rfl rfl (w_X3_tightens l hl D dA h12 ob13  h14 eh14) q1433 q514 q515 q97 q516 okn_X3_tightens ⟨by rw [hRf]; exact Nat.le_of_ble_eq_true rfl, by rw [hRl]; exact Nat.le_of_ble_eq_true rfl⟩ (As := []) (rest := []) rfl (by first | exact Nat.le_of_ble_eq_true rfl | simp [cat_rf, cat_i, cat_j, cat_f, cat_d]) dX2_arrived_31 (ac_0 ?_)
    refine g_aload_n X dX2_arrived_34 rfl rfl ?_
    cases hF
    exact g_aret X hr (Or.inl ⟨_, rfl⟩) dX2_arrived_35
  · have hF := (if_neg c5).symm.trans hF
    refine g_null X dX2_arrived_13 ?_
    cases hF
    exact g_aret X hr (Or.inl ⟨_, rfl⟩) dX2_arrived_14
def F_X2_isKnown_B5 (a1 : Int32) (a2 : Option Nat) (a3 : Option Nat) (x3_1 : Int32) (x4_1 : Int32) (h0 : HH) : Option ((Int32 × Int32) ⊕ Int32) :=
  Option.bind (isO h0 8 a3) fun ob2 =>
  Option.bind (F_J2_size ob2 h0) fun v3 =>
  if v3 ≤ x4_1 then (
    some (.inr x3_1)
  ) else (
    Option.bind (isO h0 8 a3) fun ob5 =>
    Option.bind (F_J2_get ob5 x4_1 h0) fun v6 =>
    Option.bind (castO h0 5 v6) fun _ =>
    Option.bind (getI h0 5 0 v6) fun v8 =>
    if v8 = a1 then (
      Option.bind (isO h0 8 a3) fun ob10 =>
      Option.bind (F_J2_get ob10 x4_1 h0) fun v11 =>
      Option.bind (castO h0 5 v11) fun _ =>
      Option.bind (getR h0 5 1 v11) fun v13 =>
      Option.bind (isO h0 3 a2) fun ob14 =>
      Option.bind (F_X3_isInside ob14 v13 h0) fun v15 =>
      some (.inl ((x3_1 ||| (if v15 = 0 then (0 : Int32) else (1 : Int32))), (x4_1 + (1 : Int32))))
    ) else (
      some (.inl ((x3_1 ||| (0 : Int32)), (x4_1 + (1 : Int32))))
    )
  )
def F_X2_isKnown (a1 : Int32) (a2 : Option Nat) (a3 : Option Nat) (h0 : HH) : Option Int32 :=
  Option.bind (lp (fun z => F_X2_isKnown_B5 a1 a2 a3 z.1 z.2 h0) 100000 ((0 : Int32), (0 : Int32))) fun v17 =>
  Option.bind (okZ v17) fun _ =>
  some v17
set_option maxHeartbeats 4000000 in
theorem w_X2_isKnown (l : Launch) (hl : l.stackTraces = false) (D : va_G) (dA : Nat → ClassId) (h0 : HH) (a1 : Int32) (a2 : Option Nat) (a3 : Option Nat) (rE : Int32) (hF : F_X2_isKnown a1 a2 a3 h0 = some rE) : MC D dA l yX2_isKnown cX2_isKnown 5 (Option.some Jvm.ClassFile.FieldType.boolean) [] 3 64 [.int a1, va_rf a2, va_rf a3] h0 (.inr (some (.int rE)), h0) := by
  refine mc_of hl (plainFor_of_name pn_X2) (by simp [lg_sl, cat_rf, cat_i, cat_j, cat_f, cat_d]) ?_
  intro p e s m args below meth c R hRf hRl X hr hnm
  unfold F_X2_isKnown at hF
  rw [show argL [.int a1, va_rf a2, va_rf a3] = [some (.int a1), some (va_rf a2), some (va_rf a3)] from by simp [argL, cat_rf, cat_i, cat_j, cat_f, cat_d]]
  refine G.pad 2 (L' := [some (.int a1), some (va_rf a2), some (va_rf a3), none, none]) rfl ?_
  refine g_iconst (v := (0 : Int32)) X dX2_isKnown_0 (by decide) ?_
  refine g_istore_n (L' := [some (.int a1), some (va_rf a2), some (va_rf a3), some (.int (0 : Int32)), none]) X dX2_isKnown_1 rfl (Nat.le_of_ble_eq_true rfl) (by first | rfl | simp [stL, rm1, clr2, cat_rf, cat_i, cat_j, cat_f, cat_d]) ?_
  refine g_iconst (v := (0 : Int32)) X dX2_isKnown_2 (by decide) ?_
  refine g_istore (L' := [some (.int a1), some (va_rf a2), some (va_rf a3), some (.int (0 : Int32)), some (.int (0 : Int32))]) X dX2_isKnown_3 (Nat.le_of_ble_eq_true rfl) (by first | rfl | simp [stL, rm1, clr2, cat_rf, cat_i, cat_j, cat_f, cat_d]) ?_
  obtain ⟨v17, e19, hF⟩ := bnd hF
  refine lp_ind (Gs := (fun z => G p l e R s m args below meth c (RQ D dA h0 (.inr (some (.int rE)), h0) below s) D dA h0 5 h0 5 [some (.int a1), some (va_rf a2), some (va_rf a3), some (.int z.1), some (.int z.2)] [])) (Ge := (fun z => G p l e R s m args below meth c (RQ D dA h0 (.inr (some (.int rE)), h0) below s) D dA h0 5 h0 63 [none, none, none, some (.int z), none] [])) ?_ _ _ _ e19 ?_
  · rintro ⟨x3_1, x4_1⟩ o hF hgo hr
    change F_X2_isKnown_B5 a1 a2 a3 x3_1 x4_1 h0 = some o at hF
    unfold F_X2_isKnown_B5 at hF
    show G p l e R s m args below meth c (RQ D dA h0 (.inr (some (.int rE)), h0) below s) D dA h0 5 h0 5 [some (.int a1), some (va_rf a2), some (va_rf a3), some (.int x3_1), some (.int x4_1)] []
    refine g_iload X dX2_isKnown_5 rfl ?_
    refine g_aload_n X dX2_isKnown_7 rfl rfl ?_
    obtain ⟨ob2, eob2, hF⟩ := bnd hF
    obtain ⟨v3, ev3, hF⟩ := bnd hF
    refine g_callV X eob2 rfl rfl (w_J2_size l hl D dA h0 ob2  v3 ev3) q288 q289 q290 q96 q291 okn_J2_size ⟨by rw [hRf]; exact Nat.le_of_ble_eq_true rfl, by rw [hRl]; exact Nat.le_of_ble_eq_true rfl⟩ (As := []) (rest := [.int x4_1]) rfl (by first | exact Nat.le_of_ble_eq_true rfl | simp [cat_rf, cat_i, cat_j, cat_f, cat_d]) dX2_isKnown_8 (ac_v ?_)
    refine g_icmp_ge X 63 dX2_isKnown_11 (by decide) (fun c4 => ?_) (fun c4 => ?_)
    · have hF := (if_pos c4).symm.trans hF
      refine G.drop [false, false, false, true, false] rfl ?_
      cases hF
      exact hr _ rfl
    · have hF := (if_neg c4).symm.trans hF
      refine g_iload_n X dX2_isKnown_14 rfl rfl ?_
      refine g_aload_n X dX2_isKnown_15 rfl rfl ?_
      refine g_iload X dX2_isKnown_16 rfl ?_
      obtain ⟨ob5, eob5, hF⟩ := bnd hF
      obtain ⟨v6, ev6, hF⟩ := bnd hF
      refine g_callV X eob5 rfl rfl (w_J2_get l hl D dA h0 ob5 x4_1 v6 ev6) q294 q295 q296 q96 q297 okn_J2_get ⟨by rw [hRf]; exact Nat.le_of_ble_eq_true rfl, by rw [hRl]; exact Nat.le_of_ble_eq_true rfl⟩ (As := [.int x4_1]) (rest := [.int x3_1]) rfl (by first | exact Nat.le_of_ble_eq_true rfl | simp [cat_rf, cat_i, cat_j, cat_f, cat_d]) dX2_isKnown_18 (ac_v ?_)
      obtain ⟨_, z7, hF⟩ := bnd hF
      refine g_castO X q1439 rfl z7 dX2_isKnown_21 ?_
      obtain ⟨v8, ev8, hF⟩ := bnd hF
      refine g_getN (k := 0) X in_X7 rfl (by decide) (nw_in q1446 rfl) rfl (getI_V ev8) dX2_isKnown_24 ?_
      refine g_iload_n X dX2_isKnown_27 rfl rfl ?_
      refine g_icmp_ne X 54 dX2_isKnown_28 (by decide) (fun c9 => ?_) (fun c9 => ?_)
      · have hF := (if_neg c9).symm.trans hF
        refine g_iconst (v := (0 : Int32)) X dX2_isKnown_54 (by decide) ?_
        refine g_ior X dX2_isKnown_55 ?_
        refine g_istore_n (L' := [some (.int a1), some (va_rf a2), some (va_rf a3), some (.int (x3_1 ||| (0 : Int32))), some (.int x4_1)]) X dX2_isKnown_56 rfl (Nat.le_of_ble_eq_true rfl) (by first | rfl | simp [stL, rm1, clr2, cat_rf, cat_i, cat_j, cat_f, cat_d]) ?_
        refine g_iinc (v := (x4_1 + (1 : Int32))) (L' := [some (.int a1), some (va_rf a2), some (va_rf a3), some (.int (x3_1 ||| (0 : Int32))), some (.int (x4_1 + (1 : Int32)))]) X dX2_isKnown_57 (Nat.le_of_ble_eq_true rfl) rfl rfl (by first | rfl | simp [stL, rm1, clr2, cat_rf, cat_i, cat_j, cat_f, cat_d]) ?_
        refine g_goto X 5 dX2_isKnown_60 (by decide) ?_
        cases hF
        exact hgo _ rfl
      · have hF := (if_pos c9).symm.trans hF
        refine g_aload_n X dX2_isKnown_31 rfl rfl ?_
        refine g_aload_n X dX2_isKnown_32 rfl rfl ?_
        refine g_iload X dX2_isKnown_33 rfl ?_
        obtain ⟨ob10, eob10, hF⟩ := bnd hF
        obtain ⟨v11, ev11, hF⟩ := bnd hF
        refine g_callV X eob10 rfl rfl (w_J2_get l hl D dA h0 ob10 x4_1 v11 ev11) q294 q295 q296 q96 q297 okn_J2_get ⟨by rw [hRf]; exact Nat.le_of_ble_eq_true rfl, by rw [hRl]; exact Nat.le_of_ble_eq_true rfl⟩ (As := [.int x4_1]) (rest := [va_rf a2, .int x3_1]) rfl (by first | exact Nat.le_of_ble_eq_true rfl | simp [cat_rf, cat_i, cat_j, cat_f, cat_d]) dX2_isKnown_35 (ac_v ?_)
        obtain ⟨_, z12, hF⟩ := bnd hF
        refine g_castO X q1439 rfl z12 dX2_isKnown_38 ?_
        obtain ⟨v13, ev13, hF⟩ := bnd hF
        refine g_getN (k := 1) X in_X7 rfl (by decide) (nw_in q1449 rfl) rfl (getR_V ev13) dX2_isKnown_41 ?_
        obtain ⟨ob14, eob14, hF⟩ := bnd hF
        obtain ⟨v15, ev15, hF⟩ := bnd hF
        refine g_callV X eob14 rfl rfl (w_X3_isInside l hl D dA h0 ob14 v13 v15 ev15) q1478 q1351 q1352 q97 q1353 okn_X3_isInside ⟨by rw [hRf]; exact Nat.le_of_ble_eq_true rfl, by rw [hRl]; exact Nat.le_of_ble_eq_true rfl⟩ (As := [va_rf v13]) (rest := [.int x3_1]) rfl (by first | exact Nat.le_of_ble_eq_true rfl | simp [cat_rf, cat_i, cat_j, cat_f, cat_d]) dX2_isKnown_44 (ac_v ?_)
        suffices K : G p l e R s m args below meth c (RQ D dA h0 (.inr (some (.int rE)), h0) below s) D dA h0 5 h0 55 [some (.int a1), some (va_rf a2), some (va_rf a3), none, some (.int x4_1)] [.int (if v15 = 0 then (0 : Int32) else (1 : Int32)), .int x3_1] by
          refine g_if_eq X 54 dX2_isKnown_47 (by decide) (fun c16 => ?_) (fun c16 => ?_)
          · (try simp only [if_pos c16] at K)
            refine g_iconst (v := (0 : Int32)) X dX2_isKnown_54 (by decide) ?_
            refine G.drop [true, true, true, false, true] rfl ?_
            first | exact K | (simp only [if_pos c16]; exact K)
          · (try simp only [if_neg c16] at K)
            refine g_iconst (v := (1 : Int32)) X dX2_isKnown_50 (by decide) ?_
            refine g_goto X 55 dX2_isKnown_51 (by decide) ?_
            refine G.drop [true, true, true, false, true] rfl ?_
            first | exact K | (simp only [if_neg c16]; exact K)
        refine g_ior X dX2_isKnown_55 ?_
        refine g_istore_n (L' := [some (.int a1), some (va_rf a2), some (va_rf a3), some (.int (x3_1 ||| (if v15 = 0 then (0 : Int32) else (1 : Int32)))), some (.int x4_1)]) X dX2_isKnown_56 rfl (Nat.le_of_ble_eq_true rfl) (by first | rfl | simp [stL, rm1, clr2, cat_rf, cat_i, cat_j, cat_f, cat_d]) ?_
        refine g_iinc (v := (x4_1 + (1 : Int32))) (L' := [some (.int a1), some (va_rf a2), some (va_rf a3), some (.int (x3_1 ||| (if v15 = 0 then (0 : Int32) else (1 : Int32)))), some (.int (x4_1 + (1 : Int32)))]) X dX2_isKnown_57 (Nat.le_of_ble_eq_true rfl) rfl rfl (by first | rfl | simp [stL, rm1, clr2, cat_rf, cat_i, cat_j, cat_f, cat_d]) ?_
        refine g_goto X 5 dX2_isKnown_60 (by decide) ?_
        cases hF
        exact hgo _ rfl
  show G p l e R s m args below meth c (RQ D dA h0 (.inr (some (.int rE)), h0) below s) D dA h0 5 h0 63 [none, none, none, some (.int v17), none] []
  refine g_iload_n X dX2_isKnown_63 rfl rfl ?_
  obtain ⟨_, z18, hF⟩ := bnd hF
  cases hF
  exact g_zret X hr (narZ z18) dX2_isKnown_64
def F_X2_goes_T44 (this : Nat) (a1 : Option Nat) (a2 : Option Nat) (a3 : Option Nat) (y0_44 : Option Nat) (h_44 : HH) : Option HH :=
  if y0_44 = none then (
    some h_44
  ) else (
    Option.bind (getI h_44 4 1 a2) fun v11 =>
    Option.bind (F_X2_isKnown v11 y0_44 a3 h_44) fun v12 =>
    if v12 = 0 then (
      Option.bind (newO h_44 5 3 [.int 0, .null, .int 0]) fun h14 =>
      Option.bind (getI h14 4 1 a2) fun v15 =>
      Option.bind (getI h14 5 2 a1) fun v16 =>
      Option.bind (nnl (some (hSz h_44))) fun ob17 =>
      Option.bind (F_X7_init ob17 v15 y0_44 (v16 + (1 : Int32)) h14) fun h18 =>
      Option.bind (isO h18 8 a3) fun ob19 =>
      b2 (F_J2_add ob19 (some (hSz h_44)) h18) fun v21 h20 =>
      some h20
    ) else (
      some h_44
    )
  )
def F_X2_goes (this : Nat) (a1 : Option Nat) (a2 : Option Nat) (a3 : Option Nat) (h0 : HH) : Option HH :=
  Option.bind (getI h0 4 0 a2) fun v1 =>
  Option.bind (getI h0 5 0 a1) fun v2 =>
  if v1 = v2 then (
    Option.bind (getR h0 5 1 a1) fun v4 =>
    Option.bind (isO h0 4 a2) fun ob5 =>
    b2 (F_X5_taken ob5 v4 h0) fun v7 h6 =>
    Option.bind (isO h6 3 v7) fun ob8 =>
    Option.bind (F_X3_hasNone ob8 h6) fun v9 =>
    if v9 = 0 then (
      Option.bind (getI h6 4 1 a2) fun v23 =>
      Option.bind (isO h6 2 (some this)) fun ob24 =>
      b2 (F_X2_arrived ob24 v23 v7 h6) fun v26 h25 =>
      F_X2_goes_T44 this a1 a2 a3 v26 h25
    ) else (
      F_X2_goes_T44 this a1 a2 a3 none h6
    )
  ) else (
    some h0
  )
set_option maxHeartbeats 4000000 in
theorem w_X2_goes (l : Launch) (hl : l.stackTraces = false) (D : va_G) (dA : Nat → ClassId) (h0 : HH) (this : Nat) (a1 : Option Nat) (a2 : Option Nat) (a3 : Option Nat) (hE : HH) (hF : F_X2_goes this a1 a2 a3 h0 = some hE) : MC D dA l yX2_goes cX2_goes 6 (Option.none : Option Jvm.ClassFile.FieldType) [] 7 171 [va_rf (some this), va_rf a1, va_rf a2, va_rf a3] h0 (.inr none, hE) := by
  refine mc_of hl (plainFor_of_name pn_X2) (by simp [lg_sl, cat_rf, cat_i, cat_j, cat_f, cat_d]) ?_
  intro p e s m args below meth c R hRf hRl X hr hnm
  unfold F_X2_goes at hF
  rw [show argL [va_rf (some this), va_rf a1, va_rf a2, va_rf a3] = [some (va_rf (some this)), some (va_rf a1), some (va_rf a2), some (va_rf a3)] from by simp [argL, cat_rf, cat_i, cat_j, cat_f, cat_d]]
  refine G.pad 2 (L' := [some (va_rf (some this)), some (va_rf a1), some (va_rf a2), some (va_rf a3), none, none]) rfl ?_
  refine g_aload_n X dX2_goes_0 rfl rfl ?_
  obtain ⟨v1, ev1, hF⟩ := bnd hF
  refine g_getN (k := 0) X in_X5 rfl (by decide) (nw_in q315 rfl) rfl (getI_V ev1) dX2_goes_1 ?_
  refine g_aload_n X dX2_goes_4 rfl rfl ?_
  obtain ⟨v2, ev2, hF⟩ := bnd hF
  refine g_getN (k := 0) X in_X7 rfl (by decide) (nw_in q1446 rfl) rfl (getI_V ev2) dX2_goes_5 ?_
  refine g_icmp_eq X 12 dX2_goes_8 (by decide) (fun c3 => ?_) (fun c3 => ?_)
  · have hF := (if_pos c3).symm.trans hF
    refine g_aload_n X dX2_goes_12 rfl rfl ?_
    refine g_aload_n X dX2_goes_13 rfl rfl ?_
    obtain ⟨v4, ev4, hF⟩ := bnd hF
    refine g_getN (k := 1) X in_X7 rfl (by decide) (nw_in q1449 rfl) rfl (getR_V ev4) dX2_goes_14 ?_
    obtain ⟨ob5, eob5, hF⟩ := bnd hF
    obtain ⟨v7, h6, eh6, hF⟩ := b2_some hF
    refine g_callV X eob5 rfl rfl (w_X5_taken l hl D dA h0 ob5 v4 v7 h6 eh6) q1464 q1465 q1466 q104 q1467 okn_X5_taken ⟨by rw [hRf]; exact Nat.le_of_ble_eq_true rfl, by rw [hRl]; exact Nat.le_of_ble_eq_true rfl⟩ (As := [va_rf v4]) (rest := []) rfl (by first | exact Nat.le_of_ble_eq_true rfl | simp [cat_rf, cat_i, cat_j, cat_f, cat_d]) dX2_goes_17 (ac_v ?_)
    refine g_astore (L' := [some (va_rf (some this)), some (va_rf a1), some (va_rf a2), some (va_rf a3), some (va_rf v7), none]) X dX2_goes_20 (Nat.le_of_ble_eq_true rfl) (by first | rfl | simp [stL, rm1, clr2, cat_rf, cat_i, cat_j, cat_f, cat_d]) ?_
    refine g_aload X dX2_goes_22 rfl ?_
    obtain ⟨ob8, eob8, hF⟩ := bnd hF
    obtain ⟨v9, ev9, hF⟩ := bnd hF
    refine g_callV X eob8 rfl rfl (w_X3_hasNone l hl D dA h6 ob8  v9 ev9) q521 q522 q523 q97 q524 okn_X3_hasNone ⟨by rw [hRf]; exact Nat.le_of_ble_eq_true rfl, by rw [hRl]; exact Nat.le_of_ble_eq_true rfl⟩ (As := []) (rest := []) rfl (by first | exact Nat.le_of_ble_eq_true rfl | simp [cat_rf, cat_i, cat_j, cat_f, cat_d]) dX2_goes_24 (ac_v ?_)
    have T44 : ∀ (y0_44 : Option Nat) (h_44 : HH) , F_X2_goes_T44 this a1 a2 a3 y0_44 h_44 = some hE → G p l e R s m args below meth c (RQ D dA h0 (.inr none, hE) below s) D dA h0 6 h_44 44 [none, some (va_rf a1), some (va_rf a2), some (va_rf a3), none, none] [va_rf y0_44] := by
      intro y0_44 h_44  hF 
      unfold F_X2_goes_T44 at hF
      refine g_astore (L' := [none, some (va_rf a1), some (va_rf a2), some (va_rf a3), none, some (va_rf y0_44)]) X dX2_goes_44 (Nat.le_of_ble_eq_true rfl) (by first | rfl | simp [stL, rm1, clr2, cat_rf, cat_i, cat_j, cat_f, cat_d]) ?_
      refine g_aload X dX2_goes_46 rfl ?_
      refine g_ifnull X 88 dX2_goes_48 (by decide) (fun c10 => ?_) (fun c10 => ?_)
      · have hF := (if_pos c10).symm.trans hF
        cases hF
        exact g_vret X hr dX2_goes_88
      · have hF := (if_neg c10).symm.trans hF
        refine g_aload_n X dX2_goes_51 rfl rfl ?_
        obtain ⟨v11, ev11, hF⟩ := bnd hF
        refine g_getN (k := 1) X in_X5 rfl (by decide) (nw_in q318 rfl) rfl (getI_V ev11) dX2_goes_52 ?_
        refine g_aload X dX2_goes_55 rfl ?_
        refine g_aload_n X dX2_goes_57 rfl rfl ?_
        obtain ⟨v12, ev12, hF⟩ := bnd hF
        refine g_callS X (w_X2_isKnown l hl D dA h_44 v11 y0_44 a3 v12 ev12) q1475 q1476 q93 q1477 okn_X2_isKnown ⟨by rw [hRf]; exact Nat.le_of_ble_eq_true rfl, by rw [hRl]; exact Nat.le_of_ble_eq_true rfl⟩ (As := [.int v11, va_rf y0_44, va_rf a3]) (rest := []) rfl (by first | exact Nat.le_of_ble_eq_true rfl | simp [cat_rf, cat_i, cat_j, cat_f, cat_d]) dX2_goes_58 (ac_v ?_)
        refine g_if_ne X 88 dX2_goes_61 (by decide) (fun c13 => ?_) (fun c13 => ?_)
        · have hF := (if_neg c13).symm.trans hF
          cases hF
          exact g_vret X hr dX2_goes_88
        · have hF := (if_pos c13).symm.trans hF
          refine g_aload_n X dX2_goes_64 rfl rfl ?_
          obtain ⟨h14, eh14, hF⟩ := bnd hF
          refine g_new X in_X7 tyX7 tyX7_ok rfl q1439 q1440 q118 rfl dv_X7 eh14 dX2_goes_65 ?_
          refine g_dup X dX2_goes_68 (cat_rf _) ?_
          refine g_aload_n X dX2_goes_69 rfl rfl ?_
          obtain ⟨v15, ev15, hF⟩ := bnd hF
          refine g_getN (k := 1) X in_X5 rfl (by decide) (nw_in q318 rfl) rfl (getI_V ev15) dX2_goes_70 ?_
          refine g_aload X dX2_goes_73 rfl ?_
          refine g_aload_n X dX2_goes_75 rfl rfl ?_
          obtain ⟨v16, ev16, hF⟩ := bnd hF
          refine g_getN (k := 2) X in_X7 rfl (by decide) (nw_in q1451 rfl) rfl (getI_V ev16) dX2_goes_76 ?_
          refine g_iconst (v := (1 : Int32)) X dX2_goes_79 (by decide) ?_
          refine g_iadd X dX2_goes_80 ?_
          obtain ⟨ob17, eob17, hF⟩ := bnd hF
          obtain ⟨h18, eh18, hF⟩ := bnd hF
          refine g_callI X (nnl_some eob17) (w_X7_init l hl D dA h14 ob17 v15 y0_44 (v16 + (1 : Int32)) h18 eh18) rfl q1441 q1442 q118 q1443 okn_X7_init ⟨by rw [hRf]; exact Nat.le_of_ble_eq_true rfl, by rw [hRl]; exact Nat.le_of_ble_eq_true rfl⟩ (As := [.int v15, va_rf y0_44, .int (v16 + (1 : Int32))]) (rest := [va_rf (some (hSz h_44)), va_rf a3]) rfl (by first | exact Nat.le_of_ble_eq_true rfl | simp [cat_rf, cat_i, cat_j, cat_f, cat_d]) dX2_goes_81 (ac_0 ?_)
          obtain ⟨ob19, eob19, hF⟩ := bnd hF
          obtain ⟨v21, h20, eh20, hF⟩ := b2_some hF
          refine g_callV X eob19 rfl rfl (w_J2_add l hl D dA h18 ob19 (some (hSz h_44)) v21 h20 eh20) q337 q338 q339 q96 q340 okn_J2_add ⟨by rw [hRf]; exact Nat.le_of_ble_eq_true rfl, by rw [hRl]; exact Nat.le_of_ble_eq_true rfl⟩ (As := [va_rf (some (hSz h_44))]) (rest := []) rfl (by first | exact Nat.le_of_ble_eq_true rfl | simp [cat_rf, cat_i, cat_j, cat_f, cat_d]) dX2_goes_84 (ac_v ?_)
          refine g_pop X dX2_goes_87 rfl ?_
          cases hF
          exact g_vret X hr dX2_goes_88
    refine g_if_eq X 34 dX2_goes_27 (by decide) (fun c22 => ?_) (fun c22 => ?_)
    · have hF := (if_pos c22).symm.trans hF
      refine g_aload_n X dX2_goes_34 rfl rfl ?_
      refine g_aload_n X dX2_goes_35 rfl rfl ?_
      obtain ⟨v23, ev23, hF⟩ := bnd hF
      refine g_getN (k := 1) X in_X5 rfl (by decide) (nw_in q318 rfl) rfl (getI_V ev23) dX2_goes_36 ?_
      refine g_aload X dX2_goes_39 rfl ?_
      obtain ⟨ob24, eob24, hF⟩ := bnd hF
      obtain ⟨v26, h25, eh25, hF⟩ := b2_some hF
      refine g_callV X eob24 rfl rfl (w_X2_arrived l hl D dA h6 ob24 v23 v7 v26 h25 eh25) q1425 q1427 qs22 q93 q1428 okn_X2_arrived ⟨by rw [hRf]; exact Nat.le_of_ble_eq_true rfl, by rw [hRl]; exact Nat.le_of_ble_eq_true rfl⟩ (As := [.int v23, va_rf v7]) (rest := []) rfl (by first | exact Nat.le_of_ble_eq_true rfl | simp [cat_rf, cat_i, cat_j, cat_f, cat_d]) dX2_goes_41 (ac_v ?_)
      refine G.drop [false, true, true, true, false, false] rfl ?_
      exact T44 _ _ hF
    · have hF := (if_neg c22).symm.trans hF
      refine g_null X dX2_goes_30 ?_
      refine g_goto X 44 dX2_goes_31 (by decide) ?_
      refine G.drop [false, true, true, true, false, false] rfl ?_
      exact T44 _ _ hF
  · have hF := (if_neg c3).symm.trans hF
    cases hF
    exact g_vret X hr dX2_goes_11
def F_X2_start_B17 (k0_4 : Option Nat) (x1_4 : Int32) (x2_6 : Int32) (h_6 : HH) : Option ((Int32 × HH) ⊕ HH) :=
  if (4 : Int32) ≤ x2_6 then (
    some (.inr h_6)
  ) else (
    Option.bind (isO h_6 3 k0_4) fun ob8 =>
    Option.bind (F_X3_sets ob8 x1_4 x2_6 (0 : Int32) h_6) fun h9 =>
    some (.inl ((x2_6 + (1 : Int32)), h9))
  )
def F_X2_start_B10 (k0_4 : Option Nat) (x1_4 : Int32) (h_4 : HH) : Option ((Int32 × HH) ⊕ HH) :=
  if (4 : Int32) ≤ x1_4 then (
    some (.inr h_4)
  ) else (
    Option.bind (lp (fun z => F_X2_start_B17 k0_4 x1_4 z.1 z.2) 100000 ((0 : Int32), h_4)) fun h10 =>
    some (.inl ((x1_4 + (1 : Int32)), h10))
  )
def F_X2_start  (h0 : HH) : Option (Option Nat × HH) :=
  Option.bind (newO h0 3 1 [.null]) fun h1 =>
  Option.bind (nnl (some (hSz h0))) fun ob2 =>
  Option.bind (F_X3_init ob2 h1) fun h3 =>
  Option.bind (lp (fun z => F_X2_start_B10 (some (hSz h0)) z.1 z.2) 100000 ((0 : Int32), h3)) fun h13 =>
  some ((some (hSz h0)), h13)
set_option maxHeartbeats 4000000 in
theorem w_X2_start (l : Launch) (hl : l.stackTraces = false) (D : va_G) (dA : Nat → ClassId) (h0 : HH)  (rE : Option Nat) (hE : HH) (hF : F_X2_start  h0 = some (rE, hE)) : MC D dA l yX2_start cX2_start 3 (Option.some (Jvm.ClassFile.FieldType.object "FerryClocks$Zone")) [] 2 42 [] h0 (.inr (some (va_rf rE)), hE) := by
  refine mc_of hl (plainFor_of_name pn_X2) (by simp [lg_sl, cat_rf, cat_i, cat_j, cat_f, cat_d]) ?_
  intro p e s m args below meth c R hRf hRl X hr hnm
  unfold F_X2_start at hF
  rw [show argL [] = [] from by simp [argL, cat_rf, cat_i, cat_j, cat_f, cat_d]]
  refine G.pad 3 (L' := [none, none, none]) rfl ?_
  obtain ⟨h1, eh1, hF⟩ := bnd hF
  refine g_new X in_X3 tyX3 tyX3_ok rfl q166 q168 q97 rfl dv_X3 eh1 dX2_start_0 ?_
  refine g_dup X dX2_start_3 (cat_rf _) ?_
  obtain ⟨ob2, eob2, hF⟩ := bnd hF
  obtain ⟨h3, eh3, hF⟩ := bnd hF
  refine g_callI X (nnl_some eob2) (w_X3_init l hl D dA h1 ob2  h3 eh3) rfl q169 q170 q97 q171 okn_X3_init ⟨by rw [hRf]; exact Nat.le_of_ble_eq_true rfl, by rw [hRl]; exact Nat.le_of_ble_eq_true rfl⟩ (As := []) (rest := [va_rf (some (hSz h0))]) rfl (by first | exact Nat.le_of_ble_eq_true rfl | simp [cat_rf, cat_i, cat_j, cat_f, cat_d]) dX2_start_4 (ac_0 ?_)
  refine g_astore_n (L' := [some (va_rf (some (hSz h0))), none, none]) X dX2_start_7 rfl (Nat.le_of_ble_eq_true rfl) (by first | rfl | simp [stL, rm1, clr2, cat_rf, cat_i, cat_j, cat_f, cat_d]) ?_
  refine g_iconst (v := (0 : Int32)) X dX2_start_8 (by decide) ?_
  refine g_istore_n (L' := [some (va_rf (some (hSz h0))), some (.int (0 : Int32)), none]) X dX2_start_9 rfl (Nat.le_of_ble_eq_true rfl) (by first | rfl | simp [stL, rm1, clr2, cat_rf, cat_i, cat_j, cat_f, cat_d]) ?_
  obtain ⟨h13, e14, hF⟩ := bnd hF
  refine lp_ind (Gs := (fun z => G p l e R s m args below meth c (RQ D dA h0 (.inr (some (va_rf rE)), hE) below s) D dA h0 3 z.2 10 [some (va_rf (some (hSz h0))), some (.int z.1), none] [])) (Ge := (fun z => G p l e R s m args below meth c (RQ D dA h0 (.inr (some (va_rf rE)), hE) below s) D dA h0 3 z 41 [some (va_rf (some (hSz h0))), none, none] [])) ?_ _ _ _ e14 ?_
  · rintro ⟨x1_4, h_4⟩ o hF hgo hr
    change F_X2_start_B10 (some (hSz h0)) x1_4 h_4 = some o at hF
    generalize (some (hSz h0)) = k0_4 at hF hgo hr ⊢
    unfold F_X2_start_B10 at hF
    show G p l e R s m args below meth c (RQ D dA h0 (.inr (some (va_rf rE)), hE) below s) D dA h0 3 h_4 10 [some (va_rf k0_4), some (.int x1_4), none] []
    refine g_iload_n X dX2_start_10 rfl rfl ?_
    refine g_iconst (v := (4 : Int32)) X dX2_start_11 (by decide) ?_
    refine g_icmp_ge X 41 dX2_start_12 (by decide) (fun c5 => ?_) (fun c5 => ?_)
    · have hF := (if_pos c5).symm.trans hF
      refine G.drop [true, false, false] rfl ?_
      cases hF
      exact hr _ rfl
    · have hF := (if_neg c5).symm.trans hF
      refine g_iconst (v := (0 : Int32)) X dX2_start_15 (by decide) ?_
      refine g_istore_n (L' := [some (va_rf k0_4), some (.int x1_4), some (.int (0 : Int32))]) X dX2_start_16 rfl (Nat.le_of_ble_eq_true rfl) (by first | rfl | simp [stL, rm1, clr2, cat_rf, cat_i, cat_j, cat_f, cat_d]) ?_
      obtain ⟨h10, e11, hF⟩ := bnd hF
      refine lp_ind (Gs := (fun z => G p l e R s m args below meth c (RQ D dA h0 (.inr (some (va_rf rE)), hE) below s) D dA h0 3 z.2 17 [some (va_rf k0_4), some (.int x1_4), some (.int z.1)] [])) (Ge := (fun z => G p l e R s m args below meth c (RQ D dA h0 (.inr (some (va_rf rE)), hE) below s) D dA h0 3 z 35 [some (va_rf k0_4), some (.int x1_4), none] [])) ?_ _ _ _ e11 ?_
      · rintro ⟨x2_6, h_6⟩ o hF hgo hr
        change F_X2_start_B17 k0_4 x1_4 x2_6 h_6 = some o at hF
        unfold F_X2_start_B17 at hF
        show G p l e R s m args below meth c (RQ D dA h0 (.inr (some (va_rf rE)), hE) below s) D dA h0 3 h_6 17 [some (va_rf k0_4), some (.int x1_4), some (.int x2_6)] []
        refine g_iload_n X dX2_start_17 rfl rfl ?_
        refine g_iconst (v := (4 : Int32)) X dX2_start_18 (by decide) ?_
        refine g_icmp_ge X 35 dX2_start_19 (by decide) (fun c7 => ?_) (fun c7 => ?_)
        · have hF := (if_pos c7).symm.trans hF
          refine G.drop [true, true, false] rfl ?_
          cases hF
          exact hr _ rfl
        · have hF := (if_neg c7).symm.trans hF
          refine g_aload_n X dX2_start_22 rfl rfl ?_
          refine g_iload_n X dX2_start_23 rfl rfl ?_
          refine g_iload_n X dX2_start_24 rfl rfl ?_
          refine g_iconst (v := (0 : Int32)) X dX2_start_25 (by decide) ?_
          obtain ⟨ob8, eob8, hF⟩ := bnd hF
          obtain ⟨h9, eh9, hF⟩ := bnd hF
          refine g_callV X eob8 rfl rfl (w_X3_sets l hl D dA h_6 ob8 x1_4 x2_6 (0 : Int32) h9 eh9) q542 q500 q501 q97 q502 okn_X3_sets ⟨by rw [hRf]; exact Nat.le_of_ble_eq_true rfl, by rw [hRl]; exact Nat.le_of_ble_eq_true rfl⟩ (As := [.int x1_4, .int x2_6, .int (0 : Int32)]) (rest := []) rfl (by first | exact Nat.le_of_ble_eq_true rfl | simp [cat_rf, cat_i, cat_j, cat_f, cat_d]) dX2_start_26 (ac_0 ?_)
          refine g_iinc (v := (x2_6 + (1 : Int32))) (L' := [some (va_rf k0_4), some (.int x1_4), some (.int (x2_6 + (1 : Int32)))]) X dX2_start_29 (Nat.le_of_ble_eq_true rfl) rfl rfl (by first | rfl | simp [stL, rm1, clr2, cat_rf, cat_i, cat_j, cat_f, cat_d]) ?_
          refine g_goto X 17 dX2_start_32 (by decide) ?_
          cases hF
          exact hgo _ rfl
      show G p l e R s m args below meth c (RQ D dA h0 (.inr (some (va_rf rE)), hE) below s) D dA h0 3 h10 35 [some (va_rf k0_4), some (.int x1_4), none] []
      refine g_iinc (v := (x1_4 + (1 : Int32))) (L' := [some (va_rf k0_4), some (.int (x1_4 + (1 : Int32))), none]) X dX2_start_35 (Nat.le_of_ble_eq_true rfl) rfl rfl (by first | rfl | simp [stL, rm1, clr2, cat_rf, cat_i, cat_j, cat_f, cat_d]) ?_
      refine g_goto X 10 dX2_start_38 (by decide) ?_
      cases hF
      exact hgo _ rfl
  show G p l e R s m args below meth c (RQ D dA h0 (.inr (some (va_rf rE)), hE) below s) D dA h0 3 h13 41 [some (va_rf (some (hSz h0))), none, none] []
  refine g_aload_n X dX2_start_41 rfl rfl ?_
  cases hF
  exact g_aret X hr (Or.inl ⟨_, rfl⟩) dX2_start_42
def F_X2_gathered_B68 (this : Nat) (t1_36 : Option Nat) (x3_9 : Int32) (k4_19 : Option Nat) (x5_19 : Int32) (h_19 : HH) : Option ((Int32 × HH) ⊕ HH) :=
  Option.bind (getR h_19 2 1 (some this)) fun v20 =>
  Option.bind (isO h_19 8 v20) fun ob21 =>
  Option.bind (F_J2_size ob21 h_19) fun v22 =>
  if v22 ≤ x5_19 then (
    some (.inr h_19)
  ) else (
    Option.bind (getR h_19 2 1 (some this)) fun v24 =>
    Option.bind (isO h_19 8 v24) fun ob25 =>
    Option.bind (F_J2_get ob25 x5_19 h_19) fun v26 =>
    Option.bind (castO h_19 4 v26) fun _ =>
    Option.bind (isO h_19 2 (some this)) fun ob28 =>
    Option.bind (F_X2_goes ob28 k4_19 v26 t1_36 h_19) fun h29 =>
    some (.inl ((x5_19 + (1 : Int32)), h29))
  )
def F_X2_gathered_B38 (this : Nat) (t1_36 : Option Nat) (x3_9 : Int32) (h_9 : HH) : Option ((Int32 × HH) ⊕ HH) :=
  Option.bind (isO h_9 8 t1_36) fun ob10 =>
  Option.bind (F_J2_size ob10 h_9) fun v11 =>
  if v11 ≤ x3_9 then (
    some (.inr h_9)
  ) else (
    Option.bind (isO h_9 8 t1_36) fun ob13 =>
    Option.bind (F_J2_size ob13 h_9) fun v14 =>
    if (120 : Int32) < v14 then (
      some (.inr h_9)
    ) else (
      Option.bind (isO h_9 8 t1_36) fun ob16 =>
      Option.bind (F_J2_get ob16 x3_9 h_9) fun v17 =>
      Option.bind (castO h_9 5 v17) fun _ =>
      Option.bind (lp (fun z => F_X2_gathered_B68 this t1_36 x3_9 v17 z.1 z.2) 100000 ((0 : Int32), h_9)) fun h30 =>
      some (.inl ((x3_9 + (1 : Int32)), h30))
    )
  )
def F_X2_gathered_T36 (this : Nat) (t1_36 : Option Nat) (h_36 : HH) : Option (Option Nat × HH) :=
  Option.bind (lp (fun z => F_X2_gathered_B38 this t1_36 z.1 z.2) 100000 ((0 : Int32), h_36)) fun h33 =>
  Option.bind (isO h33 8 t1_36) fun ob34 =>
  Option.bind (F_J2_size ob34 h33) fun v35 =>
  some ((if v35 ≤ (120 : Int32) then t1_36 else none), h33)
def F_X2_gathered (this : Nat) (h0 : HH) : Option (Option Nat × HH) :=
  Option.bind (newO h0 8 3 [.int 0, .null, .int 0]) fun h1 =>
  Option.bind (nnl (some (hSz h0))) fun ob2 =>
  Option.bind (F_J2_init ob2 h1) fun h3 =>
  b2 (F_X2_start h3) fun v5 h4 =>
  Option.bind (isO h4 2 (some this)) fun ob6 =>
  b2 (F_X2_arrived ob6 (0 : Int32) v5 h4) fun v8 h7 =>
  if v8 = none then (
    F_X2_gathered_T36 this (some (hSz h0)) h7
  ) else (
    Option.bind (newO h7 5 3 [.int 0, .null, .int 0]) fun h40 =>
    Option.bind (nnl (some (hSz h7))) fun ob41 =>
    Option.bind (F_X7_init ob41 (0 : Int32) v8 (0 : Int32) h40) fun h42 =>
    Option.bind (isO h42 8 (some (hSz h0))) fun ob43 =>
    b2 (F_J2_add ob43 (some (hSz h7)) h42) fun v45 h44 =>
    F_X2_gathered_T36 this (some (hSz h0)) h44
  )
set_option maxHeartbeats 4000000 in
theorem w_X2_gathered (l : Launch) (hl : l.stackTraces = false) (D : va_G) (dA : Nat → ClassId) (h0 : HH) (this : Nat) (rE : Option Nat) (hE : HH) (hF : F_X2_gathered this h0 = some (rE, hE)) : MC D dA l yX2_gathered cX2_gathered 6 (Option.some (Jvm.ClassFile.FieldType.object "java/util/ArrayList")) [] 8 196 [va_rf (some this)] h0 (.inr (some (va_rf rE)), hE) := by
  refine mc_of hl (plainFor_of_name pn_X2) (by simp [lg_sl, cat_rf, cat_i, cat_j, cat_f, cat_d]) ?_
  intro p e s m args below meth c R hRf hRl X hr hnm
  unfold F_X2_gathered at hF
  rw [show argL [va_rf (some this)] = [some (va_rf (some this))] from by simp [argL, cat_rf, cat_i, cat_j, cat_f, cat_d]]
  refine G.pad 5 (L' := [some (va_rf (some this)), none, none, none, none, none]) rfl ?_
  obtain ⟨h1, eh1, hF⟩ := bnd hF
  refine g_new X in_J2 tyJ2 tyJ2_ok rfl q140 q141 q96 rfl dv_J2 eh1 dX2_gathered_0 ?_
  refine g_dup X dX2_gathered_3 (cat_rf _) ?_
  obtain ⟨ob2, eob2, hF⟩ := bnd hF
  obtain ⟨h3, eh3, hF⟩ := bnd hF
  refine g_callI X (nnl_some eob2) (w_J2_init l hl D dA h1 ob2  h3 eh3) rfl q142 q143 q96 q144 okn_J2_init ⟨by rw [hRf]; exact Nat.le_of_ble_eq_true rfl, by rw [hRl]; exact Nat.le_of_ble_eq_true rfl⟩ (As := []) (rest := [va_rf (some (hSz h0))]) rfl (by first | exact Nat.le_of_ble_eq_true rfl | simp [cat_rf, cat_i, cat_j, cat_f, cat_d]) dX2_gathered_4 (ac_0 ?_)
  refine g_astore_n (L' := [some (va_rf (some this)), some (va_rf (some (hSz h0))), none, none, none, none]) X dX2_gathered_7 rfl (Nat.le_of_ble_eq_true rfl) (by first | rfl | simp [stL, rm1, clr2, cat_rf, cat_i, cat_j, cat_f, cat_d]) ?_
  refine g_aload_n X dX2_gathered_8 rfl rfl ?_
  refine g_iconst (v := (0 : Int32)) X dX2_gathered_9 (by decide) ?_
  obtain ⟨v5, h4, eh4, hF⟩ := b2_some hF
  refine g_callS X (w_X2_start l hl D dA h3  v5 h4 eh4) q1422 q1423 q93 q1424 okn_X2_start ⟨by rw [hRf]; exact Nat.le_of_ble_eq_true rfl, by rw [hRl]; exact Nat.le_of_ble_eq_true rfl⟩ (As := []) (rest := [.int (0 : Int32), va_rf (some this)]) rfl (by first | exact Nat.le_of_ble_eq_true rfl | simp [cat_rf, cat_i, cat_j, cat_f, cat_d]) dX2_gathered_10 (ac_v ?_)
  obtain ⟨ob6, eob6, hF⟩ := bnd hF
  obtain ⟨v8, h7, eh7, hF⟩ := b2_some hF
  refine g_callV X eob6 rfl rfl (w_X2_arrived l hl D dA h4 ob6 (0 : Int32) v5 v8 h7 eh7) q1425 q1427 qs22 q93 q1428 okn_X2_arrived ⟨by rw [hRf]; exact Nat.le_of_ble_eq_true rfl, by rw [hRl]; exact Nat.le_of_ble_eq_true rfl⟩ (As := [.int (0 : Int32), va_rf v5]) (rest := []) rfl (by first | exact Nat.le_of_ble_eq_true rfl | simp [cat_rf, cat_i, cat_j, cat_f, cat_d]) dX2_gathered_13 (ac_v ?_)
  refine g_astore_n (L' := [some (va_rf (some this)), some (va_rf (some (hSz h0))), some (va_rf v8), none, none, none]) X dX2_gathered_16 rfl (Nat.le_of_ble_eq_true rfl) (by first | rfl | simp [stL, rm1, clr2, cat_rf, cat_i, cat_j, cat_f, cat_d]) ?_
  refine g_aload_n X dX2_gathered_17 rfl rfl ?_
  have T36 : ∀ (t1_36 : Option Nat) (h_36 : HH) , F_X2_gathered_T36 this t1_36 h_36 = some (rE, hE) → G p l e R s m args below meth c (RQ D dA h0 (.inr (some (va_rf rE)), hE) below s) D dA h0 6 h_36 36 [some (va_rf (some this)), some (va_rf t1_36), none, none, none, none] [] := by
    intro t1_36 h_36  hF 
    unfold F_X2_gathered_T36 at hF
    refine g_iconst (v := (0 : Int32)) X dX2_gathered_36 (by decide) ?_
    refine g_istore_n (L' := [some (va_rf (some this)), some (va_rf t1_36), none, some (.int (0 : Int32)), none, none]) X dX2_gathered_37 rfl (Nat.le_of_ble_eq_true rfl) (by first | rfl | simp [stL, rm1, clr2, cat_rf, cat_i, cat_j, cat_f, cat_d]) ?_
    obtain ⟨h33, e37, hF⟩ := bnd hF
    refine lp_ind (Gs := (fun z => G p l e R s m args below meth c (RQ D dA h0 (.inr (some (va_rf rE)), hE) below s) D dA h0 6 z.2 38 [some (va_rf (some this)), some (va_rf t1_36), none, some (.int z.1), none, none] [])) (Ge := (fun z => G p l e R s m args below meth c (RQ D dA h0 (.inr (some (va_rf rE)), hE) below s) D dA h0 6 z 111 [none, some (va_rf t1_36), none, none, none, none] [])) ?_ _ _ _ e37 ?_
    · rintro ⟨x3_9, h_9⟩ o hF hgo hr
      change F_X2_gathered_B38 this t1_36 x3_9 h_9 = some o at hF
      unfold F_X2_gathered_B38 at hF
      show G p l e R s m args below meth c (RQ D dA h0 (.inr (some (va_rf rE)), hE) below s) D dA h0 6 h_9 38 [some (va_rf (some this)), some (va_rf t1_36), none, some (.int x3_9), none, none] []
      refine g_iload_n X dX2_gathered_38 rfl rfl ?_
      refine g_aload_n X dX2_gathered_39 rfl rfl ?_
      obtain ⟨ob10, eob10, hF⟩ := bnd hF
      obtain ⟨v11, ev11, hF⟩ := bnd hF
      refine g_callV X eob10 rfl rfl (w_J2_size l hl D dA h_9 ob10  v11 ev11) q288 q289 q290 q96 q291 okn_J2_size ⟨by rw [hRf]; exact Nat.le_of_ble_eq_true rfl, by rw [hRl]; exact Nat.le_of_ble_eq_true rfl⟩ (As := []) (rest := [.int x3_9]) rfl (by first | exact Nat.le_of_ble_eq_true rfl | simp [cat_rf, cat_i, cat_j, cat_f, cat_d]) dX2_gathered_40 (ac_v ?_)
      refine g_icmp_ge X 111 dX2_gathered_43 (by decide) (fun c12 => ?_) (fun c12 => ?_)
      · have hF := (if_pos c12).symm.trans hF
        refine G.drop [false, true, false, false, false, false] rfl ?_
        cases hF
        exact hr _ rfl
      · have hF := (if_neg c12).symm.trans hF
        refine g_aload_n X dX2_gathered_46 rfl rfl ?_
        obtain ⟨ob13, eob13, hF⟩ := bnd hF
        obtain ⟨v14, ev14, hF⟩ := bnd hF
        refine g_callV X eob13 rfl rfl (w_J2_size l hl D dA h_9 ob13  v14 ev14) q288 q289 q290 q96 q291 okn_J2_size ⟨by rw [hRf]; exact Nat.le_of_ble_eq_true rfl, by rw [hRl]; exact Nat.le_of_ble_eq_true rfl⟩ (As := []) (rest := []) rfl (by first | exact Nat.le_of_ble_eq_true rfl | simp [cat_rf, cat_i, cat_j, cat_f, cat_d]) dX2_gathered_47 (ac_v ?_)
        refine g_bipush (v := (120 : Int32)) X dX2_gathered_50 (by decide) ?_
        refine g_icmp_gt X 111 dX2_gathered_52 (by decide) (fun c15 => ?_) (fun c15 => ?_)
        · have hF := (if_pos c15).symm.trans hF
          refine G.drop [false, true, false, false, false, false] rfl ?_
          cases hF
          exact hr _ rfl
        · have hF := (if_neg c15).symm.trans hF
          refine g_aload_n X dX2_gathered_55 rfl rfl ?_
          refine g_iload_n X dX2_gathered_56 rfl rfl ?_
          obtain ⟨ob16, eob16, hF⟩ := bnd hF
          obtain ⟨v17, ev17, hF⟩ := bnd hF
          refine g_callV X eob16 rfl rfl (w_J2_get l hl D dA h_9 ob16 x3_9 v17 ev17) q294 q295 q296 q96 q297 okn_J2_get ⟨by rw [hRf]; exact Nat.le_of_ble_eq_true rfl, by rw [hRl]; exact Nat.le_of_ble_eq_true rfl⟩ (As := [.int x3_9]) (rest := []) rfl (by first | exact Nat.le_of_ble_eq_true rfl | simp [cat_rf, cat_i, cat_j, cat_f, cat_d]) dX2_gathered_57 (ac_v ?_)
          obtain ⟨_, z18, hF⟩ := bnd hF
          refine g_castO X q1439 rfl z18 dX2_gathered_60 ?_
          refine g_astore (L' := [some (va_rf (some this)), some (va_rf t1_36), none, some (.int x3_9), some (va_rf v17), none]) X dX2_gathered_63 (Nat.le_of_ble_eq_true rfl) (by first | rfl | simp [stL, rm1, clr2, cat_rf, cat_i, cat_j, cat_f, cat_d]) ?_
          refine g_iconst (v := (0 : Int32)) X dX2_gathered_65 (by decide) ?_
          refine g_istore (L' := [some (va_rf (some this)), some (va_rf t1_36), none, some (.int x3_9), some (va_rf v17), some (.int (0 : Int32))]) X dX2_gathered_66 (Nat.le_of_ble_eq_true rfl) (by first | rfl | simp [stL, rm1, clr2, cat_rf, cat_i, cat_j, cat_f, cat_d]) ?_
          obtain ⟨h30, e31, hF⟩ := bnd hF
          refine lp_ind (Gs := (fun z => G p l e R s m args below meth c (RQ D dA h0 (.inr (some (va_rf rE)), hE) below s) D dA h0 6 z.2 68 [some (va_rf (some this)), some (va_rf t1_36), none, some (.int x3_9), some (va_rf v17), some (.int z.1)] [])) (Ge := (fun z => G p l e R s m args below meth c (RQ D dA h0 (.inr (some (va_rf rE)), hE) below s) D dA h0 6 z 105 [some (va_rf (some this)), some (va_rf t1_36), none, some (.int x3_9), none, none] [])) ?_ _ _ _ e31 ?_
          · rintro ⟨x5_19, h_19⟩ o hF hgo hr
            change F_X2_gathered_B68 this t1_36 x3_9 v17 x5_19 h_19 = some o at hF
            generalize v17 = k4_19 at hF hgo hr ⊢
            unfold F_X2_gathered_B68 at hF
            show G p l e R s m args below meth c (RQ D dA h0 (.inr (some (va_rf rE)), hE) below s) D dA h0 6 h_19 68 [some (va_rf (some this)), some (va_rf t1_36), none, some (.int x3_9), some (va_rf k4_19), some (.int x5_19)] []
            refine g_iload X dX2_gathered_68 rfl ?_
            refine g_aload_n X dX2_gathered_70 rfl rfl ?_
            obtain ⟨v20, ev20, hF⟩ := bnd hF
            refine g_get (k := 1) X in_X2 rfl (by decide) q184 (Or.inl rfl) (getR_V ev20) dX2_gathered_71 ?_
            obtain ⟨ob21, eob21, hF⟩ := bnd hF
            obtain ⟨v22, ev22, hF⟩ := bnd hF
            refine g_callV X eob21 rfl rfl (w_J2_size l hl D dA h_19 ob21  v22 ev22) q288 q289 q290 q96 q291 okn_J2_size ⟨by rw [hRf]; exact Nat.le_of_ble_eq_true rfl, by rw [hRl]; exact Nat.le_of_ble_eq_true rfl⟩ (As := []) (rest := [.int x5_19]) rfl (by first | exact Nat.le_of_ble_eq_true rfl | simp [cat_rf, cat_i, cat_j, cat_f, cat_d]) dX2_gathered_74 (ac_v ?_)
            refine g_icmp_ge X 105 dX2_gathered_77 (by decide) (fun c23 => ?_) (fun c23 => ?_)
            · have hF := (if_pos c23).symm.trans hF
              refine G.drop [true, true, false, true, false, false] rfl ?_
              cases hF
              exact hr _ rfl
            · have hF := (if_neg c23).symm.trans hF
              refine g_aload_n X dX2_gathered_80 rfl rfl ?_
              refine g_aload X dX2_gathered_81 rfl ?_
              refine g_aload_n X dX2_gathered_83 rfl rfl ?_
              obtain ⟨v24, ev24, hF⟩ := bnd hF
              refine g_get (k := 1) X in_X2 rfl (by decide) q184 (Or.inl rfl) (getR_V ev24) dX2_gathered_84 ?_
              refine g_iload X dX2_gathered_87 rfl ?_
              obtain ⟨ob25, eob25, hF⟩ := bnd hF
              obtain ⟨v26, ev26, hF⟩ := bnd hF
              refine g_callV X eob25 rfl rfl (w_J2_get l hl D dA h_19 ob25 x5_19 v26 ev26) q294 q295 q296 q96 q297 okn_J2_get ⟨by rw [hRf]; exact Nat.le_of_ble_eq_true rfl, by rw [hRl]; exact Nat.le_of_ble_eq_true rfl⟩ (As := [.int x5_19]) (rest := [va_rf k4_19, va_rf (some this)]) rfl (by first | exact Nat.le_of_ble_eq_true rfl | simp [cat_rf, cat_i, cat_j, cat_f, cat_d]) dX2_gathered_89 (ac_v ?_)
              obtain ⟨_, z27, hF⟩ := bnd hF
              refine g_castO X q292 rfl z27 dX2_gathered_92 ?_
              refine g_aload_n X dX2_gathered_95 rfl rfl ?_
              obtain ⟨ob28, eob28, hF⟩ := bnd hF
              obtain ⟨h29, eh29, hF⟩ := bnd hF
              refine g_callV X eob28 rfl rfl (w_X2_goes l hl D dA h_19 ob28 k4_19 v26 t1_36 h29 eh29) q1460 q1462 qs24 q93 q1463 okn_X2_goes ⟨by rw [hRf]; exact Nat.le_of_ble_eq_true rfl, by rw [hRl]; exact Nat.le_of_ble_eq_true rfl⟩ (As := [va_rf k4_19, va_rf v26, va_rf t1_36]) (rest := []) rfl (by first | exact Nat.le_of_ble_eq_true rfl | simp [cat_rf, cat_i, cat_j, cat_f, cat_d]) dX2_gathered_96 (ac_0 ?_)
              refine g_iinc (v := (x5_19 + (1 : Int32))) (L' := [some (va_rf (some this)), some (va_rf t1_36), none, some (.int x3_9), some (va_rf k4_19), some (.int (x5_19 + (1 : Int32)))]) X dX2_gathered_99 (Nat.le_of_ble_eq_true rfl) rfl rfl (by first | rfl | simp [stL, rm1, clr2, cat_rf, cat_i, cat_j, cat_f, cat_d]) ?_
              refine g_goto X 68 dX2_gathered_102 (by decide) ?_
              cases hF
              exact hgo _ rfl
          show G p l e R s m args below meth c (RQ D dA h0 (.inr (some (va_rf rE)), hE) below s) D dA h0 6 h30 105 [some (va_rf (some this)), some (va_rf t1_36), none, some (.int x3_9), none, none] []
          refine g_iinc (v := (x3_9 + (1 : Int32))) (L' := [some (va_rf (some this)), some (va_rf t1_36), none, some (.int (x3_9 + (1 : Int32))), none, none]) X dX2_gathered_105 (Nat.le_of_ble_eq_true rfl) rfl rfl (by first | rfl | simp [stL, rm1, clr2, cat_rf, cat_i, cat_j, cat_f, cat_d]) ?_
          refine g_goto X 38 dX2_gathered_108 (by decide) ?_
          cases hF
          exact hgo _ rfl
    show G p l e R s m args below meth c (RQ D dA h0 (.inr (some (va_rf rE)), hE) below s) D dA h0 6 h33 111 [none, some (va_rf t1_36), none, none, none, none] []
    refine g_aload_n X dX2_gathered_111 rfl rfl ?_
    obtain ⟨ob34, eob34, hF⟩ := bnd hF
    obtain ⟨v35, ev35, hF⟩ := bnd hF
    refine g_callV X eob34 rfl rfl (w_J2_size l hl D dA h33 ob34  v35 ev35) q288 q289 q290 q96 q291 okn_J2_size ⟨by rw [hRf]; exact Nat.le_of_ble_eq_true rfl, by rw [hRl]; exact Nat.le_of_ble_eq_true rfl⟩ (As := []) (rest := []) rfl (by first | exact Nat.le_of_ble_eq_true rfl | simp [cat_rf, cat_i, cat_j, cat_f, cat_d]) dX2_gathered_112 (ac_v ?_)
    refine g_bipush (v := (120 : Int32)) X dX2_gathered_115 (by decide) ?_
    suffices K : G p l e R s m args below meth c (RQ D dA h0 (.inr (some (va_rf rE)), hE) below s) D dA h0 6 h33 125 [none, none, none, none, none, none] [va_rf (if v35 ≤ (120 : Int32) then t1_36 else none)] by
      refine g_icmp_le X 124 dX2_gathered_117 (by decide) (fun c36 => ?_) (fun c36 => ?_)
      · (try simp only [if_pos c36] at K)
        refine g_aload_n X dX2_gathered_124 rfl rfl ?_
        refine G.drop [false, false, false, false, false, false] rfl ?_
        first | exact K | (simp only [if_pos c36]; exact K)
      · (try simp only [if_neg c36] at K)
        refine g_null X dX2_gathered_120 ?_
        refine g_goto X 125 dX2_gathered_121 (by decide) ?_
        refine G.drop [false, false, false, false, false, false] rfl ?_
        first | exact K | (simp only [if_neg c36]; exact K)
    cases hF
    exact g_aret X hr (Or.inl ⟨_, rfl⟩) dX2_gathered_125
  refine g_ifnull X 36 dX2_gathered_18 (by decide) (fun c39 => ?_) (fun c39 => ?_)
  · have hF := (if_pos c39).symm.trans hF
    refine G.drop [true, true, false, false, false, false] rfl ?_
    exact T36 _ _ hF
  · have hF := (if_neg c39).symm.trans hF
    refine g_aload_n X dX2_gathered_21 rfl rfl ?_
    obtain ⟨h40, eh40, hF⟩ := bnd hF
    refine g_new X in_X7 tyX7 tyX7_ok rfl q1439 q1440 q118 rfl dv_X7 eh40 dX2_gathered_22 ?_
    refine g_dup X dX2_gathered_25 (cat_rf _) ?_
    refine g_iconst (v := (0 : Int32)) X dX2_gathered_26 (by decide) ?_
    refine g_aload_n X dX2_gathered_27 rfl rfl ?_
    refine g_iconst (v := (0 : Int32)) X dX2_gathered_28 (by decide) ?_
    obtain ⟨ob41, eob41, hF⟩ := bnd hF
    obtain ⟨h42, eh42, hF⟩ := bnd hF
    refine g_callI X (nnl_some eob41) (w_X7_init l hl D dA h40 ob41 (0 : Int32) v8 (0 : Int32) h42 eh42) rfl q1441 q1442 q118 q1443 okn_X7_init ⟨by rw [hRf]; exact Nat.le_of_ble_eq_true rfl, by rw [hRl]; exact Nat.le_of_ble_eq_true rfl⟩ (As := [.int (0 : Int32), va_rf v8, .int (0 : Int32)]) (rest := [va_rf (some (hSz h7)), va_rf (some (hSz h0))]) rfl (by first | exact Nat.le_of_ble_eq_true rfl | simp [cat_rf, cat_i, cat_j, cat_f, cat_d]) dX2_gathered_29 (ac_0 ?_)
    obtain ⟨ob43, eob43, hF⟩ := bnd hF
    obtain ⟨v45, h44, eh44, hF⟩ := b2_some hF
    refine g_callV X eob43 rfl rfl (w_J2_add l hl D dA h42 ob43 (some (hSz h7)) v45 h44 eh44) q337 q338 q339 q96 q340 okn_J2_add ⟨by rw [hRf]; exact Nat.le_of_ble_eq_true rfl, by rw [hRl]; exact Nat.le_of_ble_eq_true rfl⟩ (As := [va_rf (some (hSz h7))]) (rest := []) rfl (by first | exact Nat.le_of_ble_eq_true rfl | simp [cat_rf, cat_i, cat_j, cat_f, cat_d]) dX2_gathered_32 (ac_v ?_)
    refine g_pop X dX2_gathered_35 rfl ?_
    refine G.drop [true, true, false, false, false, false] rfl ?_
    exact T36 _ _ hF
def F_X2_fewestTicksTo_T52 (this : Nat) (a1 : Int32) (k2_4 : Option Nat) (x3_4 : Int32) (x4_4 : Int32) (y0_52 : Int32) (h2 : HH) : Option ((Int32 × Int32) ⊕ Int32) :=
  if y0_52 = 0 then (
    some (.inl (x3_4, (x4_4 + (1 : Int32))))
  ) else (
    Option.bind (aldI h2 0 k2_4 x4_4) fun v8 =>
    some (.inl (v8, (x4_4 + (1 : Int32))))
  )
def F_X2_fewestTicksTo_B14 (this : Nat) (a1 : Int32) (k2_4 : Option Nat) (x3_4 : Int32) (x4_4 : Int32) (h2 : HH) : Option ((Int32 × Int32) ⊕ Int32) :=
  if ((1331 : Int32) * (a1 + (1 : Int32))) ≤ x4_4 then (
    some (.inr x3_4)
  ) else (
    Option.bind (aldI h2 0 k2_4 x4_4) fun v6 =>
    if v6 = (-1 : Int32) then (
      F_X2_fewestTicksTo_T52 this a1 k2_4 x3_4 x4_4 (0 : Int32) h2
    ) else (
      if x3_4 = (-1 : Int32) then (
        F_X2_fewestTicksTo_T52 this a1 k2_4 x3_4 x4_4 (1 : Int32) h2
      ) else (
        Option.bind (aldI h2 0 k2_4 x4_4) fun v11 =>
        if x3_4 ≤ v11 then (
          F_X2_fewestTicksTo_T52 this a1 k2_4 x3_4 x4_4 (0 : Int32) h2
        ) else (
          F_X2_fewestTicksTo_T52 this a1 k2_4 x3_4 x4_4 (1 : Int32) h2
        )
      )
    )
  )
def F_X2_fewestTicksTo (this : Nat) (a1 : Int32) (h0 : HH) : Option (Int32 × HH) :=
  Option.bind (isO h0 2 (some this)) fun ob1 =>
  b2 (F_X2_ticksTo ob1 h0) fun v3 h2 =>
  Option.bind (lp (fun z => F_X2_fewestTicksTo_B14 this a1 v3 z.1 z.2 h2) 100000 ((-1 : Int32), ((1331 : Int32) * a1))) fun v13 =>
  some (v13, h2)
set_option maxHeartbeats 4000000 in
theorem w_X2_fewestTicksTo (l : Launch) (hl : l.stackTraces = false) (D : va_G) (dA : Nat → ClassId) (h0 : HH) (this : Nat) (a1 : Int32) (rE : Int32) (hE : HH) (hF : F_X2_fewestTicksTo this a1 h0 = some (rE, hE)) : MC D dA l yX2_fewestTicksTo cX2_fewestTicksTo 6 (Option.some Jvm.ClassFile.FieldType.int) [] 5 127 [va_rf (some this), .int a1] h0 (.inr (some (.int rE)), hE) := by
  refine mc_of hl (plainFor_of_name pn_X2) (by simp [lg_sl, cat_rf, cat_i, cat_j, cat_f, cat_d]) ?_
  intro p e s m args below meth c R hRf hRl X hr hnm
  unfold F_X2_fewestTicksTo at hF
  rw [show argL [va_rf (some this), .int a1] = [some (va_rf (some this)), some (.int a1)] from by simp [argL, cat_rf, cat_i, cat_j, cat_f, cat_d]]
  refine G.pad 4 (L' := [some (va_rf (some this)), some (.int a1), none, none, none, none]) rfl ?_
  refine g_aload_n X dX2_fewestTicksTo_0 rfl rfl ?_
  obtain ⟨ob1, eob1, hF⟩ := bnd hF
  obtain ⟨v3, h2, eh2, hF⟩ := b2_some hF
  refine g_callV X eob1 rfl rfl (w_X2_ticksTo l hl D dA h0 ob1  v3 h2 eh2) q827 q828 q829 q93 q830 okn_X2_ticksTo ⟨by rw [hRf]; exact Nat.le_of_ble_eq_true rfl, by rw [hRl]; exact Nat.le_of_ble_eq_true rfl⟩ (As := []) (rest := []) rfl (by first | exact Nat.le_of_ble_eq_true rfl | simp [cat_rf, cat_i, cat_j, cat_f, cat_d]) dX2_fewestTicksTo_1 (ac_v ?_)
  refine g_astore_n (L' := [some (va_rf (some this)), some (.int a1), some (va_rf v3), none, none, none]) X dX2_fewestTicksTo_4 rfl (Nat.le_of_ble_eq_true rfl) (by first | rfl | simp [stL, rm1, clr2, cat_rf, cat_i, cat_j, cat_f, cat_d]) ?_
  refine g_iconst (v := (-1 : Int32)) X dX2_fewestTicksTo_5 (by decide) ?_
  refine g_istore_n (L' := [some (va_rf (some this)), some (.int a1), some (va_rf v3), some (.int (-1 : Int32)), none, none]) X dX2_fewestTicksTo_6 rfl (Nat.le_of_ble_eq_true rfl) (by first | rfl | simp [stL, rm1, clr2, cat_rf, cat_i, cat_j, cat_f, cat_d]) ?_
  refine g_sipush (v := (1331 : Int32)) X dX2_fewestTicksTo_7 (by decide) ?_
  refine g_iload_n X dX2_fewestTicksTo_10 rfl rfl ?_
  refine g_imul X dX2_fewestTicksTo_11 ?_
  refine g_istore (L' := [some (va_rf (some this)), some (.int a1), some (va_rf v3), some (.int (-1 : Int32)), some (.int ((1331 : Int32) * a1)), none]) X dX2_fewestTicksTo_12 (Nat.le_of_ble_eq_true rfl) (by first | rfl | simp [stL, rm1, clr2, cat_rf, cat_i, cat_j, cat_f, cat_d]) ?_
  refine G.drop [false, true, true, true, true, false] rfl ?_
  obtain ⟨v13, e14, hF⟩ := bnd hF
  refine lp_ind (Gs := (fun z => G p l e R s m args below meth c (RQ D dA h0 (.inr (some (.int rE)), hE) below s) D dA h0 6 h2 14 [none, some (.int a1), some (va_rf v3), some (.int z.1), some (.int z.2), none] [])) (Ge := (fun z => G p l e R s m args below meth c (RQ D dA h0 (.inr (some (.int rE)), hE) below s) D dA h0 6 h2 74 [none, none, none, some (.int z), none, none] [])) ?_ _ _ _ e14 ?_
  · rintro ⟨x3_4, x4_4⟩ o hF hgo hr
    change F_X2_fewestTicksTo_B14 this a1 v3 x3_4 x4_4 h2 = some o at hF
    generalize v3 = k2_4 at hF hgo hr ⊢
    unfold F_X2_fewestTicksTo_B14 at hF
    show G p l e R s m args below meth c (RQ D dA h0 (.inr (some (.int rE)), hE) below s) D dA h0 6 h2 14 [none, some (.int a1), some (va_rf k2_4), some (.int x3_4), some (.int x4_4), none] []
    refine g_iload X dX2_fewestTicksTo_14 rfl ?_
    refine g_sipush (v := (1331 : Int32)) X dX2_fewestTicksTo_16 (by decide) ?_
    refine g_iload_n X dX2_fewestTicksTo_19 rfl rfl ?_
    refine g_iconst (v := (1 : Int32)) X dX2_fewestTicksTo_20 (by decide) ?_
    refine g_iadd X dX2_fewestTicksTo_21 ?_
    refine g_imul X dX2_fewestTicksTo_22 ?_
    refine g_icmp_ge X 74 dX2_fewestTicksTo_23 (by decide) (fun c5 => ?_) (fun c5 => ?_)
    · have hF := (if_pos c5).symm.trans hF
      refine G.drop [false, false, false, true, false, false] rfl ?_
      cases hF
      exact hr _ rfl
    · have hF := (if_neg c5).symm.trans hF
      refine g_aload_n X dX2_fewestTicksTo_26 rfl rfl ?_
      refine g_iload X dX2_fewestTicksTo_27 rfl ?_
      obtain ⟨v6, ev6, hF⟩ := bnd hF
      refine g_iald X ev6 dX2_fewestTicksTo_29 ?_
      refine g_iconst (v := (-1 : Int32)) X dX2_fewestTicksTo_30 (by decide) ?_
      have T52 : ∀ (y0_52 : Int32) (o : (Int32 × Int32) ⊕ Int32), F_X2_fewestTicksTo_T52 this a1 k2_4 x3_4 x4_4 y0_52 h2 = some o → (∀ y, o = .inl y → (fun z => G p l e R s m args below meth c (RQ D dA h0 (.inr (some (.int rE)), hE) below s) D dA h0 6 h2 14 [none, some (.int a1), some (va_rf k2_4), some (.int z.1), some (.int z.2), none] []) y) → (∀ r, o = .inr r → (fun z => G p l e R s m args below meth c (RQ D dA h0 (.inr (some (.int rE)), hE) below s) D dA h0 6 h2 74 [none, none, none, some (.int z), none, none] []) r) → G p l e R s m args below meth c (RQ D dA h0 (.inr (some (.int rE)), hE) below s) D dA h0 6 h2 52 [none, some (.int a1), some (va_rf k2_4), some (.int x3_4), some (.int x4_4), none] [.int y0_52] := by
        intro y0_52 o hF hgo hr
        unfold F_X2_fewestTicksTo_T52 at hF
        refine g_istore (L' := [none, some (.int a1), some (va_rf k2_4), some (.int x3_4), some (.int x4_4), some (.int y0_52)]) X dX2_fewestTicksTo_52 (Nat.le_of_ble_eq_true rfl) (by first | rfl | simp [stL, rm1, clr2, cat_rf, cat_i, cat_j, cat_f, cat_d]) ?_
        refine g_iload X dX2_fewestTicksTo_54 rfl ?_
        refine g_if_eq X 66 dX2_fewestTicksTo_56 (by decide) (fun c7 => ?_) (fun c7 => ?_)
        · have hF := (if_pos c7).symm.trans hF
          refine g_iload_n X dX2_fewestTicksTo_66 rfl rfl ?_
          refine g_istore_n (L' := [none, some (.int a1), some (va_rf k2_4), some (.int x3_4), some (.int x4_4), some (.int y0_52)]) X dX2_fewestTicksTo_67 rfl (Nat.le_of_ble_eq_true rfl) (by first | rfl | simp [stL, rm1, clr2, cat_rf, cat_i, cat_j, cat_f, cat_d]) ?_
          refine g_iinc (v := (x4_4 + (1 : Int32))) (L' := [none, some (.int a1), some (va_rf k2_4), some (.int x3_4), some (.int (x4_4 + (1 : Int32))), some (.int y0_52)]) X dX2_fewestTicksTo_68 (Nat.le_of_ble_eq_true rfl) rfl rfl (by first | rfl | simp [stL, rm1, clr2, cat_rf, cat_i, cat_j, cat_f, cat_d]) ?_
          refine g_goto X 14 dX2_fewestTicksTo_71 (by decide) ?_
          refine G.drop [false, true, true, true, true, false] rfl ?_
          cases hF
          exact hgo _ rfl
        · have hF := (if_neg c7).symm.trans hF
          refine g_aload_n X dX2_fewestTicksTo_59 rfl rfl ?_
          refine g_iload X dX2_fewestTicksTo_60 rfl ?_
          obtain ⟨v8, ev8, hF⟩ := bnd hF
          refine g_iald X ev8 dX2_fewestTicksTo_62 ?_
          refine g_goto X 67 dX2_fewestTicksTo_63 (by decide) ?_
          refine g_istore_n (L' := [none, some (.int a1), some (va_rf k2_4), some (.int v8), some (.int x4_4), some (.int y0_52)]) X dX2_fewestTicksTo_67 rfl (Nat.le_of_ble_eq_true rfl) (by first | rfl | simp [stL, rm1, clr2, cat_rf, cat_i, cat_j, cat_f, cat_d]) ?_
          refine g_iinc (v := (x4_4 + (1 : Int32))) (L' := [none, some (.int a1), some (va_rf k2_4), some (.int v8), some (.int (x4_4 + (1 : Int32))), some (.int y0_52)]) X dX2_fewestTicksTo_68 (Nat.le_of_ble_eq_true rfl) rfl rfl (by first | rfl | simp [stL, rm1, clr2, cat_rf, cat_i, cat_j, cat_f, cat_d]) ?_
          refine g_goto X 14 dX2_fewestTicksTo_71 (by decide) ?_
          refine G.drop [false, true, true, true, true, false] rfl ?_
          cases hF
          exact hgo _ rfl
      refine g_icmp_eq X 51 dX2_fewestTicksTo_31 (by decide) (fun c9 => ?_) (fun c9 => ?_)
      · have hF := (if_pos c9).symm.trans hF
        refine g_iconst (v := (0 : Int32)) X dX2_fewestTicksTo_51 (by decide) ?_
        exact T52 _ _ hF hgo hr
      · have hF := (if_neg c9).symm.trans hF
        refine g_iload_n X dX2_fewestTicksTo_34 rfl rfl ?_
        refine g_iconst (v := (-1 : Int32)) X dX2_fewestTicksTo_35 (by decide) ?_
        refine g_icmp_eq X 47 dX2_fewestTicksTo_36 (by decide) (fun c10 => ?_) (fun c10 => ?_)
        · have hF := (if_pos c10).symm.trans hF
          refine g_iconst (v := (1 : Int32)) X dX2_fewestTicksTo_47 (by decide) ?_
          refine g_goto X 52 dX2_fewestTicksTo_48 (by decide) ?_
          exact T52 _ _ hF hgo hr
        · have hF := (if_neg c10).symm.trans hF
          refine g_aload_n X dX2_fewestTicksTo_39 rfl rfl ?_
          refine g_iload X dX2_fewestTicksTo_40 rfl ?_
          obtain ⟨v11, ev11, hF⟩ := bnd hF
          refine g_iald X ev11 dX2_fewestTicksTo_42 ?_
          refine g_iload_n X dX2_fewestTicksTo_43 rfl rfl ?_
          refine g_icmp_ge X 51 dX2_fewestTicksTo_44 (by decide) (fun c12 => ?_) (fun c12 => ?_)
          · have hF := (if_pos c12).symm.trans hF
            refine g_iconst (v := (0 : Int32)) X dX2_fewestTicksTo_51 (by decide) ?_
            exact T52 _ _ hF hgo hr
          · have hF := (if_neg c12).symm.trans hF
            refine g_iconst (v := (1 : Int32)) X dX2_fewestTicksTo_47 (by decide) ?_
            refine g_goto X 52 dX2_fewestTicksTo_48 (by decide) ?_
            exact T52 _ _ hF hgo hr
  show G p l e R s m args below meth c (RQ D dA h0 (.inr (some (.int rE)), hE) below s) D dA h0 6 h2 74 [none, none, none, some (.int v13), none, none] []
  refine g_iload_n X dX2_fewestTicksTo_74 rfl rfl ?_
  cases hF
  exact g_iret X hr dX2_fewestTicksTo_75
