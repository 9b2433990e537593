def F_X1_longestDelay_B33 (this : Nat) (a1 : Int32) (a2 : Int32) (a3 : Int32) (k5_12 : Int32) (x4_12 : Int32) (x6_12 : Int32) (h_12 : HH) : Option ((Int32 × Int32 × HH) ⊕ (Int32 × HH)) :=
  if k5_12 < x6_12 then (
    some (.inr (x4_12, h_12))
  ) else (
    Option.bind (getR h_12 0 0 (some this)) fun v14 =>
    Option.bind (getR h_12 2 3 v14) fun v15 =>
    Option.bind (newA h_12 0 (3 : Int32)) fun h16 =>
    Option.bind (astI h16 (some (hSz h_12)) (0 : Int32) (a1 + x6_12)) fun h17 =>
    Option.bind (astI h17 (some (hSz h_12)) (1 : Int32) (a2 + x6_12)) fun h18 =>
    Option.bind (astI h18 (some (hSz h_12)) (2 : Int32) (a3 + x6_12)) fun h19 =>
    Option.bind (isO h19 3 v15) fun ob20 =>
    Option.bind (F_X3_has ob20 (some (hSz h_12)) h19) fun v21 =>
    some (.inl ((if v21 = 0 then x4_12 else x6_12), (x6_12 + (1 : Int32)), h19))
  )
def F_X1_longestDelay (this : Nat) (a1 : Int32) (a2 : Int32) (a3 : Int32) (h0 : HH) : Option (((Nat × String) ⊕ Int32) × HH) :=
  Option.bind (newA h0 0 (3 : Int32)) fun h1 =>
  Option.bind (astI h1 (some (hSz h0)) (0 : Int32) a1) fun h2 =>
  Option.bind (astI h2 (some (hSz h0)) (1 : Int32) a2) fun h3 =>
  Option.bind (astI h3 (some (hSz h0)) (2 : Int32) a3) fun h4 =>
  Option.bind (F_X1_isMoment (some (hSz h0)) h4) fun v5 =>
  thr (F_X1_needArgument v5 h4) (fun q8 h6 =>
    some (.inl q8, h6)
  ) (fun u7 h6 =>
    Option.bind (isO h6 0 (some this)) fun ob10 =>
    Option.bind (F_X1_mostTold ob10 h6) fun v11 =>
    Option.bind (lp (fun z => F_X1_longestDelay_B33 this a1 a2 a3 v11 z.1 z.2.1 z.2.2) 100000 ((-1 : Int32), (0 : Int32), h6)) fun (v23, h24) =>
    thr (F_X1_needSuch (if v23 = (-1 : Int32) then (0 : Int32) else (if v11 ≤ v23 then (0 : Int32) else (1 : Int32))) h24) (fun q29 h27 =>
      some (.inl q29, h27)
    ) (fun u28 h27 =>
      some (.inr v23, h27)
    )
  )
set_option maxHeartbeats 4000000 in
theorem w_X1_longestDelay (l : Launch) (hl : l.stackTraces = false) (D : va_G) (dA : Nat → ClassId) (h0 : HH) (this : Nat) (a1 : Int32) (a2 : Int32) (a3 : Int32) (oE : (Nat × String) ⊕ Int32) (hE : HH) (hF : F_X1_longestDelay this a1 a2 a3 h0 = some (oE, hE)) : MC D dA l yX1_longestDelay cX1_longestDelay 7 (Option.some Jvm.ClassFile.FieldType.int) [] 9 220 [va_rf (some this), .int a1, .int a2, .int a3] h0 (rsI oE, hE) := by
  refine mc_of hl (plainFor_of_name pn_X1) (by simp [lg_sl, cat_rf, cat_i, cat_j, cat_f, cat_d]) ?_
  intro p e s m args below meth c R hRf hRl X hr hnm
  unfold F_X1_longestDelay at hF
  rw [show argL [va_rf (some this), .int a1, .int a2, .int a3] = [some (va_rf (some this)), some (.int a1), some (.int a2), some (.int a3)] from by simp [argL, cat_rf, cat_i, cat_j, cat_f, cat_d]]
  refine G.pad 3 (L' := [some (va_rf (some this)), some (.int a1), some (.int a2), some (.int a3), none, none, none]) rfl ?_
  refine g_iconst (v := (3 : Int32)) X dX1_longestDelay_0 (by decide) ?_
  obtain ⟨h1, eh1, hF⟩ := bnd hF
  refine g_newa (atype := .int) (t := 0) X q182 rfl (funext fun _ => rfl) (by decide) eh1 dX1_longestDelay_1 ?_
  refine g_dup X dX1_longestDelay_3 (cat_rf _) ?_
  refine g_iconst (v := (0 : Int32)) X dX1_longestDelay_4 (by decide) ?_
  refine g_iload_n X dX1_longestDelay_5 rfl rfl ?_
  obtain ⟨h2, eh2, hF⟩ := bnd hF
  refine g_iast X eh2 dX1_longestDelay_6 ?_
  refine g_dup X dX1_longestDelay_7 (cat_rf _) ?_
  refine g_iconst (v := (1 : Int32)) X dX1_longestDelay_8 (by decide) ?_
  refine g_iload_n X dX1_longestDelay_9 rfl rfl ?_
  obtain ⟨h3, eh3, hF⟩ := bnd hF
  refine g_iast X eh3 dX1_longestDelay_10 ?_
  refine g_dup X dX1_longestDelay_11 (cat_rf _) ?_
  refine g_iconst (v := (2 : Int32)) X dX1_longestDelay_12 (by decide) ?_
  refine g_iload_n X dX1_longestDelay_13 rfl rfl ?_
  obtain ⟨h4, eh4, hF⟩ := bnd hF
  refine g_iast X eh4 dX1_longestDelay_14 ?_
  obtain ⟨v5, ev5, hF⟩ := bnd hF
  refine g_callS X (w_X1_isMoment l hl D dA h4 (some (hSz h0)) v5 ev5) q1288 q1289 q92 q1290 okn_X1_isMoment ⟨by rw [hRf]; exact Nat.le_of_ble_eq_true rfl, by rw [hRl]; exact Nat.le_of_ble_eq_true rfl⟩ (As := [va_rf (some (hSz h0))]) (rest := []) rfl (by first | exact Nat.le_of_ble_eq_true rfl | simp [cat_rf, cat_i, cat_j, cat_f, cat_d]) dX1_longestDelay_15 (ac_v ?_)
  rcases thr_some hF with ⟨q8, h6, e9, hF⟩ | ⟨u7, h6, e9, hF⟩
  · refine g_callS X (w_X1_needArgument l hl D dA h4 v5 (.inl q8) h6 e9) q1254 q1255 q92 q1256 okn_X1_needArgument ⟨by rw [hRf]; exact Nat.le_of_ble_eq_true rfl, by rw [hRl]; exact Nat.le_of_ble_eq_true rfl⟩ (As := [.int v5]) (rest := []) rfl (by first | exact Nat.le_of_ble_eq_true rfl | simp [cat_rf, cat_i, cat_j, cat_f, cat_d]) dX1_longestDelay_18 (ac_x ?_)
    cases hF
    exact gx_out X (fun x hx => nomatch hx)
  · refine g_callS X (w_X1_needArgument l hl D dA h4 v5 (.inr u7) h6 e9) q1254 q1255 q92 q1256 okn_X1_needArgument ⟨by rw [hRf]; exact Nat.le_of_ble_eq_true rfl, by rw [hRl]; exact Nat.le_of_ble_eq_true rfl⟩ (As := [.int v5]) (rest := []) rfl (by first | exact Nat.le_of_ble_eq_true rfl | simp [cat_rf, cat_i, cat_j, cat_f, cat_d]) dX1_longestDelay_18 (ac_0 ?_)
    refine g_iconst (v := (-1 : Int32)) X dX1_longestDelay_21 (by decide) ?_
    refine g_istore (L' := [some (va_rf (some this)), some (.int a1), some (.int a2), some (.int a3), some (.int (-1 : Int32)), none, none]) X dX1_longestDelay_22 (Nat.le_of_ble_eq_true rfl) (by first | rfl | simp [stL, rm1, clr2, cat_rf, cat_i, cat_j, cat_f, cat_d]) ?_
    refine g_aload_n X dX1_longestDelay_24 rfl rfl ?_
    obtain ⟨ob10, eob10, hF⟩ := bnd hF
    obtain ⟨v11, ev11, hF⟩ := bnd hF
    refine g_callV X eob10 rfl rfl (w_X1_mostTold l hl D dA h6 ob10  v11 ev11) q1315 q1317 qs18 q92 q1318 okn_X1_mostTold ⟨by rw [hRf]; exact Nat.le_of_ble_eq_true rfl, by rw [hRl]; exact Nat.le_of_ble_eq_true rfl⟩ (As := []) (rest := []) rfl (by first | exact Nat.le_of_ble_eq_true rfl | simp [cat_rf, cat_i, cat_j, cat_f, cat_d]) dX1_longestDelay_25 (ac_v ?_)
    refine g_istore (L' := [some (va_rf (some this)), some (.int a1), some (.int a2), some (.int a3), some (.int (-1 : Int32)), some (.int v11), none]) X dX1_longestDelay_28 (Nat.le_of_ble_eq_true rfl) (by first | rfl | simp [stL, rm1, clr2, cat_rf, cat_i, cat_j, cat_f, cat_d]) ?_
    refine g_iconst (v := (0 : Int32)) X dX1_longestDelay_30 (by decide) ?_
    refine g_istore (L' := [some (va_rf (some this)), some (.int a1), some (.int a2), some (.int a3), some (.int (-1 : Int32)), some (.int v11), some (.int (0 : Int32))]) X dX1_longestDelay_31 (Nat.le_of_ble_eq_true rfl) (by first | rfl | simp [stL, rm1, clr2, cat_rf, cat_i, cat_j, cat_f, cat_d]) ?_
    obtain ⟨⟨v23, h24⟩, e31, hF⟩ := bnd hF
    dsimp only at hF
    refine lp_ind (Gs := (fun z => G p l e R s m args below meth c (RQ D dA h0 (rsI oE, hE) below s) D dA h0 7 z.2.2 33 [some (va_rf (some this)), some (.int a1), some (.int a2), some (.int a3), some (.int z.1), some (.int v11), some (.int z.2.1)] [])) (Ge := (fun z => G p l e R s m args below meth c (RQ D dA h0 (rsI oE, hE) below s) D dA h0 7 z.2 92 [none, none, none, none, some (.int z.1), some (.int v11), none] [])) ?_ _ _ _ e31 ?_
    · rintro ⟨x4_12, x6_12, h_12⟩ o hF hgo hr
      change F_X1_longestDelay_B33 this a1 a2 a3 v11 x4_12 x6_12 h_12 = some o at hF
      generalize v11 = k5_12 at hF hgo hr ⊢
      unfold F_X1_longestDelay_B33 at hF
      show G p l e R s m args below meth c (RQ D dA h0 (rsI oE, hE) below s) D dA h0 7 h_12 33 [some (va_rf (some this)), some (.int a1), some (.int a2), some (.int a3), some (.int x4_12), some (.int k5_12), some (.int x6_12)] []
      refine g_iload X dX1_longestDelay_33 rfl ?_
      refine g_iload X dX1_longestDelay_35 rfl ?_
      refine g_icmp_gt X 92 dX1_longestDelay_37 (by decide) (fun c13 => ?_) (fun c13 => ?_)
      · have hF := (if_pos c13).symm.trans hF
        refine G.drop [false, false, false, false, true, true, false] rfl ?_
        cases hF
        exact hr _ rfl
      · have hF := (if_neg c13).symm.trans hF
        refine g_aload_n X dX1_longestDelay_40 rfl rfl ?_
        obtain ⟨v14, ev14, hF⟩ := bnd hF
        refine g_get (k := 0) X in_X1 rfl (by decide) q255 (Or.inl rfl) (getR_V ev14) dX1_longestDelay_41 ?_
        obtain ⟨v15, ev15, hF⟩ := bnd hF
        refine g_getN (k := 3) X in_X2 rfl (by decide) (nw_in q189 rfl) rfl (getR_V ev15) dX1_longestDelay_44 ?_
        refine g_iconst (v := (3 : Int32)) X dX1_longestDelay_47 (by decide) ?_
        obtain ⟨h16, eh16, hF⟩ := bnd hF
        refine g_newa (atype := .int) (t := 0) X q182 rfl (funext fun _ => rfl) (by decide) eh16 dX1_longestDelay_48 ?_
        refine g_dup X dX1_longestDelay_50 (cat_rf _) ?_
        refine g_iconst (v := (0 : Int32)) X dX1_longestDelay_51 (by decide) ?_
        refine g_iload_n X dX1_longestDelay_52 rfl rfl ?_
        refine g_iload X dX1_longestDelay_53 rfl ?_
        refine g_iadd X dX1_longestDelay_55 ?_
        obtain ⟨h17, eh17, hF⟩ := bnd hF
        refine g_iast X eh17 dX1_longestDelay_56 ?_
        refine g_dup X dX1_longestDelay_57 (cat_rf _) ?_
        refine g_iconst (v := (1 : Int32)) X dX1_longestDelay_58 (by decide) ?_
        refine g_iload_n X dX1_longestDelay_59 rfl rfl ?_
        refine g_iload X dX1_longestDelay_60 rfl ?_
        refine g_iadd X dX1_longestDelay_62 ?_
        obtain ⟨h18, eh18, hF⟩ := bnd hF
        refine g_iast X eh18 dX1_longestDelay_63 ?_
        refine g_dup X dX1_longestDelay_64 (cat_rf _) ?_
        refine g_iconst (v := (2 : Int32)) X dX1_longestDelay_65 (by decide) ?_
        refine g_iload_n X dX1_longestDelay_66 rfl rfl ?_
        refine g_iload X dX1_longestDelay_67 rfl ?_
        refine g_iadd X dX1_longestDelay_69 ?_
        obtain ⟨h19, eh19, hF⟩ := bnd hF
        refine g_iast X eh19 dX1_longestDelay_70 ?_
        obtain ⟨ob20, eob20, hF⟩ := bnd hF
        obtain ⟨v21, ev21, hF⟩ := bnd hF
        refine g_callV X eob20 rfl rfl (w_X3_has l hl D dA h19 ob20 (some (hSz h_12)) v21 ev21) q1292 q803 q804 q97 q805 okn_X3_has ⟨by rw [hRf]; exact Nat.le_of_ble_eq_true rfl, by rw [hRl]; exact Nat.le_of_ble_eq_true rfl⟩ (As := [va_rf (some (hSz h_12))]) (rest := []) rfl (by first | exact Nat.le_of_ble_eq_true rfl | simp [cat_rf, cat_i, cat_j, cat_f, cat_d]) dX1_longestDelay_71 (ac_v ?_)
        suffices K : G p l e R s m args below meth c (RQ D dA h0 (rsI oE, hE) below s) D dA h0 7 h19 84 [some (va_rf (some this)), some (.int a1), some (.int a2), some (.int a3), none, some (.int k5_12), some (.int x6_12)] [.int (if v21 = 0 then x4_12 else x6_12)] by
          refine g_if_eq X 82 dX1_longestDelay_74 (by decide) (fun c22 => ?_) (fun c22 => ?_)
          · (try simp only [if_pos c22] at K)
            refine g_iload X dX1_longestDelay_82 rfl ?_
            refine G.drop [true, true, true, true, false, true, true] rfl ?_
            first | exact K | (simp only [if_pos c22]; exact K)
          · (try simp only [if_neg c22] at K)
            refine g_iload X dX1_longestDelay_77 rfl ?_
            refine g_goto X 84 dX1_longestDelay_79 (by decide) ?_
            refine G.drop [true, true, true, true, false, true, true] rfl ?_
            first | exact K | (simp only [if_neg c22]; exact K)
        refine g_istore (L' := [some (va_rf (some this)), some (.int a1), some (.int a2), some (.int a3), some (.int (if v21 = 0 then x4_12 else x6_12)), some (.int k5_12), some (.int x6_12)]) X dX1_longestDelay_84 (Nat.le_of_ble_eq_true rfl) (by first | rfl | simp [stL, rm1, clr2, cat_rf, cat_i, cat_j, cat_f, cat_d]) ?_
        refine g_iinc (v := (x6_12 + (1 : Int32))) (L' := [some (va_rf (some this)), some (.int a1), some (.int a2), some (.int a3), some (.int (if v21 = 0 then x4_12 else x6_12)), some (.int k5_12), some (.int (x6_12 + (1 : Int32)))]) X dX1_longestDelay_86 (Nat.le_of_ble_eq_true rfl) rfl rfl (by first | rfl | simp [stL, rm1, clr2, cat_rf, cat_i, cat_j, cat_f, cat_d]) ?_
        refine g_goto X 33 dX1_longestDelay_89 (by decide) ?_
        cases hF
        exact hgo _ rfl
    show G p l e R s m args below meth c (RQ D dA h0 (rsI oE, hE) below s) D dA h0 7 h24 92 [none, none, none, none, some (.int v23), some (.int v11), none] []
    refine g_iload X dX1_longestDelay_92 rfl ?_
    refine g_iconst (v := (-1 : Int32)) X dX1_longestDelay_94 (by decide) ?_
    suffices K : G p l e R s m args below meth c (RQ D dA h0 (rsI oE, hE) below s) D dA h0 7 h24 110 [none, none, none, none, some (.int v23), none, none] [.int (if v23 = (-1 : Int32) then (0 : Int32) else (if v11 ≤ v23 then (0 : Int32) else (1 : Int32)))] by
      refine g_icmp_eq X 109 dX1_longestDelay_95 (by decide) (fun c25 => ?_) (fun c25 => ?_)
      · (try simp only [if_pos c25] at K)
        refine g_iconst (v := (0 : Int32)) X dX1_longestDelay_109 (by decide) ?_
        refine G.drop [false, false, false, false, true, false, false] rfl ?_
        first | exact K | (simp only [if_pos c25]; exact K)
      · (try simp only [if_neg c25] at K)
        refine g_iload X dX1_longestDelay_98 rfl ?_
        refine g_iload X dX1_longestDelay_100 rfl ?_
        refine g_icmp_ge X 109 dX1_longestDelay_102 (by decide) (fun c26 => ?_) (fun c26 => ?_)
        · (try simp only [if_pos c26] at K)
          refine g_iconst (v := (0 : Int32)) X dX1_longestDelay_109 (by decide) ?_
          refine G.drop [false, false, false, false, true, false, false] rfl ?_
          first | exact K | (simp only [if_neg c25, if_pos c26]; exact K)
        · (try simp only [if_neg c26] at K)
          refine g_iconst (v := (1 : Int32)) X dX1_longestDelay_105 (by decide) ?_
          refine g_goto X 110 dX1_longestDelay_106 (by decide) ?_
          refine G.drop [false, false, false, false, true, false, false] rfl ?_
          first | exact K | (simp only [if_neg c25, if_neg c26]; exact K)
    rcases thr_some hF with ⟨q29, h27, e30, hF⟩ | ⟨u28, h27, e30, hF⟩
    · refine g_callS X (w_X1_needSuch l hl D dA h24 (if v23 = (-1 : Int32) then (0 : Int32) else (if v11 ≤ v23 then (0 : Int32) else (1 : Int32))) (.inl q29) h27 e30) q1261 q1262 q92 q1263 okn_X1_needSuch ⟨by rw [hRf]; exact Nat.le_of_ble_eq_true rfl, by rw [hRl]; exact Nat.le_of_ble_eq_true rfl⟩ (As := [.int (if v23 = (-1 : Int32) then (0 : Int32) else (if v11 ≤ v23 then (0 : Int32) else (1 : Int32)))]) (rest := []) rfl (by first | exact Nat.le_of_ble_eq_true rfl | simp [cat_rf, cat_i, cat_j, cat_f, cat_d]) dX1_longestDelay_110 (ac_x ?_)
      cases hF
      exact gx_out X (fun x hx => nomatch hx)
    · refine g_callS X (w_X1_needSuch l hl D dA h24 (if v23 = (-1 : Int32) then (0 : Int32) else (if v11 ≤ v23 then (0 : Int32) else (1 : Int32))) (.inr u28) h27 e30) q1261 q1262 q92 q1263 okn_X1_needSuch ⟨by rw [hRf]; exact Nat.le_of_ble_eq_true rfl, by rw [hRl]; exact Nat.le_of_ble_eq_true rfl⟩ (As := [.int (if v23 = (-1 : Int32) then (0 : Int32) else (if v11 ≤ v23 then (0 : Int32) else (1 : Int32)))]) (rest := []) rfl (by first | exact Nat.le_of_ble_eq_true rfl | simp [cat_rf, cat_i, cat_j, cat_f, cat_d]) dX1_longestDelay_110 (ac_0 ?_)
      refine g_iload X dX1_longestDelay_113 rfl ?_
      cases hF
      exact g_iret X hr dX1_longestDelay_115
def F_X1_needless_B17 (this : Nat) (k1_6 : Option Nat) (x2_6 : Int32) (x3_6 : Int32) (x2_8 : Int32) (x4_8 : Int32) (h_8 : HH) : Option ((Int32 × Int32 × HH) ⊕ (Int32 × HH)) :=
  if (4 : Int32) ≤ x4_8 then (
    some (.inr (x2_8, h_8))
  ) else (
    Option.bind (getR h_8 0 0 (some this)) fun v10 =>
    Option.bind (getR h_8 2 3 v10) fun v11 =>
    Option.bind (isO h_8 3 v11) fun ob12 =>
    Option.bind (F_X3_at ob12 x3_6 x4_8 h_8) fun v13 =>
    Option.bind (newO h_8 3 1 [.null]) fun h16 =>
    Option.bind (getR h16 0 0 (some this)) fun v17 =>
    Option.bind (getR h16 2 3 v17) fun v18 =>
    Option.bind (nnl (some (hSz h_8))) fun ob19 =>
    Option.bind (F_X3_init_2 ob19 v18 h16) fun h20 =>
    Option.bind (isO h20 3 (some (hSz h_8))) fun ob22 =>
    Option.bind (F_X3_sets ob22 x3_6 x4_8 (if x3_6 = x4_8 then (0 : Int32) else (F_X3_plain x3_6)) h20) fun h23 =>
    if (if x3_6 = x4_8 then (0 : Int32) else (if v13 = (F_X3_plain x3_6) then (0 : Int32) else (1 : Int32))) = 0 then (
      some (.inl ((x2_8 + (0 : Int32)), (x4_8 + (1 : Int32)), h23))
    ) else (
      Option.bind (isO h23 3 (some (hSz h_8))) fun ob25 =>
      b2 (F_X3_tight ob25 h23) fun v27 h26 =>
      Option.bind (isO h26 3 v27) fun ob28 =>
      Option.bind (F_X3_unlike ob28 k1_6 h26) fun v29 =>
      some (.inl ((x2_8 + (if v29 = 0 then (1 : Int32) else (0 : Int32))), (x4_8 + (1 : Int32)), h26))
    )
  )
def F_X1_needless_B9 (this : Nat) (k1_6 : Option Nat) (x2_6 : Int32) (x3_6 : Int32) (h_6 : HH) : Option ((Int32 × Int32 × HH) ⊕ (Int32 × HH)) :=
  if (4 : Int32) ≤ x3_6 then (
    some (.inr (x2_6, h_6))
  ) else (
    Option.bind (lp (fun z => F_X1_needless_B17 this k1_6 x2_6 x3_6 z.1 z.2.1 z.2.2) 100000 (x2_6, (0 : Int32), h_6)) fun (v31, h32) =>
    some (.inl (v31, (x3_6 + (1 : Int32)), h32))
  )
def F_X1_needless (this : Nat) (h0 : HH) : Option (((Nat × String) ⊕ Int32) × HH) :=
  Option.bind (isO h0 0 (some this)) fun ob1 =>
  thr (F_X1_tightOne ob1 h0) (fun q4 h2 =>
    some (.inl q4, h2)
  ) (fun v3 h2 =>
    Option.bind (lp (fun z => F_X1_needless_B9 this v3 z.1 z.2.1 z.2.2) 100000 ((0 : Int32), (0 : Int32), h2)) fun (v35, h36) =>
    some (.inr v35, h36)
  )
set_option maxHeartbeats 4000000 in
theorem w_X1_needless (l : Launch) (hl : l.stackTraces = false) (D : va_G) (dA : Nat → ClassId) (h0 : HH) (this : Nat) (oE : (Nat × String) ⊕ Int32) (hE : HH) (hF : F_X1_needless this h0 = some (oE, hE)) : MC D dA l yX1_needless cX1_needless 8 (Option.some Jvm.ClassFile.FieldType.int) [] 10 241 [va_rf (some this)] h0 (rsI oE, hE) := by
  refine mc_of hl (plainFor_of_name pn_X1) (by simp [lg_sl, cat_rf, cat_i, cat_j, cat_f, cat_d]) ?_
  intro p e s m args below meth c R hRf hRl X hr hnm
  unfold F_X1_needless at hF
  rw [show argL [va_rf (some this)] = [some (va_rf (some this))] from by simp [argL, cat_rf, cat_i, cat_j, cat_f, cat_d]]
  refine G.pad 7 (L' := [some (va_rf (some this)), none, none, none, none, none, none, none]) rfl ?_
  refine g_aload_n X dX1_needless_0 rfl rfl ?_
  obtain ⟨ob1, eob1, hF⟩ := bnd hF
  rcases thr_some hF with ⟨q4, h2, e5, hF⟩ | ⟨v3, h2, e5, hF⟩
  · refine g_callV X eob1 rfl rfl (w_X1_tightOne l hl D dA h0 ob1  (.inl q4) h2 e5) q1277 q1279 qs17 q92 q1280 okn_X1_tightOne ⟨by rw [hRf]; exact Nat.le_of_ble_eq_true rfl, by rw [hRl]; exact Nat.le_of_ble_eq_true rfl⟩ (As := []) (rest := []) rfl (by first | exact Nat.le_of_ble_eq_true rfl | simp [cat_rf, cat_i, cat_j, cat_f, cat_d]) dX1_needless_1 (ac_x ?_)
    cases hF
    exact gx_out X (fun x hx => nomatch hx)
  · refine g_callV X eob1 rfl rfl (w_X1_tightOne l hl D dA h0 ob1  (.inr v3) h2 e5) q1277 q1279 qs17 q92 q1280 okn_X1_tightOne ⟨by rw [hRf]; exact Nat.le_of_ble_eq_true rfl, by rw [hRl]; exact Nat.le_of_ble_eq_true rfl⟩ (As := []) (rest := []) rfl (by first | exact Nat.le_of_ble_eq_true rfl | simp [cat_rf, cat_i, cat_j, cat_f, cat_d]) dX1_needless_1 (ac_v ?_)
    refine g_astore_n (L' := [some (va_rf (some this)), some (va_rf v3), none, none, none, none, none, none]) X dX1_needless_4 rfl (Nat.le_of_ble_eq_true rfl) (by first | rfl | simp [stL, rm1, clr2, cat_rf, cat_i, cat_j, cat_f, cat_d]) ?_
    refine g_iconst (v := (0 : Int32)) X dX1_needless_5 (by decide) ?_
    refine g_istore_n (L' := [some (va_rf (some this)), some (va_rf v3), some (.int (0 : Int32)), none, none, none, none, none]) X dX1_needless_6 rfl (Nat.le_of_ble_eq_true rfl) (by first | rfl | simp [stL, rm1, clr2, cat_rf, cat_i, cat_j, cat_f, cat_d]) ?_
    refine g_iconst (v := (0 : Int32)) X dX1_needless_7 (by decide) ?_
    refine g_istore_n (L' := [some (va_rf (some this)), some (va_rf v3), some (.int (0 : Int32)), some (.int (0 : Int32)), none, none, none, none]) X dX1_needless_8 rfl (Nat.le_of_ble_eq_true rfl) (by first | rfl | simp [stL, rm1, clr2, cat_rf, cat_i, cat_j, cat_f, cat_d]) ?_
    obtain ⟨⟨v35, h36⟩, e37, hF⟩ := bnd hF
    dsimp only at hF
    refine lp_ind (Gs := (fun z => G p l e R s m args below meth c (RQ D dA h0 (rsI oE, hE) below s) D dA h0 8 z.2.2 9 [some (va_rf (some this)), some (va_rf v3), some (.int z.1), some (.int z.2.1), none, none, none, none] [])) (Ge := (fun z => G p l e R s m args below meth c (RQ D dA h0 (rsI oE, hE) below s) D dA h0 8 z.2 135 [none, none, some (.int z.1), none, none, none, none, none] [])) ?_ _ _ _ e37 ?_
    · rintro ⟨x2_6, x3_6, h_6⟩ o hF hgo hr
      change F_X1_needless_B9 this v3 x2_6 x3_6 h_6 = some o at hF
      generalize v3 = k1_6 at hF hgo hr ⊢
      unfold F_X1_needless_B9 at hF
      show G p l e R s m args below meth c (RQ D dA h0 (rsI oE, hE) below s) D dA h0 8 h_6 9 [some (va_rf (some this)), some (va_rf k1_6), some (.int x2_6), some (.int x3_6), none, none, none, none] []
      refine g_iload_n X dX1_needless_9 rfl rfl ?_
      refine g_iconst (v := (4 : Int32)) X dX1_needless_10 (by decide) ?_
      refine g_icmp_ge X 135 dX1_needless_11 (by decide) (fun c7 => ?_) (fun c7 => ?_)
      · have hF := (if_pos c7).symm.trans hF
        refine G.drop [false, false, true, false, false, false, false, false] rfl ?_
        cases hF
        exact hr _ rfl
      · have hF := (if_neg c7).symm.trans hF
        refine g_iconst (v := (0 : Int32)) X dX1_needless_14 (by decide) ?_
        refine g_istore (L' := [some (va_rf (some this)), some (va_rf k1_6), some (.int x2_6), some (.int x3_6), some (.int (0 : Int32)), none, none, none]) X dX1_needless_15 (Nat.le_of_ble_eq_true rfl) (by first | rfl | simp [stL, rm1, clr2, cat_rf, cat_i, cat_j, cat_f, cat_d]) ?_
        obtain ⟨⟨v31, h32⟩, e33, hF⟩ := bnd hF
        dsimp only at hF
        refine lp_ind (Gs := (fun z => G p l e R s m args below meth c (RQ D dA h0 (rsI oE, hE) below s) D dA h0 8 z.2.2 17 [some (va_rf (some this)), some (va_rf k1_6), some (.int z.1), some (.int x3_6), some (.int z.2.1), none, none, none] [])) (Ge := (fun z => G p l e R s m args below meth c (RQ D dA h0 (rsI oE, hE) below s) D dA h0 8 z.2 129 [some (va_rf (some this)), some (va_rf k1_6), some (.int z.1), some (.int x3_6), none, none, none, none] [])) ?_ _ _ _ e33 ?_
        · rintro ⟨x2_8, x4_8, h_8⟩ o hF hgo hr
          change F_X1_needless_B17 this k1_6 x2_6 x3_6 x2_8 x4_8 h_8 = some o at hF
          unfold F_X1_needless_B17 at hF
          show G p l e R s m args below meth c (RQ D dA h0 (rsI oE, hE) below s) D dA h0 8 h_8 17 [some (va_rf (some this)), some (va_rf k1_6), some (.int x2_8), some (.int x3_6), some (.int x4_8), none, none, none] []
          refine g_iload X dX1_needless_17 rfl ?_
          refine g_iconst (v := (4 : Int32)) X dX1_needless_19 (by decide) ?_
          refine g_icmp_ge X 129 dX1_needless_20 (by decide) (fun c9 => ?_) (fun c9 => ?_)
          · have hF := (if_pos c9).symm.trans hF
            refine G.drop [true, true, true, true, false, false, false, false] rfl ?_
            cases hF
            exact hr _ rfl
          · have hF := (if_neg c9).symm.trans hF
            refine g_aload_n X dX1_needless_23 rfl rfl ?_
            obtain ⟨v10, ev10, hF⟩ := bnd hF
            refine g_get (k := 0) X in_X1 rfl (by decide) q255 (Or.inl rfl) (getR_V ev10) dX1_needless_24 ?_
            obtain ⟨v11, ev11, hF⟩ := bnd hF
            refine g_getN (k := 3) X in_X2 rfl (by decide) (nw_in q189 rfl) rfl (getR_V ev11) dX1_needless_27 ?_
            refine g_iload_n X dX1_needless_30 rfl rfl ?_
            refine g_iload X dX1_needless_31 rfl ?_
            obtain ⟨ob12, eob12, hF⟩ := bnd hF
            obtain ⟨v13, ev13, hF⟩ := bnd hF
            refine g_callV X eob12 rfl rfl (w_X3_at l hl D dA h_8 ob12 x3_6 x4_8 v13 ev13) q1257 q495 q496 q97 q497 okn_X3_at ⟨by rw [hRf]; exact Nat.le_of_ble_eq_true rfl, by rw [hRl]; exact Nat.le_of_ble_eq_true rfl⟩ (As := [.int x3_6, .int x4_8]) (rest := []) rfl (by first | exact Nat.le_of_ble_eq_true rfl | simp [cat_rf, cat_i, cat_j, cat_f, cat_d]) dX1_needless_33 (ac_v ?_)
            refine g_istore (L' := [some (va_rf (some this)), some (va_rf k1_6), some (.int x2_8), some (.int x3_6), some (.int x4_8), some (.int v13), none, none]) X dX1_needless_36 (Nat.le_of_ble_eq_true rfl) (by first | rfl | simp [stL, rm1, clr2, cat_rf, cat_i, cat_j, cat_f, cat_d]) ?_
            refine g_iload_n X dX1_needless_38 rfl rfl ?_
            refine g_iload X dX1_needless_39 rfl ?_
            suffices K : G p l e R s m args below meth c (RQ D dA h0 (rsI oE, hE) below s) D dA h0 8 h_8 58 [some (va_rf (some this)), some (va_rf k1_6), some (.int x2_8), some (.int x3_6), some (.int x4_8), none, none, none] [.int (if x3_6 = x4_8 then (0 : Int32) else (if v13 = (F_X3_plain x3_6) then (0 : Int32) else (1 : Int32)))] by
              refine g_icmp_eq X 57 dX1_needless_41 (by decide) (fun c14 => ?_) (fun c14 => ?_)
              · (try simp only [if_pos c14] at K)
                refine g_iconst (v := (0 : Int32)) X dX1_needless_57 (by decide) ?_
                refine G.drop [true, true, true, true, true, false, false, false] rfl ?_
                first | exact K | (simp only [if_pos c14]; exact K)
              · (try simp only [if_neg c14] at K)
                refine g_iload X dX1_needless_44 rfl ?_
                refine g_iload_n X dX1_needless_46 rfl rfl ?_
                refine g_callSN X (w_X3_plain l hl D dA h_8 x3_6) (nw_in q1327 rfl) q174 q97 q175 okn_X3_plain ⟨by rw [hRf]; exact Nat.le_of_ble_eq_true rfl, by rw [hRl]; exact Nat.le_of_ble_eq_true rfl⟩ (As := [.int x3_6]) (rest := [.int v13]) rfl (by first | exact Nat.le_of_ble_eq_true rfl | simp [cat_rf, cat_i, cat_j, cat_f, cat_d]) dX1_needless_47 (ac_v ?_)
                refine g_icmp_eq X 57 dX1_needless_50 (by decide) (fun c15 => ?_) (fun c15 => ?_)
                · (try simp only [if_pos c15] at K)
                  refine g_iconst (v := (0 : Int32)) X dX1_needless_57 (by decide) ?_
                  refine G.drop [true, true, true, true, true, false, false, false] rfl ?_
                  first | exact K | (simp only [if_neg c14, if_pos c15]; exact K)
                · (try simp only [if_neg c15] at K)
                  refine g_iconst (v := (1 : Int32)) X dX1_needless_53 (by decide) ?_
                  refine g_goto X 58 dX1_needless_54 (by decide) ?_
                  refine G.drop [true, true, true, true, true, false, false, false] rfl ?_
                  first | exact K | (simp only [if_neg c14, if_neg c15]; exact K)
            refine g_istore (L' := [some (va_rf (some this)), some (va_rf k1_6), some (.int x2_8), some (.int x3_6), some (.int x4_8), none, some (.int (if x3_6 = x4_8 then (0 : Int32) else (if v13 = (F_X3_plain x3_6) then (0 : Int32) else (1 : Int32)))), none]) X dX1_needless_58 (Nat.le_of_ble_eq_true rfl) (by first | rfl | simp [stL, rm1, clr2, cat_rf, cat_i, cat_j, cat_f, cat_d]) ?_
            obtain ⟨h16, eh16, hF⟩ := bnd hF
            refine g_new X in_X3 tyX3 tyX3_ok rfl q1328 q168 q97 rfl dv_X3 eh16 dX1_needless_60 ?_
            refine g_dup X dX1_needless_63 (cat_rf _) ?_
            refine g_aload_n X dX1_needless_64 rfl rfl ?_
            obtain ⟨v17, ev17, hF⟩ := bnd hF
            refine g_get (k := 0) X in_X1 rfl (by decide) q255 (Or.inl rfl) (getR_V ev17) dX1_needless_65 ?_
            obtain ⟨v18, ev18, hF⟩ := bnd hF
            refine g_getN (k := 3) X in_X2 rfl (by decide) (nw_in q189 rfl) rfl (getR_V ev18) dX1_needless_68 ?_
            obtain ⟨ob19, eob19, hF⟩ := bnd hF
            obtain ⟨h20, eh20, hF⟩ := bnd hF
            refine g_callI X (nnl_some eob19) (w_X3_init_2 l hl D dA h16 ob19 v18 h20 eh20) rfl q1329 q399 q97 q400 okn_X3_init_2 ⟨by rw [hRf]; exact Nat.le_of_ble_eq_true rfl, by rw [hRl]; exact Nat.le_of_ble_eq_true rfl⟩ (As := [va_rf v18]) (rest := [va_rf (some (hSz h_8))]) rfl (by first | exact Nat.le_of_ble_eq_true rfl | simp [cat_rf, cat_i, cat_j, cat_f, cat_d]) dX1_needless_71 (ac_0 ?_)
            refine g_astore (L' := [some (va_rf (some this)), some (va_rf k1_6), some (.int x2_8), some (.int x3_6), some (.int x4_8), none, some (.int (if x3_6 = x4_8 then (0 : Int32) else (if v13 = (F_X3_plain x3_6) then (0 : Int32) else (1 : Int32)))), some (va_rf (some (hSz h_8)))]) X dX1_needless_74 (Nat.le_of_ble_eq_true rfl) (by first | rfl | simp [stL, rm1, clr2, cat_rf, cat_i, cat_j, cat_f, cat_d]) ?_
            refine g_aload X dX1_needless_76 rfl ?_
            refine g_iload_n X dX1_needless_78 rfl rfl ?_
            refine g_iload X dX1_needless_79 rfl ?_
            refine g_iload_n X dX1_needless_81 rfl rfl ?_
            refine g_iload X dX1_needless_82 rfl ?_
            suffices K : G p l e R s m args below meth c (RQ D dA h0 (rsI oE, hE) below s) D dA h0 8 h20 95 [some (va_rf (some this)), some (va_rf k1_6), some (.int x2_8), some (.int x3_6), some (.int x4_8), none, some (.int (if x3_6 = x4_8 then (0 : Int32) else (if v13 = (F_X3_plain x3_6) then (0 : Int32) else (1 : Int32)))), some (va_rf (some (hSz h_8)))] [.int (if x3_6 = x4_8 then (0 : Int32) else (F_X3_plain x3_6)), .int x4_8, .int x3_6, va_rf (some (hSz h_8))] by
              refine g_icmp_ne X 91 dX1_needless_84 (by decide) (fun c21 => ?_) (fun c21 => ?_)
              · (try simp only [if_neg c21] at K)
                refine g_iload_n X dX1_needless_91 rfl rfl ?_
                refine g_callSN X (w_X3_plain l hl D dA h20 x3_6) (nw_in q1327 rfl) q174 q97 q175 okn_X3_plain ⟨by rw [hRf]; exact Nat.le_of_ble_eq_true rfl, by rw [hRl]; exact Nat.le_of_ble_eq_true rfl⟩ (As := [.int x3_6]) (rest := [.int x4_8, .int x3_6, va_rf (some (hSz h_8))]) rfl (by first | exact Nat.le_of_ble_eq_true rfl | simp [cat_rf, cat_i, cat_j, cat_f, cat_d]) dX1_needless_92 (ac_v ?_)
                first | exact K | (simp only [if_neg c21]; exact K)
              · (try simp only [if_pos c21] at K)
                refine g_iconst (v := (0 : Int32)) X dX1_needless_87 (by decide) ?_
                refine g_goto X 95 dX1_needless_88 (by decide) ?_
                first | exact K | (simp only [if_pos c21]; exact K)
            obtain ⟨ob22, eob22, hF⟩ := bnd hF
            obtain ⟨h23, eh23, hF⟩ := bnd hF
            refine g_callV X eob22 rfl rfl (w_X3_sets l hl D dA h20 ob22 x3_6 x4_8 (if x3_6 = x4_8 then (0 : Int32) else (F_X3_plain x3_6)) h23 eh23) q1330 q500 q501 q97 q502 okn_X3_sets ⟨by rw [hRf]; exact Nat.le_of_ble_eq_true rfl, by rw [hRl]; exact Nat.le_of_ble_eq_true rfl⟩ (As := [.int x3_6, .int x4_8, .int (if x3_6 = x4_8 then (0 : Int32) else (F_X3_plain x3_6))]) (rest := []) rfl (by first | exact Nat.le_of_ble_eq_true rfl | simp [cat_rf, cat_i, cat_j, cat_f, cat_d]) dX1_needless_95 (ac_0 ?_)
            refine g_iload_n X dX1_needless_98 rfl rfl ?_
            refine g_iload X dX1_needless_99 rfl ?_
            refine g_if_eq X 120 dX1_needless_101 (by decide) (fun c24 => ?_) (fun c24 => ?_)
            · have hF := (if_pos c24).symm.trans hF
              refine g_iconst (v := (0 : Int32)) X dX1_needless_120 (by decide) ?_
              refine g_iadd X dX1_needless_121 ?_
              refine g_istore_n (L' := [some (va_rf (some this)), some (va_rf k1_6), some (.int (x2_8 + (0 : Int32))), some (.int x3_6), some (.int x4_8), none, some (.int (if x3_6 = x4_8 then (0 : Int32) else (if v13 = (F_X3_plain x3_6) then (0 : Int32) else (1 : Int32)))), some (va_rf (some (hSz h_8)))]) X dX1_needless_122 rfl (Nat.le_of_ble_eq_true rfl) (by first | rfl | simp [stL, rm1, clr2, cat_rf, cat_i, cat_j, cat_f, cat_d]) ?_
              refine g_iinc (v := (x4_8 + (1 : Int32))) (L' := [some (va_rf (some this)), some (va_rf k1_6), some (.int (x2_8 + (0 : Int32))), some (.int x3_6), some (.int (x4_8 + (1 : Int32))), none, some (.int (if x3_6 = x4_8 then (0 : Int32) else (if v13 = (F_X3_plain x3_6) then (0 : Int32) else (1 : Int32)))), some (va_rf (some (hSz h_8)))]) X dX1_needless_123 (Nat.le_of_ble_eq_true rfl) rfl rfl (by first | rfl | simp [stL, rm1, clr2, cat_rf, cat_i, cat_j, cat_f, cat_d]) ?_
              refine g_goto X 17 dX1_needless_126 (by decide) ?_
              refine G.drop [true, true, true, true, true, false, false, false] rfl ?_
              cases hF
              exact hgo _ rfl
            · have hF := (if_neg c24).symm.trans hF
              refine g_aload X dX1_needless_104 rfl ?_
              obtain ⟨ob25, eob25, hF⟩ := bnd hF
              obtain ⟨v27, h26, eh26, hF⟩ := b2_some hF
              refine g_callV X eob25 rfl rfl (w_X3_tight l hl D dA h23 ob25  v27 h26 eh26) q778 q508 q509 q97 q510 okn_X3_tight ⟨by rw [hRf]; exact Nat.le_of_ble_eq_true rfl, by rw [hRl]; exact Nat.le_of_ble_eq_true rfl⟩ (As := []) (rest := [.int x2_8]) rfl (by first | exact Nat.le_of_ble_eq_true rfl | simp [cat_rf, cat_i, cat_j, cat_f, cat_d]) dX1_needless_106 (ac_v ?_)
              refine g_aload_n X dX1_needless_109 rfl rfl ?_
              obtain ⟨ob28, eob28, hF⟩ := bnd hF
              obtain ⟨v29, ev29, hF⟩ := bnd hF
              refine g_callV X eob28 rfl rfl (w_X3_unlike l hl D dA h26 ob28 k1_6 v29 ev29) q780 q534 q535 q97 q536 okn_X3_unlike ⟨by rw [hRf]; exact Nat.le_of_ble_eq_true rfl, by rw [hRl]; exact Nat.le_of_ble_eq_true rfl⟩ (As := [va_rf k1_6]) (rest := [.int x2_8]) rfl (by first | exact Nat.le_of_ble_eq_true rfl | simp [cat_rf, cat_i, cat_j, cat_f, cat_d]) dX1_needless_110 (ac_v ?_)
              suffices K : G p l e R s m args below meth c (RQ D dA h0 (rsI oE, hE) below s) D dA h0 8 h26 121 [some (va_rf (some this)), some (va_rf k1_6), none, some (.int x3_6), some (.int x4_8), none, none, none] [.int (if v29 = 0 then (1 : Int32) else (0 : Int32)), .int x2_8] by
                refine g_if_ne X 120 dX1_needless_113 (by decide) (fun c30 => ?_) (fun c30 => ?_)
                · (try simp only [if_neg c30] at K)
                  refine g_iconst (v := (0 : Int32)) X dX1_needless_120 (by decide) ?_
                  refine G.drop [true, true, false, true, true, false, false, false] rfl ?_
                  first | exact K | (simp only [if_neg c30]; exact K)
                · (try simp only [if_pos c30] at K)
                  refine g_iconst (v := (1 : Int32)) X dX1_needless_116 (by decide) ?_
                  refine g_goto X 121 dX1_needless_117 (by decide) ?_
                  refine G.drop [true, true, false, true, true, false, false, false] rfl ?_
                  first | exact K | (simp only [if_pos c30]; exact K)
              refine g_iadd X dX1_needless_121 ?_
              refine g_istore_n (L' := [some (va_rf (some this)), some (va_rf k1_6), some (.int (x2_8 + (if v29 = 0 then (1 : Int32) else (0 : Int32)))), some (.int x3_6), some (.int x4_8), none, none, none]) X dX1_needless_122 rfl (Nat.le_of_ble_eq_true rfl) (by first | rfl | simp [stL, rm1, clr2, cat_rf, cat_i, cat_j, cat_f, cat_d]) ?_
              refine g_iinc (v := (x4_8 + (1 : Int32))) (L' := [some (va_rf (some this)), some (va_rf k1_6), some (.int (x2_8 + (if v29 = 0 then (1 : Int32) else (0 : Int32)))), some (.int x3_6), some (.int (x4_8 + (1 : Int32))), none, none, none]) X dX1_needless_123 (Nat.le_of_ble_eq_true rfl) rfl rfl (by first | rfl | simp [stL, rm1, clr2, cat_rf, cat_i, cat_j, cat_f, cat_d]) ?_
              refine g_goto X 17 dX1_needless_126 (by decide) ?_
              cases hF
              exact hgo _ rfl
        show G p l e R s m args below meth c (RQ D dA h0 (rsI oE, hE) below s) D dA h0 8 h32 129 [some (va_rf (some this)), some (va_rf k1_6), some (.int v31), some (.int x3_6), none, none, none, none] []
        refine g_iinc (v := (x3_6 + (1 : Int32))) (L' := [some (va_rf (some this)), some (va_rf k1_6), some (.int v31), some (.int (x3_6 + (1 : Int32))), none, none, none, none]) X dX1_needless_129 (Nat.le_of_ble_eq_true rfl) rfl rfl (by first | rfl | simp [stL, rm1, clr2, cat_rf, cat_i, cat_j, cat_f, cat_d]) ?_
        refine g_goto X 9 dX1_needless_132 (by decide) ?_
        cases hF
        exact hgo _ rfl
    show G p l e R s m args below meth c (RQ D dA h0 (rsI oE, hE) below s) D dA h0 8 h36 135 [none, none, some (.int v35), none, none, none, none, none] []
    refine g_iload_n X dX1_needless_135 rfl rfl ?_
    cases hF
    exact g_iret X hr dX1_needless_136
def F_X1_isShelfEmpty (this : Nat) (a1 : Int32) (h0 : HH) : Option (((Nat × String) ⊕ Int32) × HH) :=
  thr (F_X1_needArgument (F_X1_isShelf a1) h0) (fun q3 h1 =>
    some (.inl q3, h1)
  ) (fun u2 h1 =>
    Option.bind (getR h1 0 0 (some this)) fun v5 =>
    Option.bind (getR h1 2 2 v5) fun v6 =>
    Option.bind (aldR h1 3 v6 a1) fun v7 =>
    some (.inr (if v7 = none then (1 : Int32) else (0 : Int32)), h1)
  )
set_option maxHeartbeats 4000000 in
theorem w_X1_isShelfEmpty (l : Launch) (hl : l.stackTraces = false) (D : va_G) (dA : Nat → ClassId) (h0 : HH) (this : Nat) (a1 : Int32) (oE : (Nat × String) ⊕ Int32) (hE : HH) (hF : F_X1_isShelfEmpty this a1 h0 = some (oE, hE)) : MC D dA l yX1_isShelfEmpty cX1_isShelfEmpty 2 (Option.some Jvm.ClassFile.FieldType.boolean) [] 9 220 [va_rf (some this), .int a1] h0 (rsI oE, hE) := by
  refine mc_of hl (plainFor_of_name pn_X1) (by simp [lg_sl, cat_rf, cat_i, cat_j, cat_f, cat_d]) ?_
  intro p e s m args below meth c R hRf hRl X hr hnm
  unfold F_X1_isShelfEmpty at hF
  rw [show argL [va_rf (some this), .int a1] = [some (va_rf (some this)), some (.int a1)] from by simp [argL, cat_rf, cat_i, cat_j, cat_f, cat_d]]
  refine g_iload_n X dX1_isShelfEmpty_0 rfl rfl ?_
  refine g_callS X (w_X1_isShelf l hl D dA h0 a1) q1338 q620 q92 q621 okn_X1_isShelf ⟨by rw [hRf]; exact Nat.le_of_ble_eq_true rfl, by rw [hRl]; exact Nat.le_of_ble_eq_true rfl⟩ (As := [.int a1]) (rest := []) rfl (by first | exact Nat.le_of_ble_eq_true rfl | simp [cat_rf, cat_i, cat_j, cat_f, cat_d]) dX1_isShelfEmpty_1 (ac_v ?_)
  rcases thr_some hF with ⟨q3, h1, e4, hF⟩ | ⟨u2, h1, e4, hF⟩
  · refine g_callS X (w_X1_needArgument l hl D dA h0 (F_X1_isShelf a1) (.inl q3) h1 e4) q1254 q1255 q92 q1256 okn_X1_needArgument ⟨by rw [hRf]; exact Nat.le_of_ble_eq_true rfl, by rw [hRl]; exact Nat.le_of_ble_eq_true rfl⟩ (As := [.int (F_X1_isShelf a1)]) (rest := []) rfl (by first | exact Nat.le_of_ble_eq_true rfl | simp [cat_rf, cat_i, cat_j, cat_f, cat_d]) dX1_isShelfEmpty_4 (ac_x ?_)
    cases hF
    exact gx_out X (fun x hx => nomatch hx)
  · refine g_callS X (w_X1_needArgument l hl D dA h0 (F_X1_isShelf a1) (.inr u2) h1 e4) q1254 q1255 q92 q1256 okn_X1_needArgument ⟨by rw [hRf]; exact Nat.le_of_ble_eq_true rfl, by rw [hRl]; exact Nat.le_of_ble_eq_true rfl⟩ (As := [.int (F_X1_isShelf a1)]) (rest := []) rfl (by first | exact Nat.le_of_ble_eq_true rfl | simp [cat_rf, cat_i, cat_j, cat_f, cat_d]) dX1_isShelfEmpty_4 (ac_0 ?_)
    refine g_aload_n X dX1_isShelfEmpty_7 rfl rfl ?_
    obtain ⟨v5, ev5, hF⟩ := bnd hF
    refine g_get (k := 0) X in_X1 rfl (by decide) q255 (Or.inl rfl) (getR_V ev5) dX1_isShelfEmpty_8 ?_
    obtain ⟨v6, ev6, hF⟩ := bnd hF
    refine g_getN (k := 2) X in_X2 rfl (by decide) (nw_in q187 rfl) rfl (getR_V ev6) dX1_isShelfEmpty_11 ?_
    refine g_iload_n X dX1_isShelfEmpty_14 rfl rfl ?_
    obtain ⟨v7, ev7, hF⟩ := bnd hF
    refine g_aald X rfl ev7 dX1_isShelfEmpty_15 ?_
    suffices K : G p l e R s m args below meth c (RQ D dA h0 (rsI oE, hE) below s) D dA h0 2 h1 24 [none, none] [.int (if v7 = none then (1 : Int32) else (0 : Int32))] by
      refine g_ifnonnull X 23 dX1_isShelfEmpty_16 (by decide) (fun c8 => ?_) (fun c8 => ?_)
      · (try simp only [if_neg c8] at K)
        refine g_iconst (v := (0 : Int32)) X dX1_isShelfEmpty_23 (by decide) ?_
        refine G.drop [false, false] rfl ?_
        first | exact K | (simp only [if_neg c8]; exact K)
      · (try simp only [if_pos c8] at K)
        refine g_iconst (v := (1 : Int32)) X dX1_isShelfEmpty_19 (by decide) ?_
        refine g_goto X 24 dX1_isShelfEmpty_20 (by decide) ?_
        refine G.drop [false, false] rfl ?_
        first | exact K | (simp only [if_pos c8]; exact K)
    cases hF
    exact g_zret X hr (by (repeat' split) <;> rfl) dX1_isShelfEmpty_24
def F_X1_shelved (this : Nat) (a1 : Int32) (h0 : HH) : Option (((Nat × String) ⊕ Option Nat) × HH) :=
  thr (F_X1_needArgument (F_X1_isShelf a1) h0) (fun q3 h1 =>
    some (.inl q3, h1)
  ) (fun u2 h1 =>
    Option.bind (getR h1 0 0 (some this)) fun v5 =>
    Option.bind (getR h1 2 2 v5) fun v6 =>
    Option.bind (aldR h1 3 v6 a1) fun v7 =>
    thr (F_X1_needSuch (if v7 = none then (0 : Int32) else (1 : Int32)) h1) (fun q11 h9 =>
      some (.inl q11, h9)
    ) (fun u10 h9 =>
      Option.bind (getR h9 0 0 (some this)) fun v13 =>
      Option.bind (getR h9 2 2 v13) fun v14 =>
      Option.bind (aldR h9 3 v14 a1) fun v15 =>
      some (.inr v15, h9)
    )
  )
set_option maxHeartbeats 4000000 in
theorem w_X1_shelved (l : Launch) (hl : l.stackTraces = false) (D : va_G) (dA : Nat → ClassId) (h0 : HH) (this : Nat) (a1 : Int32) (oE : (Nat × String) ⊕ Option Nat) (hE : HH) (hF : F_X1_shelved this a1 h0 = some (oE, hE)) : MC D dA l yX1_shelved cX1_shelved 2 (Option.some (Jvm.ClassFile.FieldType.object "FerryClocks$Zone")) [] 9 220 [va_rf (some this), .int a1] h0 (rsR oE, hE) := by
  refine mc_of hl (plainFor_of_name pn_X1) (by simp [lg_sl, cat_rf, cat_i, cat_j, cat_f, cat_d]) ?_
  intro p e s m args below meth c R hRf hRl X hr hnm
  unfold F_X1_shelved at hF
  rw [show argL [va_rf (some this), .int a1] = [some (va_rf (some this)), some (.int a1)] from by simp [argL, cat_rf, cat_i, cat_j, cat_f, cat_d]]
  refine g_iload_n X dX1_shelved_0 rfl rfl ?_
  refine g_callS X (w_X1_isShelf l hl D dA h0 a1) q1338 q620 q92 q621 okn_X1_isShelf ⟨by rw [hRf]; exact Nat.le_of_ble_eq_true rfl, by rw [hRl]; exact Nat.le_of_ble_eq_true rfl⟩ (As := [.int a1]) (rest := []) rfl (by first | exact Nat.le_of_ble_eq_true rfl | simp [cat_rf, cat_i, cat_j, cat_f, cat_d]) dX1_shelved_1 (ac_v ?_)
  rcases thr_some hF with ⟨q3, h1, e4, hF⟩ | ⟨u2, h1, e4, hF⟩
  · refine g_callS X (w_X1_needArgument l hl D dA h0 (F_X1_isShelf a1) (.inl q3) h1 e4) q1254 q1255 q92 q1256 okn_X1_needArgument ⟨by rw [hRf]; exact Nat.le_of_ble_eq_true rfl, by rw [hRl]; exact Nat.le_of_ble_eq_true rfl⟩ (As := [.int (F_X1_isShelf a1)]) (rest := []) rfl (by first | exact Nat.le_of_ble_eq_true rfl | simp [cat_rf, cat_i, cat_j, cat_f, cat_d]) dX1_shelved_4 (ac_x ?_)
    cases hF
    exact gx_out X (fun x hx => nomatch hx)
  · refine g_callS X (w_X1_needArgument l hl D dA h0 (F_X1_isShelf a1) (.inr u2) h1 e4) q1254 q1255 q92 q1256 okn_X1_needArgument ⟨by rw [hRf]; exact Nat.le_of_ble_eq_true rfl, by rw [hRl]; exact Nat.le_of_ble_eq_true rfl⟩ (As := [.int (F_X1_isShelf a1)]) (rest := []) rfl (by first | exact Nat.le_of_ble_eq_true rfl | simp [cat_rf, cat_i, cat_j, cat_f, cat_d]) dX1_shelved_4 (ac_0 ?_)
    refine g_aload_n X dX1_shelved_7 rfl rfl ?_
    obtain ⟨v5, ev5, hF⟩ := bnd hF
    refine g_get (k := 0) X in_X1 rfl (by decide) q255 (Or.inl rfl) (getR_V ev5) dX1_shelved_8 ?_
    obtain ⟨v6, ev6, hF⟩ := bnd hF
    refine g_getN (k := 2) X in_X2 rfl (by decide) (nw_in q187 rfl) rfl (getR_V ev6) dX1_shelved_11 ?_
    refine g_iload_n X dX1_shelved_14 rfl rfl ?_
    obtain ⟨v7, ev7, hF⟩ := bnd hF
    refine g_aald X rfl ev7 dX1_shelved_15 ?_
    suffices K : G p l e R s m args below meth c (RQ D dA h0 (rsR oE, hE) below s) D dA h0 2 h1 24 [some (va_rf (some this)), some (.int a1)] [.int (if v7 = none then (0 : Int32) else (1 : Int32))] by
      refine g_ifnull X 23 dX1_shelved_16 (by decide) (fun c8 => ?_) (fun c8 => ?_)
      · (try simp only [if_pos c8] at K)
        refine g_iconst (v := (0 : Int32)) X dX1_shelved_23 (by decide) ?_
        first | exact K | (simp only [if_pos c8]; exact K)
      · (try simp only [if_neg c8] at K)
        refine g_iconst (v := (1 : Int32)) X dX1_shelved_19 (by decide) ?_
        refine g_goto X 24 dX1_shelved_20 (by decide) ?_
        first | exact K | (simp only [if_neg c8]; exact K)
    rcases thr_some hF with ⟨q11, h9, e12, hF⟩ | ⟨u10, h9, e12, hF⟩
    · refine g_callS X (w_X1_needSuch l hl D dA h1 (if v7 = none then (0 : Int32) else (1 : Int32)) (.inl q11) h9 e12) q1261 q1262 q92 q1263 okn_X1_needSuch ⟨by rw [hRf]; exact Nat.le_of_ble_eq_true rfl, by rw [hRl]; exact Nat.le_of_ble_eq_true rfl⟩ (As := [.int (if v7 = none then (0 : Int32) else (1 : Int32))]) (rest := []) rfl (by first | exact Nat.le_of_ble_eq_true rfl | simp [cat_rf, cat_i, cat_j, cat_f, cat_d]) dX1_shelved_24 (ac_x ?_)
      cases hF
      exact gx_out X (fun x hx => nomatch hx)
    · refine g_callS X (w_X1_needSuch l hl D dA h1 (if v7 = none then (0 : Int32) else (1 : Int32)) (.inr u10) h9 e12) q1261 q1262 q92 q1263 okn_X1_needSuch ⟨by rw [hRf]; exact Nat.le_of_ble_eq_true rfl, by rw [hRl]; exact Nat.le_of_ble_eq_true rfl⟩ (As := [.int (if v7 = none then (0 : Int32) else (1 : Int32))]) (rest := []) rfl (by first | exact Nat.le_of_ble_eq_true rfl | simp [cat_rf, cat_i, cat_j, cat_f, cat_d]) dX1_shelved_24 (ac_0 ?_)
      refine g_aload_n X dX1_shelved_27 rfl rfl ?_
      obtain ⟨v13, ev13, hF⟩ := bnd hF
      refine g_get (k := 0) X in_X1 rfl (by decide) q255 (Or.inl rfl) (getR_V ev13) dX1_shelved_28 ?_
      obtain ⟨v14, ev14, hF⟩ := bnd hF
      refine g_getN (k := 2) X in_X2 rfl (by decide) (nw_in q187 rfl) rfl (getR_V ev14) dX1_shelved_31 ?_
      refine g_iload_n X dX1_shelved_34 rfl rfl ?_
      obtain ⟨v15, ev15, hF⟩ := bnd hF
      refine g_aald X rfl ev15 dX1_shelved_35 ?_
      cases hF
      exact g_aret X hr (Or.inl ⟨_, rfl⟩) dX1_shelved_36
def F_X1_isWithin (this : Nat) (a1 : Int32) (h0 : HH) : Option (((Nat × String) ⊕ Int32) × HH) :=
  Option.bind (isO h0 0 (some this)) fun ob1 =>
  thr (F_X1_shelved ob1 a1 h0) (fun q4 h2 =>
    some (.inl q4, h2)
  ) (fun v3 h2 =>
    Option.bind (getR h2 0 0 (some this)) fun v6 =>
    Option.bind (getR h2 2 3 v6) fun v7 =>
    Option.bind (isO h2 3 v7) fun ob8 =>
    b2 (F_X3_tight ob8 h2) fun v10 h9 =>
    Option.bind (isO h9 3 v10) fun ob11 =>
    Option.bind (F_X3_hasNone ob11 h9) fun v12 =>
    if v12 = 0 then (
      Option.bind (isO h9 3 v10) fun ob14 =>
      Option.bind (F_X3_isInside ob14 v3 h9) fun v15 =>
      some (.inr (if v15 = 0 then (0 : Int32) else (1 : Int32)), h9)
    ) else (
      some (.inr (1 : Int32), h9)
    )
  )
set_option maxHeartbeats 4000000 in
theorem w_X1_isWithin (l : Launch) (hl : l.stackTraces = false) (D : va_G) (dA : Nat → ClassId) (h0 : HH) (this : Nat) (a1 : Int32) (oE : (Nat × String) ⊕ Int32) (hE : HH) (hF : F_X1_isWithin this a1 h0 = some (oE, hE)) : MC D dA l yX1_isWithin cX1_isWithin 4 (Option.some Jvm.ClassFile.FieldType.boolean) [] 10 241 [va_rf (some this), .int a1] h0 (rsI oE, hE) := by
  refine mc_of hl (plainFor_of_name pn_X1) (by simp [lg_sl, cat_rf, cat_i, cat_j, cat_f, cat_d]) ?_
  intro p e s m args below meth c R hRf hRl X hr hnm
  unfold F_X1_isWithin at hF
  rw [show argL [va_rf (some this), .int a1] = [some (va_rf (some this)), some (.int a1)] from by simp [argL, cat_rf, cat_i, cat_j, cat_f, cat_d]]
  refine G.pad 2 (L' := [some (va_rf (some this)), some (.int a1), none, none]) rfl ?_
  refine g_aload_n X dX1_isWithin_0 rfl rfl ?_
  refine g_iload_n X dX1_isWithin_1 rfl rfl ?_
  obtain ⟨ob1, eob1, hF⟩ := bnd hF
  rcases thr_some hF with ⟨q4, h2, e5, hF⟩ | ⟨v3, h2, e5, hF⟩
  · refine g_callV X eob1 rfl rfl (w_X1_shelved l hl D dA h0 ob1 a1 (.inl q4) h2 e5) q1346 q1348 qs19 q92 q1349 okn_X1_shelved ⟨by rw [hRf]; exact Nat.le_of_ble_eq_true rfl, by rw [hRl]; exact Nat.le_of_ble_eq_true rfl⟩ (As := [.int a1]) (rest := []) rfl (by first | exact Nat.le_of_ble_eq_true rfl | simp [cat_rf, cat_i, cat_j, cat_f, cat_d]) dX1_isWithin_2 (ac_x ?_)
    cases hF
    exact gx_out X (fun x hx => nomatch hx)
  · refine g_callV X eob1 rfl rfl (w_X1_shelved l hl D dA h0 ob1 a1 (.inr v3) h2 e5) q1346 q1348 qs19 q92 q1349 okn_X1_shelved ⟨by rw [hRf]; exact Nat.le_of_ble_eq_true rfl, by rw [hRl]; exact Nat.le_of_ble_eq_true rfl⟩ (As := [.int a1]) (rest := []) rfl (by first | exact Nat.le_of_ble_eq_true rfl | simp [cat_rf, cat_i, cat_j, cat_f, cat_d]) dX1_isWithin_2 (ac_v ?_)
    refine g_astore_n (L' := [some (va_rf (some this)), some (.int a1), some (va_rf v3), none]) X dX1_isWithin_5 rfl (Nat.le_of_ble_eq_true rfl) (by first | rfl | simp [stL, rm1, clr2, cat_rf, cat_i, cat_j, cat_f, cat_d]) ?_
    refine g_aload_n X dX1_isWithin_6 rfl rfl ?_
    obtain ⟨v6, ev6, hF⟩ := bnd hF
    refine g_get (k := 0) X in_X1 rfl (by decide) q255 (Or.inl rfl) (getR_V ev6) dX1_isWithin_7 ?_
    obtain ⟨v7, ev7, hF⟩ := bnd hF
    refine g_getN (k := 3) X in_X2 rfl (by decide) (nw_in q189 rfl) rfl (getR_V ev7) dX1_isWithin_10 ?_
    obtain ⟨ob8, eob8, hF⟩ := bnd hF
    obtain ⟨v10, h9, eh9, hF⟩ := b2_some hF
    refine g_callV X eob8 rfl rfl (w_X3_tight l hl D dA h2 ob8  v10 h9 eh9) q778 q508 q509 q97 q510 okn_X3_tight ⟨by rw [hRf]; exact Nat.le_of_ble_eq_true rfl, by rw [hRl]; exact Nat.le_of_ble_eq_true rfl⟩ (As := []) (rest := []) rfl (by first | exact Nat.le_of_ble_eq_true rfl | simp [cat_rf, cat_i, cat_j, cat_f, cat_d]) dX1_isWithin_13 (ac_v ?_)
    refine g_astore_n (L' := [some (va_rf (some this)), some (.int a1), some (va_rf v3), some (va_rf v10)]) X dX1_isWithin_16 rfl (Nat.le_of_ble_eq_true rfl) (by first | rfl | simp [stL, rm1, clr2, cat_rf, cat_i, cat_j, cat_f, cat_d]) ?_
    refine g_aload_n X dX1_isWithin_17 rfl rfl ?_
    obtain ⟨ob11, eob11, hF⟩ := bnd hF
    obtain ⟨v12, ev12, hF⟩ := bnd hF
    refine g_callV X eob11 rfl rfl (w_X3_hasNone l hl D dA h9 ob11  v12 ev12) q779 q522 q523 q97 q524 okn_X3_hasNone ⟨by rw [hRf]; exact Nat.le_of_ble_eq_true rfl, by rw [hRl]; exact Nat.le_of_ble_eq_true rfl⟩ (As := []) (rest := []) rfl (by first | exact Nat.le_of_ble_eq_true rfl | simp [cat_rf, cat_i, cat_j, cat_f, cat_d]) dX1_isWithin_18 (ac_v ?_)
    refine g_if_ne X 32 dX1_isWithin_21 (by decide) (fun c13 => ?_) (fun c13 => ?_)
    · have hF := (if_neg c13).symm.trans hF
      refine g_iconst (v := (1 : Int32)) X dX1_isWithin_32 (by decide) ?_
      refine g_goto X 37 dX1_isWithin_33 (by decide) ?_
      cases hF
      exact g_zret X hr rfl dX1_isWithin_37
    · have hF := (if_pos c13).symm.trans hF
      refine g_aload_n X dX1_isWithin_24 rfl rfl ?_
      refine g_aload_n X dX1_isWithin_25 rfl rfl ?_
      obtain ⟨ob14, eob14, hF⟩ := bnd hF
      obtain ⟨v15, ev15, hF⟩ := bnd hF
      refine g_callV X eob14 rfl rfl (w_X3_isInside l hl D dA h9 ob14 v3 v15 ev15) q1350 q1351 q1352 q97 q1353 okn_X3_isInside ⟨by rw [hRf]; exact Nat.le_of_ble_eq_true rfl, by rw [hRl]; exact Nat.le_of_ble_eq_true rfl⟩ (As := [va_rf v3]) (rest := []) rfl (by first | exact Nat.le_of_ble_eq_true rfl | simp [cat_rf, cat_i, cat_j, cat_f, cat_d]) dX1_isWithin_26 (ac_v ?_)
      suffices K : G p l e R s m args below meth c (RQ D dA h0 (rsI oE, hE) below s) D dA h0 4 h9 37 [none, none, none, none] [.int (if v15 = 0 then (0 : Int32) else (1 : Int32))] by
        refine g_if_eq X 36 dX1_isWithin_29 (by decide) (fun c16 => ?_) (fun c16 => ?_)
        · (try simp only [if_pos c16] at K)
          refine g_iconst (v := (0 : Int32)) X dX1_isWithin_36 (by decide) ?_
          refine G.drop [false, false, false, false] rfl ?_
          first | exact K | (simp only [if_pos c16]; exact K)
        · (try simp only [if_neg c16] at K)
          refine g_iconst (v := (1 : Int32)) X dX1_isWithin_32 (by decide) ?_
          refine g_goto X 37 dX1_isWithin_33 (by decide) ?_
          refine G.drop [false, false, false, false] rfl ?_
          first | exact K | (simp only [if_neg c16]; exact K)
      cases hF
      exact g_zret X hr (by (repeat' split) <;> rfl) dX1_isWithin_37
def F_X1_momentsBeyond (this : Nat) (a1 : Int32) (h0 : HH) : Option (((Nat × String) ⊕ Int32) × HH) :=
  Option.bind (getR h0 0 0 (some this)) fun v1 =>
  Option.bind (getR h0 2 3 v1) fun v2 =>
  Option.bind (isO h0 0 (some this)) fun ob3 =>
  thr (F_X1_shelved ob3 a1 h0) (fun q6 h4 =>
    some (.inl q6, h4)
  ) (fun v5 h4 =>
    Option.bind (isO h4 3 v2) fun ob8 =>
    b2 (F_X3_count ob8 v5 h4) fun v10 h9 =>
    some (.inr v10, h9)
  )
set_option maxHeartbeats 4000000 in
theorem w_X1_momentsBeyond (l : Launch) (hl : l.stackTraces = false) (D : va_G) (dA : Nat → ClassId) (h0 : HH) (this : Nat) (a1 : Int32) (oE : (Nat × String) ⊕ Int32) (hE : HH) (hF : F_X1_momentsBeyond this a1 h0 = some (oE, hE)) : MC D dA l yX1_momentsBeyond cX1_momentsBeyond 2 (Option.some Jvm.ClassFile.FieldType.int) [] 10 241 [va_rf (some this), .int a1] h0 (rsI oE, hE) := by
  refine mc_of hl (plainFor_of_name pn_X1) (by simp [lg_sl, cat_rf, cat_i, cat_j, cat_f, cat_d]) ?_
  intro p e s m args below meth c R hRf hRl X hr hnm
  unfold F_X1_momentsBeyond at hF
  rw [show argL [va_rf (some this), .int a1] = [some (va_rf (some this)), some (.int a1)] from by simp [argL, cat_rf, cat_i, cat_j, cat_f, cat_d]]
  refine g_aload_n X dX1_momentsBeyond_0 rfl rfl ?_
  obtain ⟨v1, ev1, hF⟩ := bnd hF
  refine g_get (k := 0) X in_X1 rfl (by decide) q255 (Or.inl rfl) (getR_V ev1) dX1_momentsBeyond_1 ?_
  obtain ⟨v2, ev2, hF⟩ := bnd hF
  refine g_getN (k := 3) X in_X2 rfl (by decide) (nw_in q189 rfl) rfl (getR_V ev2) dX1_momentsBeyond_4 ?_
  refine g_aload_n X dX1_momentsBeyond_7 rfl rfl ?_
  refine g_iload_n X dX1_momentsBeyond_8 rfl rfl ?_
  obtain ⟨ob3, eob3, hF⟩ := bnd hF
  rcases thr_some hF with ⟨q6, h4, e7, hF⟩ | ⟨v5, h4, e7, hF⟩
  · refine g_callV X eob3 rfl rfl (w_X1_shelved l hl D dA h0 ob3 a1 (.inl q6) h4 e7) q1346 q1348 qs19 q92 q1349 okn_X1_shelved ⟨by rw [hRf]; exact Nat.le_of_ble_eq_true rfl, by rw [hRl]; exact Nat.le_of_ble_eq_true rfl⟩ (As := [.int a1]) (rest := [va_rf v2]) rfl (by first | exact Nat.le_of_ble_eq_true rfl | simp [cat_rf, cat_i, cat_j, cat_f, cat_d]) dX1_momentsBeyond_9 (ac_x ?_)
    cases hF
    exact gx_out X (fun x hx => nomatch hx)
  · refine g_callV X eob3 rfl rfl (w_X1_shelved l hl D dA h0 ob3 a1 (.inr v5) h4 e7) q1346 q1348 qs19 q92 q1349 okn_X1_shelved ⟨by rw [hRf]; exact Nat.le_of_ble_eq_true rfl, by rw [hRl]; exact Nat.le_of_ble_eq_true rfl⟩ (As := [.int a1]) (rest := [va_rf v2]) rfl (by first | exact Nat.le_of_ble_eq_true rfl | simp [cat_rf, cat_i, cat_j, cat_f, cat_d]) dX1_momentsBeyond_9 (ac_v ?_)
    obtain ⟨ob8, eob8, hF⟩ := bnd hF
    obtain ⟨v10, h9, eh9, hF⟩ := b2_some hF
    refine g_callV X eob8 rfl rfl (w_X3_count l hl D dA h4 ob8 v5 v10 h9 eh9) q795 q796 q797 q97 q798 okn_X3_count ⟨by rw [hRf]; exact Nat.le_of_ble_eq_true rfl, by rw [hRl]; exact Nat.le_of_ble_eq_true rfl⟩ (As := [va_rf v5]) (rest := []) rfl (by first | exact Nat.le_of_ble_eq_true rfl | simp [cat_rf, cat_i, cat_j, cat_f, cat_d]) dX1_momentsBeyond_12 (ac_v ?_)
    cases hF
    exact g_iret X hr dX1_momentsBeyond_15
def F_X1_doMeet_B15 (this : Nat) (a1 : Int32) (k2_9 : Option Nat) (x3_9 : Int32) (h_9 : HH) : Option ((Int32 × HH) ⊕ HH) :=
  if (16 : Int32) ≤ x3_9 then (
    some (.inr h_9)
  ) else (
    Option.bind (getR h_9 3 0 k2_9) fun v11 =>
    Option.bind (getR h_9 3 0 k2_9) fun v12 =>
    Option.bind (aldI h_9 0 v12 x3_9) fun v13 =>
    Option.bind (getR h_9 0 0 (some this)) fun v14 =>
    Option.bind (getR h_9 2 3 v14) fun v15 =>
    Option.bind (getR h_9 3 0 v15) fun v16 =>
    Option.bind (aldI h_9 0 v16 x3_9) fun v17 =>
    Option.bind (astI h_9 v11 x3_9 (F_J11_min v13 v17)) fun h18 =>
    some (.inl ((x3_9 + (1 : Int32)), h18))
  )
def F_X1_doMeet (this : Nat) (a1 : Int32) (h0 : HH) : Option (((Nat × String) ⊕ Int32) × HH) :=
  Option.bind (newO h0 3 1 [.null]) fun h1 =>
  Option.bind (isO h1 0 (some this)) fun ob2 =>
  thr (F_X1_shelved ob2 a1 h1) (fun q5 h3 =>
    some (.inl q5, h3)
  ) (fun v4 h3 =>
    Option.bind (nnl (some (hSz h0))) fun ob7 =>
    Option.bind (F_X3_init_2 ob7 v4 h3) fun h8 =>
    Option.bind (lp (fun z => F_X1_doMeet_B15 this a1 (some (hSz h0)) z.1 z.2) 100000 ((0 : Int32), h8)) fun h19 =>
    Option.bind (isO h19 3 (some (hSz h0))) fun ob20 =>
    b2 (F_X3_isVoid ob20 h19) fun v22 h21 =>
    some (.inr (if v22 = 0 then (1 : Int32) else (0 : Int32)), h21)
  )
set_option maxHeartbeats 4000000 in
theorem w_X1_doMeet (l : Launch) (hl : l.stackTraces = false) (D : va_G) (dA : Nat → ClassId) (h0 : HH) (this : Nat) (a1 : Int32) (oE : (Nat × String) ⊕ Int32) (hE : HH) (hF : F_X1_doMeet this a1 h0 = some (oE, hE)) : MC D dA l yX1_doMeet cX1_doMeet 4 (Option.some Jvm.ClassFile.FieldType.boolean) [] 10 241 [va_rf (some this), .int a1] h0 (rsI oE, hE) := by
  refine mc_of hl (plainFor_of_name pn_X1) (by simp [lg_sl, cat_rf, cat_i, cat_j, cat_f, cat_d]) ?_
  intro p e s m args below meth c R hRf hRl X hr hnm
  unfold F_X1_doMeet at hF
  rw [show argL [va_rf (some this), .int a1] = [some (va_rf (some this)), some (.int a1)] from by simp [argL, cat_rf, cat_i, cat_j, cat_f, cat_d]]
  refine G.pad 2 (L' := [some (va_rf (some this)), some (.int a1), none, none]) rfl ?_
  obtain ⟨h1, eh1, hF⟩ := bnd hF
  refine g_new X in_X3 tyX3 tyX3_ok rfl q1328 q168 q97 rfl dv_X3 eh1 dX1_doMeet_0 ?_
  refine g_dup X dX1_doMeet_3 (cat_rf _) ?_
  refine g_aload_n X dX1_doMeet_4 rfl rfl ?_
  refine g_iload_n X dX1_doMeet_5 rfl rfl ?_
  obtain ⟨ob2, eob2, hF⟩ := bnd hF
  rcases thr_some hF with ⟨q5, h3, e6, hF⟩ | ⟨v4, h3, e6, hF⟩
  · refine g_callV X eob2 rfl rfl (w_X1_shelved l hl D dA h1 ob2 a1 (.inl q5) h3 e6) q1346 q1348 qs19 q92 q1349 okn_X1_shelved ⟨by rw [hRf]; exact Nat.le_of_ble_eq_true rfl, by rw [hRl]; exact Nat.le_of_ble_eq_true rfl⟩ (As := [.int a1]) (rest := [va_rf (some (hSz h0)), va_rf (some (hSz h0))]) rfl (by first | exact Nat.le_of_ble_eq_true rfl | simp [cat_rf, cat_i, cat_j, cat_f, cat_d]) dX1_doMeet_6 (ac_x ?_)
    cases hF
    exact gx_out X (fun x hx => nomatch hx)
  · refine g_callV X eob2 rfl rfl (w_X1_shelved l hl D dA h1 ob2 a1 (.inr v4) h3 e6) q1346 q1348 qs19 q92 q1349 okn_X1_shelved ⟨by rw [hRf]; exact Nat.le_of_ble_eq_true rfl, by rw [hRl]; exact Nat.le_of_ble_eq_true rfl⟩ (As := [.int a1]) (rest := [va_rf (some (hSz h0)), va_rf (some (hSz h0))]) rfl (by first | exact Nat.le_of_ble_eq_true rfl | simp [cat_rf, cat_i, cat_j, cat_f, cat_d]) dX1_doMeet_6 (ac_v ?_)
    obtain ⟨ob7, eob7, hF⟩ := bnd hF
    obtain ⟨h8, eh8, hF⟩ := bnd hF
    refine g_callI X (nnl_some eob7) (w_X3_init_2 l hl D dA h3 ob7 v4 h8 eh8) rfl q1329 q399 q97 q400 okn_X3_init_2 ⟨by rw [hRf]; exact Nat.le_of_ble_eq_true rfl, by rw [hRl]; exact Nat.le_of_ble_eq_true rfl⟩ (As := [va_rf v4]) (rest := [va_rf (some (hSz h0))]) rfl (by first | exact Nat.le_of_ble_eq_true rfl | simp [cat_rf, cat_i, cat_j, cat_f, cat_d]) dX1_doMeet_9 (ac_0 ?_)
    refine g_astore_n (L' := [some (va_rf (some this)), some (.int a1), some (va_rf (some (hSz h0))), none]) X dX1_doMeet_12 rfl (Nat.le_of_ble_eq_true rfl) (by first | rfl | simp [stL, rm1, clr2, cat_rf, cat_i, cat_j, cat_f, cat_d]) ?_
    refine g_iconst (v := (0 : Int32)) X dX1_doMeet_13 (by decide) ?_
    refine g_istore_n (L' := [some (va_rf (some this)), some (.int a1), some (va_rf (some (hSz h0))), some (.int (0 : Int32))]) X dX1_doMeet_14 rfl (Nat.le_of_ble_eq_true rfl) (by first | rfl | simp [stL, rm1, clr2, cat_rf, cat_i, cat_j, cat_f, cat_d]) ?_
    refine G.drop [true, false, true, true] rfl ?_
    obtain ⟨h19, e24, hF⟩ := bnd hF
    refine lp_ind (Gs := (fun z => G p l e R s m args below meth c (RQ D dA h0 (rsI oE, hE) below s) D dA h0 4 z.2 15 [some (va_rf (some this)), none, some (va_rf (some (hSz h0))), some (.int z.1)] [])) (Ge := (fun z => G p l e R s m args below meth c (RQ D dA h0 (rsI oE, hE) below s) D dA h0 4 z 54 [none, none, some (va_rf (some (hSz h0))), none] [])) ?_ _ _ _ e24 ?_
    · rintro ⟨x3_9, h_9⟩ o hF hgo hr
      change F_X1_doMeet_B15 this a1 (some (hSz h0)) x3_9 h_9 = some o at hF
      generalize (some (hSz h0)) = k2_9 at hF hgo hr ⊢
      unfold F_X1_doMeet_B15 at hF
      show G p l e R s m args below meth c (RQ D dA h0 (rsI oE, hE) below s) D dA h0 4 h_9 15 [some (va_rf (some this)), none, some (va_rf k2_9), some (.int x3_9)] []
      refine g_iload_n X dX1_doMeet_15 rfl rfl ?_
      refine g_bipush (v := (16 : Int32)) X dX1_doMeet_16 (by decide) ?_
      refine g_icmp_ge X 54 dX1_doMeet_18 (by decide) (fun c10 => ?_) (fun c10 => ?_)
      · have hF := (if_pos c10).symm.trans hF
        refine G.drop [false, false, true, false] rfl ?_
        cases hF
        exact hr _ rfl
      · have hF := (if_neg c10).symm.trans hF
        refine g_aload_n X dX1_doMeet_21 rfl rfl ?_
        obtain ⟨v11, ev11, hF⟩ := bnd hF
        refine g_getN (k := 0) X in_X3 rfl (by decide) (nw_in q178 rfl) rfl (getR_V ev11) dX1_doMeet_22 ?_
        refine g_iload_n X dX1_doMeet_25 rfl rfl ?_
        refine g_aload_n X dX1_doMeet_26 rfl rfl ?_
        obtain ⟨v12, ev12, hF⟩ := bnd hF
        refine g_getN (k := 0) X in_X3 rfl (by decide) (nw_in q178 rfl) rfl (getR_V ev12) dX1_doMeet_27 ?_
        refine g_iload_n X dX1_doMeet_30 rfl rfl ?_
        obtain ⟨v13, ev13, hF⟩ := bnd hF
        refine g_iald X ev13 dX1_doMeet_31 ?_
        refine g_aload_n X dX1_doMeet_32 rfl rfl ?_
        obtain ⟨v14, ev14, hF⟩ := bnd hF
        refine g_get (k := 0) X in_X1 rfl (by decide) q255 (Or.inl rfl) (getR_V ev14) dX1_doMeet_33 ?_
        obtain ⟨v15, ev15, hF⟩ := bnd hF
        refine g_getN (k := 3) X in_X2 rfl (by decide) (nw_in q189 rfl) rfl (getR_V ev15) dX1_doMeet_36 ?_
        obtain ⟨v16, ev16, hF⟩ := bnd hF
        refine g_getN (k := 0) X in_X3 rfl (by decide) (nw_in q178 rfl) rfl (getR_V ev16) dX1_doMeet_39 ?_
        refine g_iload_n X dX1_doMeet_42 rfl rfl ?_
        obtain ⟨v17, ev17, hF⟩ := bnd hF
        refine g_iald X ev17 dX1_doMeet_43 ?_
        refine g_callS X (w_J11_min l hl D dA h_9 v13 v17) q1368 q391 q108 q392 okn_J11_min ⟨by rw [hRf]; exact Nat.le_of_ble_eq_true rfl, by rw [hRl]; exact Nat.le_of_ble_eq_true rfl⟩ (As := [.int v13, .int v17]) (rest := [.int x3_9, va_rf v11]) rfl (by first | exact Nat.le_of_ble_eq_true rfl | simp [cat_rf, cat_i, cat_j, cat_f, cat_d]) dX1_doMeet_44 (ac_v ?_)
        obtain ⟨h18, eh18, hF⟩ := bnd hF
        refine g_iast X eh18 dX1_doMeet_47 ?_
        refine g_iinc (v := (x3_9 + (1 : Int32))) (L' := [some (va_rf (some this)), none, some (va_rf k2_9), some (.int (x3_9 + (1 : Int32)))]) X dX1_doMeet_48 (Nat.le_of_ble_eq_true rfl) rfl rfl (by first | rfl | simp [stL, rm1, clr2, cat_rf, cat_i, cat_j, cat_f, cat_d]) ?_
        refine g_goto X 15 dX1_doMeet_51 (by decide) ?_
        cases hF
        exact hgo _ rfl
    show G p l e R s m args below meth c (RQ D dA h0 (rsI oE, hE) below s) D dA h0 4 h19 54 [none, none, some (va_rf (some (hSz h0))), none] []
    refine g_aload_n X dX1_doMeet_54 rfl rfl ?_
    obtain ⟨ob20, eob20, hF⟩ := bnd hF
    obtain ⟨v22, h21, eh21, hF⟩ := b2_some hF
    refine g_callV X eob20 rfl rfl (w_X3_isVoid l hl D dA h19 ob20  v22 h21 eh21) q785 q786 q787 q97 q788 okn_X3_isVoid ⟨by rw [hRf]; exact Nat.le_of_ble_eq_true rfl, by rw [hRl]; exact Nat.le_of_ble_eq_true rfl⟩ (As := []) (rest := []) rfl (by first | exact Nat.le_of_ble_eq_true rfl | simp [cat_rf, cat_i, cat_j, cat_f, cat_d]) dX1_doMeet_55 (ac_v ?_)
    suffices K : G p l e R s m args below meth c (RQ D dA h0 (rsI oE, hE) below s) D dA h0 4 h21 66 [none, none, none, none] [.int (if v22 = 0 then (1 : Int32) else (0 : Int32))] by
      refine g_if_ne X 65 dX1_doMeet_58 (by decide) (fun c23 => ?_) (fun c23 => ?_)
      · (try simp only [if_neg c23] at K)
        refine g_iconst (v := (0 : Int32)) X dX1_doMeet_65 (by decide) ?_
        refine G.drop [false, false, false, false] rfl ?_
        first | exact K | (simp only [if_neg c23]; exact K)
      · (try simp only [if_pos c23] at K)
        refine g_iconst (v := (1 : Int32)) X dX1_doMeet_61 (by decide) ?_
        refine g_goto X 66 dX1_doMeet_62 (by decide) ?_
        refine G.drop [false, false, false, false] rfl ?_
        first | exact K | (simp only [if_pos c23]; exact K)
    cases hF
    exact g_zret X hr (by (repeat' split) <;> rfl) dX1_doMeet_66
def F_X1_stayOf (this : Nat) (a1 : Int32) (a2 : Int32) (h0 : HH) : Option (((Nat × String) ⊕ Int32) × HH) :=
  thr (F_X1_needArgument (if (F_X1_isHarbour a1) = 0 then (0 : Int32) else (if (F_X1_isClock a2) = 0 then (0 : Int32) else (1 : Int32))) h0) (fun q5 h3 =>
    some (.inl q5, h3)
  ) (fun u4 h3 =>
    Option.bind (getR h3 0 0 (some this)) fun v7 =>
    Option.bind (isO h3 2 v7) fun ob8 =>
    Option.bind (F_X2_stay ob8 a1 a2 h3) fun v9 =>
    some (.inr v9, h3)
  )
set_option maxHeartbeats 4000000 in
theorem w_X1_stayOf (l : Launch) (hl : l.stackTraces = false) (D : va_G) (dA : Nat → ClassId) (h0 : HH) (this : Nat) (a1 : Int32) (a2 : Int32) (oE : (Nat × String) ⊕ Int32) (hE : HH) (hF : F_X1_stayOf this a1 a2 h0 = some (oE, hE)) : MC D dA l yX1_stayOf cX1_stayOf 3 (Option.some Jvm.ClassFile.FieldType.int) [] 9 220 [va_rf (some this), .int a1, .int a2] h0 (rsI oE, hE) := by
  refine mc_of hl (plainFor_of_name pn_X1) (by simp [lg_sl, cat_rf, cat_i, cat_j, cat_f, cat_d]) ?_
  intro p e s m args below meth c R hRf hRl X hr hnm
  unfold F_X1_stayOf at hF
  rw [show argL [va_rf (some this), .int a1, .int a2] = [some (va_rf (some this)), some (.int a1), some (.int a2)] from by simp [argL, cat_rf, cat_i, cat_j, cat_f, cat_d]]
  refine g_iload_n X dX1_stayOf_0 rfl rfl ?_
  refine g_callS X (w_X1_isHarbour l hl D dA h0 a1) q1376 q641 q92 q642 okn_X1_isHarbour ⟨by rw [hRf]; exact Nat.le_of_ble_eq_true rfl, by rw [hRl]; exact Nat.le_of_ble_eq_true rfl⟩ (As := [.int a1]) (rest := []) rfl (by first | exact Nat.le_of_ble_eq_true rfl | simp [cat_rf, cat_i, cat_j, cat_f, cat_d]) dX1_stayOf_1 (ac_v ?_)
  suffices K : G p l e R s m args below meth c (RQ D dA h0 (rsI oE, hE) below s) D dA h0 3 h0 19 [some (va_rf (some this)), some (.int a1), some (.int a2)] [.int (if (F_X1_isHarbour a1) = 0 then (0 : Int32) else (if (F_X1_isClock a2) = 0 then (0 : Int32) else (1 : Int32)))] by
    refine g_if_eq X 18 dX1_stayOf_4 (by decide) (fun c1 => ?_) (fun c1 => ?_)
    · (try simp only [if_pos c1] at K)
      refine g_iconst (v := (0 : Int32)) X dX1_stayOf_18 (by decide) ?_
      first | exact K | (simp only [if_pos c1]; exact K)
    · (try simp only [if_neg c1] at K)
      refine g_iload_n X dX1_stayOf_7 rfl rfl ?_
      refine g_callS X (w_X1_isClock l hl D dA h0 a2) q1300 q560 q92 q561 okn_X1_isClock ⟨by rw [hRf]; exact Nat.le_of_ble_eq_true rfl, by rw [hRl]; exact Nat.le_of_ble_eq_true rfl⟩ (As := [.int a2]) (rest := []) rfl (by first | exact Nat.le_of_ble_eq_true rfl | simp [cat_rf, cat_i, cat_j, cat_f, cat_d]) dX1_stayOf_8 (ac_v ?_)
      refine g_if_eq X 18 dX1_stayOf_11 (by decide) (fun c2 => ?_) (fun c2 => ?_)
      · (try simp only [if_pos c2] at K)
        refine g_iconst (v := (0 : Int32)) X dX1_stayOf_18 (by decide) ?_
        first | exact K | (simp only [if_neg c1, if_pos c2]; exact K)
      · (try simp only [if_neg c2] at K)
        refine g_iconst (v := (1 : Int32)) X dX1_stayOf_14 (by decide) ?_
        refine g_goto X 19 dX1_stayOf_15 (by decide) ?_
        first | exact K | (simp only [if_neg c1, if_neg c2]; exact K)
  rcases thr_some hF with ⟨q5, h3, e6, hF⟩ | ⟨u4, h3, e6, hF⟩
  · refine g_callS X (w_X1_needArgument l hl D dA h0 (if (F_X1_isHarbour a1) = 0 then (0 : Int32) else (if (F_X1_isClock a2) = 0 then (0 : Int32) else (1 : Int32))) (.inl q5) h3 e6) q1254 q1255 q92 q1256 okn_X1_needArgument ⟨by rw [hRf]; exact Nat.le_of_ble_eq_true rfl, by rw [hRl]; exact Nat.le_of_ble_eq_true rfl⟩ (As := [.int (if (F_X1_isHarbour a1) = 0 then (0 : Int32) else (if (F_X1_isClock a2) = 0 then (0 : Int32) else (1 : Int32)))]) (rest := []) rfl (by first | exact Nat.le_of_ble_eq_true rfl | simp [cat_rf, cat_i, cat_j, cat_f, cat_d]) dX1_stayOf_19 (ac_x ?_)
    cases hF
    exact gx_out X (fun x hx => nomatch hx)
  · refine g_callS X (w_X1_needArgument l hl D dA h0 (if (F_X1_isHarbour a1) = 0 then (0 : Int32) else (if (F_X1_isClock a2) = 0 then (0 : Int32) else (1 : Int32))) (.inr u4) h3 e6) q1254 q1255 q92 q1256 okn_X1_needArgument ⟨by rw [hRf]; exact Nat.le_of_ble_eq_true rfl, by rw [hRl]; exact Nat.le_of_ble_eq_true rfl⟩ (As := [.int (if (F_X1_isHarbour a1) = 0 then (0 : Int32) else (if (F_X1_isClock a2) = 0 then (0 : Int32) else (1 : Int32)))]) (rest := []) rfl (by first | exact Nat.le_of_ble_eq_true rfl | simp [cat_rf, cat_i, cat_j, cat_f, cat_d]) dX1_stayOf_19 (ac_0 ?_)
    refine g_aload_n X dX1_stayOf_22 rfl rfl ?_
    obtain ⟨v7, ev7, hF⟩ := bnd hF
    refine g_get (k := 0) X in_X1 rfl (by decide) q255 (Or.inl rfl) (getR_V ev7) dX1_stayOf_23 ?_
    refine g_iload_n X dX1_stayOf_26 rfl rfl ?_
    refine g_iload_n X dX1_stayOf_27 rfl rfl ?_
    obtain ⟨ob8, eob8, hF⟩ := bnd hF
    obtain ⟨v9, ev9, hF⟩ := bnd hF
    refine g_callV X eob8 rfl rfl (w_X2_stay l hl D dA h3 ob8 a1 a2 v9 ev9) q1377 q646 q647 q93 q648 okn_X2_stay ⟨by rw [hRf]; exact Nat.le_of_ble_eq_true rfl, by rw [hRl]; exact Nat.le_of_ble_eq_true rfl⟩ (As := [.int a1, .int a2]) (rest := []) rfl (by first | exact Nat.le_of_ble_eq_true rfl | simp [cat_rf, cat_i, cat_j, cat_f, cat_d]) dX1_stayOf_28 (ac_v ?_)
    cases hF
    exact g_iret X hr dX1_stayOf_31
def F_X1_lineAt (this : Nat) (a1 : Int32) (h0 : HH) : Option (((Nat × String) ⊕ Option Nat) × HH) :=
  Option.bind (getR h0 0 0 (some this)) fun v1 =>
  Option.bind (isO h0 2 v1) fun ob2 =>
  Option.bind (F_X2_isLine ob2 a1 h0) fun v3 =>
  thr (F_X1_needArgument v3 h0) (fun q6 h4 =>
    some (.inl q6, h4)
  ) (fun u5 h4 =>
    Option.bind (getR h4 0 0 (some this)) fun v8 =>
    Option.bind (getR h4 2 1 v8) fun v9 =>
    Option.bind (isO h4 8 v9) fun ob10 =>
    Option.bind (F_J2_get ob10 a1 h4) fun v11 =>
    Option.bind (castO h4 4 v11) fun _ =>
    some (.inr v11, h4)
  )
set_option maxHeartbeats 4000000 in
theorem w_X1_lineAt (l : Launch) (hl : l.stackTraces = false) (D : va_G) (dA : Nat → ClassId) (h0 : HH) (this : Nat) (a1 : Int32) (oE : (Nat × String) ⊕ Option Nat) (hE : HH) (hF : F_X1_lineAt this a1 h0 = some (oE, hE)) : MC D dA l yX1_lineAt cX1_lineAt 2 (Option.some (Jvm.ClassFile.FieldType.object "FerryClocks$Line")) [] 9 220 [va_rf (some this), .int a1] h0 (rsR oE, hE) := by
  refine mc_of hl (plainFor_of_name pn_X1) (by simp [lg_sl, cat_rf, cat_i, cat_j, cat_f, cat_d]) ?_
  intro p e s m args below meth c R hRf hRl X hr hnm
  unfold F_X1_lineAt at hF
  rw [show argL [va_rf (some this), .int a1] = [some (va_rf (some this)), some (.int a1)] from by simp [argL, cat_rf, cat_i, cat_j, cat_f, cat_d]]
  refine g_aload_n X dX1_lineAt_0 rfl rfl ?_
  obtain ⟨v1, ev1, hF⟩ := bnd hF
  refine g_get (k := 0) X in_X1 rfl (by decide) q255 (Or.inl rfl) (getR_V ev1) dX1_lineAt_1 ?_
  refine g_iload_n X dX1_lineAt_4 rfl rfl ?_
  obtain ⟨ob2, eob2, hF⟩ := bnd hF
  obtain ⟨v3, ev3, hF⟩ := bnd hF
  refine g_callV X eob2 rfl rfl (w_X2_isLine l hl D dA h0 ob2 a1 v3 ev3) q1389 q661 q662 q93 q663 okn_X2_isLine ⟨by rw [hRf]; exact Nat.le_of_ble_eq_true rfl, by rw [hRl]; exact Nat.le_of_ble_eq_true rfl⟩ (As := [.int a1]) (rest := []) rfl (by first | exact Nat.le_of_ble_eq_true rfl | simp [cat_rf, cat_i, cat_j, cat_f, cat_d]) dX1_lineAt_5 (ac_v ?_)
  rcases thr_some hF with ⟨q6, h4, e7, hF⟩ | ⟨u5, h4, e7, hF⟩
  · refine g_callS X (w_X1_needArgument l hl D dA h0 v3 (.inl q6) h4 e7) q1254 q1255 q92 q1256 okn_X1_needArgument ⟨by rw [hRf]; exact Nat.le_of_ble_eq_true rfl, by rw [hRl]; exact Nat.le_of_ble_eq_true rfl⟩ (As := [.int v3]) (rest := []) rfl (by first | exact Nat.le_of_ble_eq_true rfl | simp [cat_rf, cat_i, cat_j, cat_f, cat_d]) dX1_lineAt_8 (ac_x ?_)
    cases hF
    exact gx_out X (fun x hx => nomatch hx)
  · refine g_callS X (w_X1_needArgument l hl D dA h0 v3 (.inr u5) h4 e7) q1254 q1255 q92 q1256 okn_X1_needArgument ⟨by rw [hRf]; exact Nat.le_of_ble_eq_true rfl, by rw [hRl]; exact Nat.le_of_ble_eq_true rfl⟩ (As := [.int v3]) (rest := []) rfl (by first | exact Nat.le_of_ble_eq_true rfl | simp [cat_rf, cat_i, cat_j, cat_f, cat_d]) dX1_lineAt_8 (ac_0 ?_)
    refine g_aload_n X dX1_lineAt_11 rfl rfl ?_
    obtain ⟨v8, ev8, hF⟩ := bnd hF
    refine g_get (k := 0) X in_X1 rfl (by decide) q255 (Or.inl rfl) (getR_V ev8) dX1_lineAt_12 ?_
    obtain ⟨v9, ev9, hF⟩ := bnd hF
    refine g_getN (k := 1) X in_X2 rfl (by decide) (nw_in q185 rfl) rfl (getR_V ev9) dX1_lineAt_15 ?_
    refine g_iload_n X dX1_lineAt_18 rfl rfl ?_
    obtain ⟨ob10, eob10, hF⟩ := bnd hF
    obtain ⟨v11, ev11, hF⟩ := bnd hF
    refine g_callV X eob10 rfl rfl (w_J2_get l hl D dA h4 ob10 a1 v11 ev11) q1390 q295 q296 q96 q297 okn_J2_get ⟨by rw [hRf]; exact Nat.le_of_ble_eq_true rfl, by rw [hRl]; exact Nat.le_of_ble_eq_true rfl⟩ (As := [.int a1]) (rest := []) rfl (by first | exact Nat.le_of_ble_eq_true rfl | simp [cat_rf, cat_i, cat_j, cat_f, cat_d]) dX1_lineAt_19 (ac_v ?_)
    obtain ⟨_, z12, hF⟩ := bnd hF
    refine g_castO X q1391 rfl z12 dX1_lineAt_22 ?_
    cases hF
    exact g_aret X hr (Or.inl ⟨_, rfl⟩) dX1_lineAt_25
def F_X1_fromOf (this : Nat) (a1 : Int32) (h0 : HH) : Option (((Nat × String) ⊕ Int32) × HH) :=
  Option.bind (isO h0 0 (some this)) fun ob1 =>
  thr (F_X1_lineAt ob1 a1 h0) (fun q4 h2 =>
    some (.inl q4, h2)
  ) (fun v3 h2 =>
    Option.bind (getI h2 4 0 v3) fun v6 =>
    some (.inr v6, h2)
  )
set_option maxHeartbeats 4000000 in
theorem w_X1_fromOf (l : Launch) (hl : l.stackTraces = false) (D : va_G) (dA : Nat → ClassId) (h0 : HH) (this : Nat) (a1 : Int32) (oE : (Nat × String) ⊕ Int32) (hE : HH) (hF : F_X1_fromOf this a1 h0 = some (oE, hE)) : MC D dA l yX1_fromOf cX1_fromOf 2 (Option.some Jvm.ClassFile.FieldType.int) [] 10 241 [va_rf (some this), .int a1] h0 (rsI oE, hE) := by
  refine mc_of hl (plainFor_of_name pn_X1) (by simp [lg_sl, cat_rf, cat_i, cat_j, cat_f, cat_d]) ?_
  intro p e s m args below meth c R hRf hRl X hr hnm
  unfold F_X1_fromOf at hF
  rw [show argL [va_rf (some this), .int a1] = [some (va_rf (some this)), some (.int a1)] from by simp [argL, cat_rf, cat_i, cat_j, cat_f, cat_d]]
  refine g_aload_n X dX1_fromOf_0 rfl rfl ?_
  refine g_iload_n X dX1_fromOf_1 rfl rfl ?_
  obtain ⟨ob1, eob1, hF⟩ := bnd hF
  rcases thr_some hF with ⟨q4, h2, e5, hF⟩ | ⟨v3, h2, e5, hF⟩
  · refine g_callV X eob1 rfl rfl (w_X1_lineAt l hl D dA h0 ob1 a1 (.inl q4) h2 e5) q1385 q1387 qs20 q92 q1388 okn_X1_lineAt ⟨by rw [hRf]; exact Nat.le_of_ble_eq_true rfl, by rw [hRl]; exact Nat.le_of_ble_eq_true rfl⟩ (As := [.int a1]) (rest := []) rfl (by first | exact Nat.le_of_ble_eq_true rfl | simp [cat_rf, cat_i, cat_j, cat_f, cat_d]) dX1_fromOf_2 (ac_x ?_)
    cases hF
    exact gx_out X (fun x hx => nomatch hx)
  · refine g_callV X eob1 rfl rfl (w_X1_lineAt l hl D dA h0 ob1 a1 (.inr v3) h2 e5) q1385 q1387 qs20 q92 q1388 okn_X1_lineAt ⟨by rw [hRf]; exact Nat.le_of_ble_eq_true rfl, by rw [hRl]; exact Nat.le_of_ble_eq_true rfl⟩ (As := [.int a1]) (rest := []) rfl (by first | exact Nat.le_of_ble_eq_true rfl | simp [cat_rf, cat_i, cat_j, cat_f, cat_d]) dX1_fromOf_2 (ac_v ?_)
    obtain ⟨v6, ev6, hF⟩ := bnd hF
    refine g_getN (k := 0) X in_X5 rfl (by decide) (nw_in q316 rfl) rfl (getI_V ev6) dX1_fromOf_5 ?_
    cases hF
    exact g_iret X hr dX1_fromOf_8
def F_X1_toOf (this : Nat) (a1 : Int32) (h0 : HH) : Option (((Nat × String) ⊕ Int32) × HH) :=
  Option.bind (isO h0 0 (some this)) fun ob1 =>
  thr (F_X1_lineAt ob1 a1 h0) (fun q4 h2 =>
    some (.inl q4, h2)
  ) (fun v3 h2 =>
    Option.bind (getI h2 4 1 v3) fun v6 =>
    some (.inr v6, h2)
  )
set_option maxHeartbeats 4000000 in
theorem w_X1_toOf (l : Launch) (hl : l.stackTraces = false) (D : va_G) (dA : Nat → ClassId) (h0 : HH) (this : Nat) (a1 : Int32) (oE : (Nat × String) ⊕ Int32) (hE : HH) (hF : F_X1_toOf this a1 h0 = some (oE, hE)) : MC D dA l yX1_toOf cX1_toOf 2 (Option.some Jvm.ClassFile.FieldType.int) [] 10 241 [va_rf (some this), .int a1] h0 (rsI oE, hE) := by
  refine mc_of hl (plainFor_of_name pn_X1) (by simp [lg_sl, cat_rf, cat_i, cat_j, cat_f, cat_d]) ?_
  intro p e s m args below meth c R hRf hRl X hr hnm
  unfold F_X1_toOf at hF
  rw [show argL [va_rf (some this), .int a1] = [some (va_rf (some this)), some (.int a1)] from by simp [argL, cat_rf, cat_i, cat_j, cat_f, cat_d]]
  refine g_aload_n X dX1_toOf_0 rfl rfl ?_
  refine g_iload_n X dX1_toOf_1 rfl rfl ?_
  obtain ⟨ob1, eob1, hF⟩ := bnd hF
  rcases thr_some hF with ⟨q4, h2, e5, hF⟩ | ⟨v3, h2, e5, hF⟩
  · refine g_callV X eob1 rfl rfl (w_X1_lineAt l hl D dA h0 ob1 a1 (.inl q4) h2 e5) q1385 q1387 qs20 q92 q1388 okn_X1_lineAt ⟨by rw [hRf]; exact Nat.le_of_ble_eq_true rfl, by rw [hRl]; exact Nat.le_of_ble_eq_true rfl⟩ (As := [.int a1]) (rest := []) rfl (by first | exact Nat.le_of_ble_eq_true rfl | simp [cat_rf, cat_i, cat_j, cat_f, cat_d]) dX1_toOf_2 (ac_x ?_)
    cases hF
    exact gx_out X (fun x hx => nomatch hx)
  · refine g_callV X eob1 rfl rfl (w_X1_lineAt l hl D dA h0 ob1 a1 (.inr v3) h2 e5) q1385 q1387 qs20 q92 q1388 okn_X1_lineAt ⟨by rw [hRf]; exact Nat.le_of_ble_eq_true rfl, by rw [hRl]; exact Nat.le_of_ble_eq_true rfl⟩ (As := [.int a1]) (rest := []) rfl (by first | exact Nat.le_of_ble_eq_true rfl | simp [cat_rf, cat_i, cat_j, cat_f, cat_d]) dX1_toOf_2 (ac_v ?_)
    obtain ⟨v6, ev6, hF⟩ := bnd hF
    refine g_getN (k := 1) X in_X5 rfl (by decide) (nw_in q319 rfl) rfl (getI_V ev6) dX1_toOf_5 ?_
    cases hF
    exact g_iret X hr dX1_toOf_8
def F_X1_doesReset (this : Nat) (a1 : Int32) (a2 : Int32) (h0 : HH) : Option (((Nat × String) ⊕ Int32) × HH) :=
  Option.bind (getR h0 0 0 (some this)) fun v1 =>
  Option.bind (isO h0 2 v1) fun ob2 =>
  Option.bind (F_X2_isLine ob2 a1 h0) fun v3 =>
  thr (F_X1_needArgument (if v3 = 0 then (0 : Int32) else (if (F_X1_isClock a2) = 0 then (0 : Int32) else (1 : Int32))) h0) (fun q8 h6 =>
    some (.inl q8, h6)
  ) (fun u7 h6 =>
    Option.bind (getR h6 0 0 (some this)) fun v10 =>
    Option.bind (getR h6 2 1 v10) fun v11 =>
    Option.bind (isO h6 8 v11) fun ob12 =>
    Option.bind (F_J2_get ob12 a1 h6) fun v13 =>
    Option.bind (castO h6 4 v13) fun _ =>
    Option.bind (isO h6 4 v13) fun ob15 =>
    Option.bind (F_X5_isReset ob15 a2 h6) fun v16 =>
    Option.bind (okZ v16) fun _ =>
    some (.inr v16, h6)
  )
set_option maxHeartbeats 4000000 in
theorem w_X1_doesReset (l : Launch) (hl : l.stackTraces = false) (D : va_G) (dA : Nat → ClassId) (h0 : HH) (this : Nat) (a1 : Int32) (a2 : Int32) (oE : (Nat × String) ⊕ Int32) (hE : HH) (hF : F_X1_doesReset this a1 a2 h0 = some (oE, hE)) : MC D dA l yX1_doesReset cX1_doesReset 3 (Option.some Jvm.ClassFile.FieldType.boolean) [] 9 220 [va_rf (some this), .int a1, .int a2] h0 (rsI oE, hE) := by
  refine mc_of hl (plainFor_of_name pn_X1) (by simp [lg_sl, cat_rf, cat_i, cat_j, cat_f, cat_d]) ?_
  intro p e s m args below meth c R hRf hRl X hr hnm
  unfold F_X1_doesReset at hF
  rw [show argL [va_rf (some this), .int a1, .int a2] = [some (va_rf (some this)), some (.int a1), some (.int a2)] from by simp [argL, cat_rf, cat_i, cat_j, cat_f, cat_d]]
  refine g_aload_n X dX1_doesReset_0 rfl rfl ?_
  obtain ⟨v1, ev1, hF⟩ := bnd hF
  refine g_get (k := 0) X in_X1 rfl (by decide) q255 (Or.inl rfl) (getR_V ev1) dX1_doesReset_1 ?_
  refine g_iload_n X dX1_doesReset_4 rfl rfl ?_
  obtain ⟨ob2, eob2, hF⟩ := bnd hF
  obtain ⟨v3, ev3, hF⟩ := bnd hF
  refine g_callV X eob2 rfl rfl (w_X2_isLine l hl D dA h0 ob2 a1 v3 ev3) q1389 q661 q662 q93 q663 okn_X2_isLine ⟨by rw [hRf]; exact Nat.le_of_ble_eq_true rfl, by rw [hRl]; exact Nat.le_of_ble_eq_true rfl⟩ (As := [.int a1]) (rest := []) rfl (by first | exact Nat.le_of_ble_eq_true rfl | simp [cat_rf, cat_i, cat_j, cat_f, cat_d]) dX1_doesReset_5 (ac_v ?_)
  suffices K : G p l e R s m args below meth c (RQ D dA h0 (rsI oE, hE) below s) D dA h0 3 h0 23 [some (va_rf (some this)), some (.int a1), some (.int a2)] [.int (if v3 = 0 then (0 : Int32) else (if (F_X1_isClock a2) = 0 then (0 : Int32) else (1 : Int32)))] by
    refine g_if_eq X 22 dX1_doesReset_8 (by decide) (fun c4 => ?_) (fun c4 => ?_)
    · (try simp only [if_pos c4] at K)
      refine g_iconst (v := (0 : Int32)) X dX1_doesReset_22 (by decide) ?_
      first | exact K | (simp only [if_pos c4]; exact K)
    · (try simp only [if_neg c4] at K)
      refine g_iload_n X dX1_doesReset_11 rfl rfl ?_
      refine g_callS X (w_X1_isClock l hl D dA h0 a2) q1300 q560 q92 q561 okn_X1_isClock ⟨by rw [hRf]; exact Nat.le_of_ble_eq_true rfl, by rw [hRl]; exact Nat.le_of_ble_eq_true rfl⟩ (As := [.int a2]) (rest := []) rfl (by first | exact Nat.le_of_ble_eq_true rfl | simp [cat_rf, cat_i, cat_j, cat_f, cat_d]) dX1_doesReset_12 (ac_v ?_)
      refine g_if_eq X 22 dX1_doesReset_15 (by decide) (fun c5 => ?_) (fun c5 => ?_)
      · (try simp only [if_pos c5] at K)
        refine g_iconst (v := (0 : Int32)) X dX1_doesReset_22 (by decide) ?_
        first | exact K | (simp only [if_neg c4, if_pos c5]; exact K)
      · (try simp only [if_neg c5] at K)
        refine g_iconst (v := (1 : Int32)) X dX1_doesReset_18 (by decide) ?_
        refine g_goto X 23 dX1_doesReset_19 (by decide) ?_
        first | exact K | (simp only [if_neg c4, if_neg c5]; exact K)
  rcases thr_some hF with ⟨q8, h6, e9, hF⟩ | ⟨u7, h6, e9, hF⟩
  · refine g_callS X (w_X1_needArgument l hl D dA h0 (if v3 = 0 then (0 : Int32) else (if (F_X1_isClock a2) = 0 then (0 : Int32) else (1 : Int32))) (.inl q8) h6 e9) q1254 q1255 q92 q1256 okn_X1_needArgument ⟨by rw [hRf]; exact Nat.le_of_ble_eq_true rfl, by rw [hRl]; exact Nat.le_of_ble_eq_true rfl⟩ (As := [.int (if v3 = 0 then (0 : Int32) else (if (F_X1_isClock a2) = 0 then (0 : Int32) else (1 : Int32)))]) (rest := []) rfl (by first | exact Nat.le_of_ble_eq_true rfl | simp [cat_rf, cat_i, cat_j, cat_f, cat_d]) dX1_doesReset_23 (ac_x ?_)
    cases hF
    exact gx_out X (fun x hx => nomatch hx)
  · refine g_callS X (w_X1_needArgument l hl D dA h0 (if v3 = 0 then (0 : Int32) else (if (F_X1_isClock a2) = 0 then (0 : Int32) else (1 : Int32))) (.inr u7) h6 e9) q1254 q1255 q92 q1256 okn_X1_needArgument ⟨by rw [hRf]; exact Nat.le_of_ble_eq_true rfl, by rw [hRl]; exact Nat.le_of_ble_eq_true rfl⟩ (As := [.int (if v3 = 0 then (0 : Int32) else (if (F_X1_isClock a2) = 0 then (0 : Int32) else (1 : Int32)))]) (rest := []) rfl (by first | exact Nat.le_of_ble_eq_true rfl | simp [cat_rf, cat_i, cat_j, cat_f, cat_d]) dX1_doesReset_23 (ac_0 ?_)
    refine g_aload_n X dX1_doesReset_26 rfl rfl ?_
    obtain ⟨v10, ev10, hF⟩ := bnd hF
    refine g_get (k := 0) X in_X1 rfl (by decide) q255 (Or.inl rfl) (getR_V ev10) dX1_doesReset_27 ?_
    obtain ⟨v11, ev11, hF⟩ := bnd hF
    refine g_getN (k := 1) X in_X2 rfl (by decide) (nw_in q185 rfl) rfl (getR_V ev11) dX1_doesReset_30 ?_
    refine g_iload_n X dX1_doesReset_33 rfl rfl ?_
    obtain ⟨ob12, eob12, hF⟩ := bnd hF
    obtain ⟨v13, ev13, hF⟩ := bnd hF
    refine g_callV X eob12 rfl rfl (w_J2_get l hl D dA h6 ob12 a1 v13 ev13) q1390 q295 q296 q96 q297 okn_J2_get ⟨by rw [hRf]; exact Nat.le_of_ble_eq_true rfl, by rw [hRl]; exact Nat.le_of_ble_eq_true rfl⟩ (As := [.int a1]) (rest := []) rfl (by first | exact Nat.le_of_ble_eq_true rfl | simp [cat_rf, cat_i, cat_j, cat_f, cat_d]) dX1_doesReset_34 (ac_v ?_)
    obtain ⟨_, z14, hF⟩ := bnd hF
    refine g_castO X q1391 rfl z14 dX1_doesReset_37 ?_
    refine g_iload_n X dX1_doesReset_40 rfl rfl ?_
    obtain ⟨ob15, eob15, hF⟩ := bnd hF
    obtain ⟨v16, ev16, hF⟩ := bnd hF
    refine g_callV X eob15 rfl rfl (w_X5_isReset l hl D dA h6 ob15 a2 v16 ev16) q1406 q669 q670 q104 q671 okn_X5_isReset ⟨by rw [hRf]; exact Nat.le_of_ble_eq_true rfl, by rw [hRl]; exact Nat.le_of_ble_eq_true rfl⟩ (As := [.int a2]) (rest := []) rfl (by first | exact Nat.le_of_ble_eq_true rfl | simp [cat_rf, cat_i, cat_j, cat_f, cat_d]) dX1_doesReset_41 (ac_v ?_)
    obtain ⟨_, z17, hF⟩ := bnd hF
    cases hF
    exact g_zret X hr (narZ z17) dX1_doesReset_44
def F_X1_allStops (this : Nat) (h0 : HH) : Option (((Nat × String) ⊕ Option Nat) × HH) :=
  Option.bind (getR h0 0 0 (some this)) fun v1 =>
  Option.bind (isO h0 2 v1) fun ob2 =>
  b2 (F_X2_gathered ob2 h0) fun v4 h3 =>
  thr (F_X1_needSuch (if v4 = none then (0 : Int32) else (1 : Int32)) h3) (fun q8 h6 =>
    some (.inl q8, h6)
  ) (fun u7 h6 =>
    some (.inr v4, h6)
  )
set_option maxHeartbeats 4000000 in
theorem w_X1_allStops (l : Launch) (hl : l.stackTraces = false) (D : va_G) (dA : Nat → ClassId) (h0 : HH) (this : Nat) (oE : (Nat × String) ⊕ Option Nat) (hE : HH) (hF : F_X1_allStops this h0 = some (oE, hE)) : MC D dA l yX1_allStops cX1_allStops 2 (Option.some (Jvm.ClassFile.FieldType.object "java/util/ArrayList")) [] 9 221 [va_rf (some this)] h0 (rsR oE, hE) := by
  refine mc_of hl (plainFor_of_name pn_X1) (by simp [lg_sl, cat_rf, cat_i, cat_j, cat_f, cat_d]) ?_
  intro p e s m args below meth c R hRf hRl X hr hnm
  unfold F_X1_allStops at hF
  rw [show argL [va_rf (some this)] = [some (va_rf (some this))] from by simp [argL, cat_rf, cat_i, cat_j, cat_f, cat_d]]
  refine G.pad 1 (L' := [some (va_rf (some this)), none]) rfl ?_
  refine g_aload_n X dX1_allStops_0 rfl rfl ?_
  obtain ⟨v1, ev1, hF⟩ := bnd hF
  refine g_get (k := 0) X in_X1 rfl (by decide) q255 (Or.inl rfl) (getR_V ev1) dX1_allStops_1 ?_
  obtain ⟨ob2, eob2, hF⟩ := bnd hF
  obtain ⟨v4, h3, eh3, hF⟩ := b2_some hF
  refine g_callV X eob2 rfl rfl (w_X2_gathered l hl D dA h0 ob2  v4 h3 eh3) q1418 q1419 q1420 q93 q1421 okn_X2_gathered ⟨by rw [hRf]; exact Nat.le_of_ble_eq_true rfl, by rw [hRl]; exact Nat.le_of_ble_eq_true rfl⟩ (As := []) (rest := []) rfl (by first | exact Nat.le_of_ble_eq_true rfl | simp [cat_rf, cat_i, cat_j, cat_f, cat_d]) dX1_allStops_4 (ac_v ?_)
  refine g_astore_n (L' := [some (va_rf (some this)), some (va_rf v4)]) X dX1_allStops_7 rfl (Nat.le_of_ble_eq_true rfl) (by first | rfl | simp [stL, rm1, clr2, cat_rf, cat_i, cat_j, cat_f, cat_d]) ?_
  refine g_aload_n X dX1_allStops_8 rfl rfl ?_
  suffices K : G p l e R s m args below meth c (RQ D dA h0 (rsR oE, hE) below s) D dA h0 2 h3 17 [none, some (va_rf v4)] [.int (if v4 = none then (0 : Int32) else (1 : Int32))] by
    refine g_ifnull X 16 dX1_allStops_9 (by decide) (fun c5 => ?_) (fun c5 => ?_)
    · (try simp only [if_pos c5] at K)
      refine g_iconst (v := (0 : Int32)) X dX1_allStops_16 (by decide) ?_
      refine G.drop [false, true] rfl ?_
      first | exact K | (simp only [if_pos c5]; exact K)
    · (try simp only [if_neg c5] at K)
      refine g_iconst (v := (1 : Int32)) X dX1_allStops_12 (by decide) ?_
      refine g_goto X 17 dX1_allStops_13 (by decide) ?_
      refine G.drop [false, true] rfl ?_
      first | exact K | (simp only [if_neg c5]; exact K)
  rcases thr_some hF with ⟨q8, h6, e9, hF⟩ | ⟨u7, h6, e9, hF⟩
  · refine g_callS X (w_X1_needSuch l hl D dA h3 (if v4 = none then (0 : Int32) else (1 : Int32)) (.inl q8) h6 e9) q1261 q1262 q92 q1263 okn_X1_needSuch ⟨by rw [hRf]; exact Nat.le_of_ble_eq_true rfl, by rw [hRl]; exact Nat.le_of_ble_eq_true rfl⟩ (As := [.int (if v4 = none then (0 : Int32) else (1 : Int32))]) (rest := []) rfl (by first | exact Nat.le_of_ble_eq_true rfl | simp [cat_rf, cat_i, cat_j, cat_f, cat_d]) dX1_allStops_17 (ac_x ?_)
    cases hF
    exact gx_out X (fun x hx => nomatch hx)
  · refine g_callS X (w_X1_needSuch l hl D dA h3 (if v4 = none then (0 : Int32) else (1 : Int32)) (.inr u7) h6 e9) q1261 q1262 q92 q1263 okn_X1_needSuch ⟨by rw [hRf]; exact Nat.le_of_ble_eq_true rfl, by rw [hRl]; exact Nat.le_of_ble_eq_true rfl⟩ (As := [.int (if v4 = none then (0 : Int32) else (1 : Int32))]) (rest := []) rfl (by first | exact Nat.le_of_ble_eq_true rfl | simp [cat_rf, cat_i, cat_j, cat_f, cat_d]) dX1_allStops_17 (ac_0 ?_)
    refine g_aload_n X dX1_allStops_20 rfl rfl ?_
    cases hF
    exact g_aret X hr (Or.inl ⟨_, rfl⟩) dX1_allStops_21
def F_X1_reachable_B9 (this : Nat) (k1_6 : Option Nat) (x2_6 : Int32) (x3_6 : Int32) (h2 : HH) : Option ((Int32 × Int32) ⊕ Int32) :=
  Option.bind (isO h2 8 k1_6) fun ob7 =>
  Option.bind (F_J2_size ob7 h2) fun v8 =>
  if v8 ≤ x3_6 then (
    some (.inr x2_6)
  ) else (
    Option.bind (isO h2 8 k1_6) fun ob10 =>
    Option.bind (F_J2_get ob10 x3_6 h2) fun v11 =>
    Option.bind (castO h2 5 v11) fun _ =>
    Option.bind (getI h2 5 0 v11) fun v13 =>
    some (.inl ((x2_6 ||| ((1 : Int32) <<< (v13 &&& 31))), (x3_6 + (1 : Int32))))
  )
def F_X1_reachable (this : Nat) (h0 : HH) : Option (((Nat × String) ⊕ Int32) × HH) :=
  Option.bind (isO h0 0 (some this)) fun ob1 =>
  thr (F_X1_allStops ob1 h0) (fun q4 h2 =>
    some (.inl q4, h2)
  ) (fun v3 h2 =>
    Option.bind (lp (fun z => F_X1_reachable_B9 this v3 z.1 z.2 h2) 100000 ((0 : Int32), (0 : Int32))) fun v14 =>
    some (.inr v14, h2)
  )
set_option maxHeartbeats 4000000 in
theorem w_X1_reachable (l : Launch) (hl : l.stackTraces = false) (D : va_G) (dA : Nat → ClassId) (h0 : HH) (this : Nat) (oE : (Nat × String) ⊕ Int32) (hE : HH) (hF : F_X1_reachable this h0 = some (oE, hE)) : MC D dA l yX1_reachable cX1_reachable 4 (Option.some Jvm.ClassFile.FieldType.int) [] 10 242 [va_rf (some this)] h0 (rsI oE, hE) := by
  refine mc_of hl (plainFor_of_name pn_X1) (by simp [lg_sl, cat_rf, cat_i, cat_j, cat_f, cat_d]) ?_
  intro p e s m args below meth c R hRf hRl X hr hnm
  unfold F_X1_reachable at hF
  rw [show argL [va_rf (some this)] = [some (va_rf (some this))] from by simp [argL, cat_rf, cat_i, cat_j, cat_f, cat_d]]
  refine G.pad 3 (L' := [some (va_rf (some this)), none, none, none]) rfl ?_
  refine g_aload_n X dX1_reachable_0 rfl rfl ?_
  obtain ⟨ob1, eob1, hF⟩ := bnd hF
  rcases thr_some hF with ⟨q4, h2, e5, hF⟩ | ⟨v3, h2, e5, hF⟩
  · refine g_callV X eob1 rfl rfl (w_X1_allStops l hl D dA h0 ob1  (.inl q4) h2 e5) q1414 q1416 qs21 q92 q1417 okn_X1_allStops ⟨by rw [hRf]; exact Nat.le_of_ble_eq_true rfl, by rw [hRl]; exact Nat.le_of_ble_eq_true rfl⟩ (As := []) (rest := []) rfl (by first | exact Nat.le_of_ble_eq_true rfl | simp [cat_rf, cat_i, cat_j, cat_f, cat_d]) dX1_reachable_1 (ac_x ?_)
    cases hF
    exact gx_out X (fun x hx => nomatch hx)
  · refine g_callV X eob1 rfl rfl (w_X1_allStops l hl D dA h0 ob1  (.inr v3) h2 e5) q1414 q1416 qs21 q92 q1417 okn_X1_allStops ⟨by rw [hRf]; exact Nat.le_of_ble_eq_true rfl, by rw [hRl]; exact Nat.le_of_ble_eq_true rfl⟩ (As := []) (rest := []) rfl (by first | exact Nat.le_of_ble_eq_true rfl | simp [cat_rf, cat_i, cat_j, cat_f, cat_d]) dX1_reachable_1 (ac_v ?_)
    refine g_astore_n (L' := [some (va_rf (some this)), some (va_rf v3), none, none]) X dX1_reachable_4 rfl (Nat.le_of_ble_eq_true rfl) (by first | rfl | simp [stL, rm1, clr2, cat_rf, cat_i, cat_j, cat_f, cat_d]) ?_
    refine g_iconst (v := (0 : Int32)) X dX1_reachable_5 (by decide) ?_
    refine g_istore_n (L' := [some (va_rf (some this)), some (va_rf v3), some (.int (0 : Int32)), none]) X dX1_reachable_6 rfl (Nat.le_of_ble_eq_true rfl) (by first | rfl | simp [stL, rm1, clr2, cat_rf, cat_i, cat_j, cat_f, cat_d]) ?_
    refine g_iconst (v := (0 : Int32)) X dX1_reachable_7 (by decide) ?_
    refine g_istore_n (L' := [some (va_rf (some this)), some (va_rf v3), some (.int (0 : Int32)), some (.int (0 : Int32))]) X dX1_reachable_8 rfl (Nat.le_of_ble_eq_true rfl) (by first | rfl | simp [stL, rm1, clr2, cat_rf, cat_i, cat_j, cat_f, cat_d]) ?_
    refine G.drop [false, true, true, true] rfl ?_
    obtain ⟨v14, e15, hF⟩ := bnd hF
    refine lp_ind (Gs := (fun z => G p l e R s m args below meth c (RQ D dA h0 (rsI oE, hE) below s) D dA h0 4 h2 9 [none, some (va_rf v3), some (.int z.1), some (.int z.2)] [])) (Ge := (fun z => G p l e R s m args below meth c (RQ D dA h0 (rsI oE, hE) below s) D dA h0 4 h2 39 [none, none, some (.int z), none] [])) ?_ _ _ _ e15 ?_
    · rintro ⟨x2_6, x3_6⟩ o hF hgo hr
      change F_X1_reachable_B9 this v3 x2_6 x3_6 h2 = some o at hF
      generalize v3 = k1_6 at hF hgo hr ⊢
      unfold F_X1_reachable_B9 at hF
      show G p l e R s m args below meth c (RQ D dA h0 (rsI oE, hE) below s) D dA h0 4 h2 9 [none, some (va_rf k1_6), some (.int x2_6), some (.int x3_6)] []
      refine g_iload_n X dX1_reachable_9 rfl rfl ?_
      refine g_aload_n X dX1_reachable_10 rfl rfl ?_
      obtain ⟨ob7, eob7, hF⟩ := bnd hF
      obtain ⟨v8, ev8, hF⟩ := bnd hF
      refine g_callV X eob7 rfl rfl (w_J2_size l hl D dA h2 ob7  v8 ev8) q818 q289 q290 q96 q291 okn_J2_size ⟨by rw [hRf]; exact Nat.le_of_ble_eq_true rfl, by rw [hRl]; exact Nat.le_of_ble_eq_true rfl⟩ (As := []) (rest := [.int x3_6]) rfl (by first | exact Nat.le_of_ble_eq_true rfl | simp [cat_rf, cat_i, cat_j, cat_f, cat_d]) dX1_reachable_11 (ac_v ?_)
      refine g_icmp_ge X 39 dX1_reachable_14 (by decide) (fun c9 => ?_) (fun c9 => ?_)
      · have hF := (if_pos c9).symm.trans hF
        refine G.drop [false, false, true, false] rfl ?_
        cases hF
        exact hr _ rfl
      · have hF := (if_neg c9).symm.trans hF
        refine g_iload_n X dX1_reachable_17 rfl rfl ?_
        refine g_iconst (v := (1 : Int32)) X dX1_reachable_18 (by decide) ?_
        refine g_aload_n X dX1_reachable_19 rfl rfl ?_
        refine g_iload_n X dX1_reachable_20 rfl rfl ?_
        obtain ⟨ob10, eob10, hF⟩ := bnd hF
        obtain ⟨v11, ev11, hF⟩ := bnd hF
        refine g_callV X eob10 rfl rfl (w_J2_get l hl D dA h2 ob10 x3_6 v11 ev11) q1390 q295 q296 q96 q297 okn_J2_get ⟨by rw [hRf]; exact Nat.le_of_ble_eq_true rfl, by rw [hRl]; exact Nat.le_of_ble_eq_true rfl⟩ (As := [.int x3_6]) (rest := [.int (1 : Int32), .int x2_6]) rfl (by first | exact Nat.le_of_ble_eq_true rfl | simp [cat_rf, cat_i, cat_j, cat_f, cat_d]) dX1_reachable_21 (ac_v ?_)
        obtain ⟨_, z12, hF⟩ := bnd hF
        refine g_castO X q1479 rfl z12 dX1_reachable_24 ?_
        obtain ⟨v13, ev13, hF⟩ := bnd hF
        refine g_getN (k := 0) X in_X7 rfl (by decide) (nw_in q1447 rfl) rfl (getI_V ev13) dX1_reachable_27 ?_
        refine g_ishl X dX1_reachable_30 ?_
        refine g_ior X dX1_reachable_31 ?_
        refine g_istore_n (L' := [none, some (va_rf k1_6), some (.int (x2_6 ||| ((1 : Int32) <<< (v13 &&& 31)))), some (.int x3_6)]) X dX1_reachable_32 rfl (Nat.le_of_ble_eq_true rfl) (by first | rfl | simp [stL, rm1, clr2, cat_rf, cat_i, cat_j, cat_f, cat_d]) ?_
        refine g_iinc (v := (x3_6 + (1 : Int32))) (L' := [none, some (va_rf k1_6), some (.int (x2_6 ||| ((1 : Int32) <<< (v13 &&& 31)))), some (.int (x3_6 + (1 : Int32)))]) X dX1_reachable_33 (Nat.le_of_ble_eq_true rfl) rfl rfl (by first | rfl | simp [stL, rm1, clr2, cat_rf, cat_i, cat_j, cat_f, cat_d]) ?_
        refine g_goto X 9 dX1_reachable_36 (by decide) ?_
        cases hF
        exact hgo _ rfl
    show G p l e R s m args below meth c (RQ D dA h0 (rsI oE, hE) below s) D dA h0 4 h2 39 [none, none, some (.int v14), none] []
    refine g_iload_n X dX1_reachable_39 rfl rfl ?_
    cases hF
    exact g_iret X hr dX1_reachable_40
def F_X1_zones (this : Nat) (h0 : HH) : Option (((Nat × String) ⊕ Int32) × HH) :=
  Option.bind (isO h0 0 (some this)) fun ob1 =>
  thr (F_X1_allStops ob1 h0) (fun q4 h2 =>
    some (.inl q4, h2)
  ) (fun v3 h2 =>
    Option.bind (isO h2 8 v3) fun ob6 =>
    Option.bind (F_J2_size ob6 h2) fun v7 =>
    some (.inr v7, h2)
  )
set_option maxHeartbeats 4000000 in
theorem w_X1_zones (l : Launch) (hl : l.stackTraces = false) (D : va_G) (dA : Nat → ClassId) (h0 : HH) (this : Nat) (oE : (Nat × String) ⊕ Int32) (hE : HH) (hF : F_X1_zones this h0 = some (oE, hE)) : MC D dA l yX1_zones cX1_zones 1 (Option.some Jvm.ClassFile.FieldType.int) [] 10 242 [va_rf (some this)] h0 (rsI oE, hE) := by
  refine mc_of hl (plainFor_of_name pn_X1) (by simp [lg_sl, cat_rf, cat_i, cat_j, cat_f, cat_d]) ?_
  intro p e s m args below meth c R hRf hRl X hr hnm
  unfold F_X1_zones at hF
  rw [show argL [va_rf (some this)] = [some (va_rf (some this))] from by simp [argL, cat_rf, cat_i, cat_j, cat_f, cat_d]]
  refine g_aload_n X dX1_zones_0 rfl rfl ?_
  obtain ⟨ob1, eob1, hF⟩ := bnd hF
  rcases thr_some hF with ⟨q4, h2, e5, hF⟩ | ⟨v3, h2, e5, hF⟩
  · refine g_callV X eob1 rfl rfl (w_X1_allStops l hl D dA h0 ob1  (.inl q4) h2 e5) q1414 q1416 qs21 q92 q1417 okn_X1_allStops ⟨by rw [hRf]; exact Nat.le_of_ble_eq_true rfl, by rw [hRl]; exact Nat.le_of_ble_eq_true rfl⟩ (As := []) (rest := []) rfl (by first | exact Nat.le_of_ble_eq_true rfl | simp [cat_rf, cat_i, cat_j, cat_f, cat_d]) dX1_zones_1 (ac_x ?_)
    cases hF
    exact gx_out X (fun x hx => nomatch hx)
  · refine g_callV X eob1 rfl rfl (w_X1_allStops l hl D dA h0 ob1  (.inr v3) h2 e5) q1414 q1416 qs21 q92 q1417 okn_X1_allStops ⟨by rw [hRf]; exact Nat.le_of_ble_eq_true rfl, by rw [hRl]; exact Nat.le_of_ble_eq_true rfl⟩ (As := []) (rest := []) rfl (by first | exact Nat.le_of_ble_eq_true rfl | simp [cat_rf, cat_i, cat_j, cat_f, cat_d]) dX1_zones_1 (ac_v ?_)
    obtain ⟨ob6, eob6, hF⟩ := bnd hF
    obtain ⟨v7, ev7, hF⟩ := bnd hF
    refine g_callV X eob6 rfl rfl (w_J2_size l hl D dA h2 ob6  v7 ev7) q818 q289 q290 q96 q291 okn_J2_size ⟨by rw [hRf]; exact Nat.le_of_ble_eq_true rfl, by rw [hRl]; exact Nat.le_of_ble_eq_true rfl⟩ (As := []) (rest := []) rfl (by first | exact Nat.le_of_ble_eq_true rfl | simp [cat_rf, cat_i, cat_j, cat_f, cat_d]) dX1_zones_4 (ac_v ?_)
    cases hF
    exact g_iret X hr dX1_zones_7
def F_X1_zonesOf_B17 (this : Nat) (a1 : Int32) (k2_10 : Option Nat) (x3_10 : Int32) (x4_10 : Int32) (h6 : HH) : Option ((Int32 × Int32) ⊕ Int32) :=
  Option.bind (isO h6 8 k2_10) fun ob11 =>
  Option.bind (F_J2_size ob11 h6) fun v12 =>
  if v12 ≤ x4_10 then (
    some (.inr x3_10)
  ) else (
    Option.bind (isO h6 8 k2_10) fun ob14 =>
    Option.bind (F_J2_get ob14 x4_10 h6) fun v15 =>
    Option.bind (castO h6 5 v15) fun _ =>
    Option.bind (getI h6 5 0 v15) fun v17 =>
    some (.inl ((x3_10 + (if v17 = a1 then (1 : Int32) else (0 : Int32))), (x4_10 + (1 : Int32))))
  )
def F_X1_zonesOf (this : Nat) (a1 : Int32) (h0 : HH) : Option (((Nat × String) ⊕ Int32) × HH) :=
  thr (F_X1_needArgument (F_X1_isHarbour a1) h0) (fun q3 h1 =>
    some (.inl q3, h1)
  ) (fun u2 h1 =>
    Option.bind (isO h1 0 (some this)) fun ob5 =>
    thr (F_X1_allStops ob5 h1) (fun q8 h6 =>
      some (.inl q8, h6)
    ) (fun v7 h6 =>
      Option.bind (lp (fun z => F_X1_zonesOf_B17 this a1 v7 z.1 z.2 h6) 100000 ((0 : Int32), (0 : Int32))) fun v19 =>
      some (.inr v19, h6)
    )
  )
set_option maxHeartbeats 4000000 in
theorem w_X1_zonesOf (l : Launch) (hl : l.stackTraces = false) (D : va_G) (dA : Nat → ClassId) (h0 : HH) (this : Nat) (a1 : Int32) (oE : (Nat × String) ⊕ Int32) (hE : HH) (hF : F_X1_zonesOf this a1 h0 = some (oE, hE)) : MC D dA l yX1_zonesOf cX1_zonesOf 5 (Option.some Jvm.ClassFile.FieldType.int) [] 10 242 [va_rf (some this), .int a1] h0 (rsI oE, hE) := by
  refine mc_of hl (plainFor_of_name pn_X1) (by simp [lg_sl, cat_rf, cat_i, cat_j, cat_f, cat_d]) ?_
  intro p e s m args below meth c R hRf hRl X hr hnm
  unfold F_X1_zonesOf at hF
  rw [show argL [va_rf (some this), .int a1] = [some (va_rf (some this)), some (.int a1)] from by simp [argL, cat_rf, cat_i, cat_j, cat_f, cat_d]]
  refine G.pad 3 (L' := [some (va_rf (some this)), some (.int a1), none, none, none]) rfl ?_
  refine g_iload_n X dX1_zonesOf_0 rfl rfl ?_
  refine g_callS X (w_X1_isHarbour l hl D dA h0 a1) q1376 q641 q92 q642 okn_X1_isHarbour ⟨by rw [hRf]; exact Nat.le_of_ble_eq_true rfl, by rw [hRl]; exact Nat.le_of_ble_eq_true rfl⟩ (As := [.int a1]) (rest := []) rfl (by first | exact Nat.le_of_ble_eq_true rfl | simp [cat_rf, cat_i, cat_j, cat_f, cat_d]) dX1_zonesOf_1 (ac_v ?_)
  rcases thr_some hF with ⟨q3, h1, e4, hF⟩ | ⟨u2, h1, e4, hF⟩
  · refine g_callS X (w_X1_needArgument l hl D dA h0 (F_X1_isHarbour a1) (.inl q3) h1 e4) q1254 q1255 q92 q1256 okn_X1_needArgument ⟨by rw [hRf]; exact Nat.le_of_ble_eq_true rfl, by rw [hRl]; exact Nat.le_of_ble_eq_true rfl⟩ (As := [.int (F_X1_isHarbour a1)]) (rest := []) rfl (by first | exact Nat.le_of_ble_eq_true rfl | simp [cat_rf, cat_i, cat_j, cat_f, cat_d]) dX1_zonesOf_4 (ac_x ?_)
    cases hF
    exact gx_out X (fun x hx => nomatch hx)
  · refine g_callS X (w_X1_needArgument l hl D dA h0 (F_X1_isHarbour a1) (.inr u2) h1 e4) q1254 q1255 q92 q1256 okn_X1_needArgument ⟨by rw [hRf]; exact Nat.le_of_ble_eq_true rfl, by rw [hRl]; exact Nat.le_of_ble_eq_true rfl⟩ (As := [.int (F_X1_isHarbour a1)]) (rest := []) rfl (by first | exact Nat.le_of_ble_eq_true rfl | simp [cat_rf, cat_i, cat_j, cat_f, cat_d]) dX1_zonesOf_4 (ac_0 ?_)
    refine g_aload_n X dX1_zonesOf_7 rfl rfl ?_
    obtain ⟨ob5, eob5, hF⟩ := bnd hF
    rcases thr_some hF with ⟨q8, h6, e9, hF⟩ | ⟨v7, h6, e9, hF⟩
    · refine g_callV X eob5 rfl rfl (w_X1_allStops l hl D dA h1 ob5  (.inl q8) h6 e9) q1414 q1416 qs21 q92 q1417 okn_X1_allStops ⟨by rw [hRf]; exact Nat.le_of_ble_eq_true rfl, by rw [hRl]; exact Nat.le_of_ble_eq_true rfl⟩ (As := []) (rest := []) rfl (by first | exact Nat.le_of_ble_eq_true rfl | simp [cat_rf, cat_i, cat_j, cat_f, cat_d]) dX1_zonesOf_8 (ac_x ?_)
      cases hF
      exact gx_out X (fun x hx => nomatch hx)
    · refine g_callV X eob5 rfl rfl (w_X1_allStops l hl D dA h1 ob5  (.inr v7) h6 e9) q1414 q1416 qs21 q92 q1417 okn_X1_allStops ⟨by rw [hRf]; exact Nat.le_of_ble_eq_true rfl, by rw [hRl]; exact Nat.le_of_ble_eq_true rfl⟩ (As := []) (rest := []) rfl (by first | exact Nat.le_of_ble_eq_true rfl | simp [cat_rf, cat_i, cat_j, cat_f, cat_d]) dX1_zonesOf_8 (ac_v ?_)
      refine g_astore_n (L' := [some (va_rf (some this)), some (.int a1), some (va_rf v7), none, none]) X dX1_zonesOf_11 rfl (Nat.le_of_ble_eq_true rfl) (by first | rfl | simp [stL, rm1, clr2, cat_rf, cat_i, cat_j, cat_f, cat_d]) ?_
      refine g_iconst (v := (0 : Int32)) X dX1_zonesOf_12 (by decide) ?_
      refine g_istore_n (L' := [some (va_rf (some this)), some (.int a1), some (va_rf v7), some (.int (0 : Int32)), none]) X dX1_zonesOf_13 rfl (Nat.le_of_ble_eq_true rfl) (by first | rfl | simp [stL, rm1, clr2, cat_rf, cat_i, cat_j, cat_f, cat_d]) ?_
      refine g_iconst (v := (0 : Int32)) X dX1_zonesOf_14 (by decide) ?_
      refine g_istore (L' := [some (va_rf (some this)), some (.int a1), some (va_rf v7), some (.int (0 : Int32)), some (.int (0 : Int32))]) X dX1_zonesOf_15 (Nat.le_of_ble_eq_true rfl) (by first | rfl | simp [stL, rm1, clr2, cat_rf, cat_i, cat_j, cat_f, cat_d]) ?_
      refine G.drop [false, true, true, true, true] rfl ?_
      obtain ⟨v19, e20, hF⟩ := bnd hF
      refine lp_ind (Gs := (fun z => G p l e R s m args below meth c (RQ D dA h0 (rsI oE, hE) below s) D dA h0 5 h6 17 [none, some (.int a1), some (va_rf v7), some (.int z.1), some (.int z.2)] [])) (Ge := (fun z => G p l e R s m args below meth c (RQ D dA h0 (rsI oE, hE) below s) D dA h0 5 h6 56 [none, none, none, some (.int z), none] [])) ?_ _ _ _ e20 ?_
      · rintro ⟨x3_10, x4_10⟩ o hF hgo hr
        change F_X1_zonesOf_B17 this a1 v7 x3_10 x4_10 h6 = some o at hF
        generalize v7 = k2_10 at hF hgo hr ⊢
        unfold F_X1_zonesOf_B17 at hF
        show G p l e R s m args below meth c (RQ D dA h0 (rsI oE, hE) below s) D dA h0 5 h6 17 [none, some (.int a1), some (va_rf k2_10), some (.int x3_10), some (.int x4_10)] []
        refine g_iload X dX1_zonesOf_17 rfl ?_
        refine g_aload_n X dX1_zonesOf_19 rfl rfl ?_
        obtain ⟨ob11, eob11, hF⟩ := bnd hF
        obtain ⟨v12, ev12, hF⟩ := bnd hF
        refine g_callV X eob11 rfl rfl (w_J2_size l hl D dA h6 ob11  v12 ev12) q818 q289 q290 q96 q291 okn_J2_size ⟨by rw [hRf]; exact Nat.le_of_ble_eq_true rfl, by rw [hRl]; exact Nat.le_of_ble_eq_true rfl⟩ (As := []) (rest := [.int x4_10]) rfl (by first | exact Nat.le_of_ble_eq_true rfl | simp [cat_rf, cat_i, cat_j, cat_f, cat_d]) dX1_zonesOf_20 (ac_v ?_)
        refine g_icmp_ge X 56 dX1_zonesOf_23 (by decide) (fun c13 => ?_) (fun c13 => ?_)
        · have hF := (if_pos c13).symm.trans hF
          refine G.drop [false, false, false, true, false] rfl ?_
          cases hF
          exact hr _ rfl
        · have hF := (if_neg c13).symm.trans hF
          refine g_iload_n X dX1_zonesOf_26 rfl rfl ?_
          refine g_aload_n X dX1_zonesOf_27 rfl rfl ?_
          refine g_iload X dX1_zonesOf_28 rfl ?_
          obtain ⟨ob14, eob14, hF⟩ := bnd hF
          obtain ⟨v15, ev15, hF⟩ := bnd hF
          refine g_callV X eob14 rfl rfl (w_J2_get l hl D dA h6 ob14 x4_10 v15 ev15) q1390 q295 q296 q96 q297 okn_J2_get ⟨by rw [hRf]; exact Nat.le_of_ble_eq_true rfl, by rw [hRl]; exact Nat.le_of_ble_eq_true rfl⟩ (As := [.int x4_10]) (rest := [.int x3_10]) rfl (by first | exact Nat.le_of_ble_eq_true rfl | simp [cat_rf, cat_i, cat_j, cat_f, cat_d]) dX1_zonesOf_30 (ac_v ?_)
          obtain ⟨_, z16, hF⟩ := bnd hF
          refine g_castO X q1479 rfl z16 dX1_zonesOf_33 ?_
          obtain ⟨v17, ev17, hF⟩ := bnd hF
          refine g_getN (k := 0) X in_X7 rfl (by decide) (nw_in q1447 rfl) rfl (getI_V ev17) dX1_zonesOf_36 ?_
          refine g_iload_n X dX1_zonesOf_39 rfl rfl ?_
          suffices K : G p l e R s m args below meth c (RQ D dA h0 (rsI oE, hE) below s) D dA h0 5 h6 48 [none, some (.int a1), some (va_rf k2_10), none, some (.int x4_10)] [.int (if v17 = a1 then (1 : Int32) else (0 : Int32)), .int x3_10] by
            refine g_icmp_ne X 47 dX1_zonesOf_40 (by decide) (fun c18 => ?_) (fun c18 => ?_)
            · (try simp only [if_neg c18] at K)
              refine g_iconst (v := (0 : Int32)) X dX1_zonesOf_47 (by decide) ?_
              refine G.drop [false, true, true, false, true] rfl ?_
              first | exact K | (simp only [if_neg c18]; exact K)
            · (try simp only [if_pos c18] at K)
              refine g_iconst (v := (1 : Int32)) X dX1_zonesOf_43 (by decide) ?_
              refine g_goto X 48 dX1_zonesOf_44 (by decide) ?_
              refine G.drop [false, true, true, false, true] rfl ?_
              first | exact K | (simp only [if_pos c18]; exact K)
          refine g_iadd X dX1_zonesOf_48 ?_
          refine g_istore_n (L' := [none, some (.int a1), some (va_rf k2_10), some (.int (x3_10 + (if v17 = a1 then (1 : Int32) else (0 : Int32)))), some (.int x4_10)]) X dX1_zonesOf_49 rfl (Nat.le_of_ble_eq_true rfl) (by first | rfl | simp [stL, rm1, clr2, cat_rf, cat_i, cat_j, cat_f, cat_d]) ?_
          refine g_iinc (v := (x4_10 + (1 : Int32))) (L' := [none, some (.int a1), some (va_rf k2_10), some (.int (x3_10 + (if v17 = a1 then (1 : Int32) else (0 : Int32)))), some (.int (x4_10 + (1 : Int32)))]) X dX1_zonesOf_50 (Nat.le_of_ble_eq_true rfl) rfl rfl (by first | rfl | simp [stL, rm1, clr2, cat_rf, cat_i, cat_j, cat_f, cat_d]) ?_
          refine g_goto X 17 dX1_zonesOf_53 (by decide) ?_
          cases hF
          exact hgo _ rfl
      show G p l e R s m args below meth c (RQ D dA h0 (rsI oE, hE) below s) D dA h0 5 h6 56 [none, none, none, some (.int v19), none] []
      refine g_iload_n X dX1_zonesOf_56 rfl rfl ?_
      cases hF
      exact g_iret X hr dX1_zonesOf_57
def F_X1_fewestLines_B22 (this : Nat) (a1 : Int32) (k2_12 : Option Nat) (x3_12 : Int32) (x4_12 : Int32) (h6 : HH) : Option ((Int32 × Int32) ⊕ Int32) :=
  if x4_12 < 0 then (
    some (.inr x3_12)
  ) else (
    Option.bind (isO h6 8 k2_12) fun ob14 =>
    Option.bind (F_J2_get ob14 x4_12 h6) fun v15 =>
    Option.bind (castO h6 5 v15) fun _ =>
    Option.bind (getI h6 5 0 v15) fun v17 =>
    if v17 = a1 then (
      Option.bind (isO h6 8 k2_12) fun ob19 =>
      Option.bind (F_J2_get ob19 x4_12 h6) fun v20 =>
      Option.bind (castO h6 5 v20) fun _ =>
      Option.bind (getI h6 5 2 v20) fun v22 =>
      some (.inl (v22, (x4_12 + (-1 : Int32))))
    ) else (
      some (.inl (x3_12, (x4_12 + (-1 : Int32))))
    )
  )
def F_X1_fewestLines (this : Nat) (a1 : Int32) (h0 : HH) : Option (((Nat × String) ⊕ Int32) × HH) :=
  thr (F_X1_needArgument (F_X1_isHarbour a1) h0) (fun q3 h1 =>
    some (.inl q3, h1)
  ) (fun u2 h1 =>
    Option.bind (isO h1 0 (some this)) fun ob5 =>
    thr (F_X1_allStops ob5 h1) (fun q8 h6 =>
      some (.inl q8, h6)
    ) (fun v7 h6 =>
      Option.bind (isO h6 8 v7) fun ob10 =>
      Option.bind (F_J2_size ob10 h6) fun v11 =>
      Option.bind (lp (fun z => F_X1_fewestLines_B22 this a1 v7 z.1 z.2 h6) 100000 ((-1 : Int32), (v11 - (1 : Int32)))) fun v23 =>
      thr (F_X1_needSuch (if v23 = (-1 : Int32) then (0 : Int32) else (1 : Int32)) h6) (fun q27 h25 =>
        some (.inl q27, h25)
      ) (fun u26 h25 =>
        some (.inr v23, h25)
      )
    )
  )
set_option maxHeartbeats 4000000 in
theorem w_X1_fewestLines (l : Launch) (hl : l.stackTraces = false) (D : va_G) (dA : Nat → ClassId) (h0 : HH) (this : Nat) (a1 : Int32) (oE : (Nat × String) ⊕ Int32) (hE : HH) (hF : F_X1_fewestLines this a1 h0 = some (oE, hE)) : MC D dA l yX1_fewestLines cX1_fewestLines 5 (Option.some Jvm.ClassFile.FieldType.int) [] 10 242 [va_rf (some this), .int a1] h0 (rsI oE, hE) := by
  refine mc_of hl (plainFor_of_name pn_X1) (by simp [lg_sl, cat_rf, cat_i, cat_j, cat_f, cat_d]) ?_
  intro p e s m args below meth c R hRf hRl X hr hnm
  unfold F_X1_fewestLines at hF
  rw [show argL [va_rf (some this), .int a1] = [some (va_rf (some this)), some (.int a1)] from by simp [argL, cat_rf, cat_i, cat_j, cat_f, cat_d]]
  refine G.pad 3 (L' := [some (va_rf (some this)), some (.int a1), none, none, none]) rfl ?_
  refine g_iload_n X dX1_fewestLines_0 rfl rfl ?_
  refine g_callS X (w_X1_isHarbour l hl D dA h0 a1) q1376 q641 q92 q642 okn_X1_isHarbour ⟨by rw [hRf]; exact Nat.le_of_ble_eq_true rfl, by rw [hRl]; exact Nat.le_of_ble_eq_true rfl⟩ (As := [.int a1]) (rest := []) rfl (by first | exact Nat.le_of_ble_eq_true rfl | simp [cat_rf, cat_i, cat_j, cat_f, cat_d]) dX1_fewestLines_1 (ac_v ?_)
  rcases thr_some hF with ⟨q3, h1, e4, hF⟩ | ⟨u2, h1, e4, hF⟩
  · refine g_callS X (w_X1_needArgument l hl D dA h0 (F_X1_isHarbour a1) (.inl q3) h1 e4) q1254 q1255 q92 q1256 okn_X1_needArgument ⟨by rw [hRf]; exact Nat.le_of_ble_eq_true rfl, by rw [hRl]; exact Nat.le_of_ble_eq_true rfl⟩ (As := [.int (F_X1_isHarbour a1)]) (rest := []) rfl (by first | exact Nat.le_of_ble_eq_true rfl | simp [cat_rf, cat_i, cat_j, cat_f, cat_d]) dX1_fewestLines_4 (ac_x ?_)
    cases hF
    exact gx_out X (fun x hx => nomatch hx)
  · refine g_callS X (w_X1_needArgument l hl D dA h0 (F_X1_isHarbour a1) (.inr u2) h1 e4) q1254 q1255 q92 q1256 okn_X1_needArgument ⟨by rw [hRf]; exact Nat.le_of_ble_eq_true rfl, by rw [hRl]; exact Nat.le_of_ble_eq_true rfl⟩ (As := [.int (F_X1_isHarbour a1)]) (rest := []) rfl (by first | exact Nat.le_of_ble_eq_true rfl | simp [cat_rf, cat_i, cat_j, cat_f, cat_d]) dX1_fewestLines_4 (ac_0 ?_)
    refine g_aload_n X dX1_fewestLines_7 rfl rfl ?_
    obtain ⟨ob5, eob5, hF⟩ := bnd hF
    rcases thr_some hF with ⟨q8, h6, e9, hF⟩ | ⟨v7, h6, e9, hF⟩
    · refine g_callV X eob5 rfl rfl (w_X1_allStops l hl D dA h1 ob5  (.inl q8) h6 e9) q1414 q1416 qs21 q92 q1417 okn_X1_allStops ⟨by rw [hRf]; exact Nat.le_of_ble_eq_true rfl, by rw [hRl]; exact Nat.le_of_ble_eq_true rfl⟩ (As := []) (rest := []) rfl (by first | exact Nat.le_of_ble_eq_true rfl | simp [cat_rf, cat_i, cat_j, cat_f, cat_d]) dX1_fewestLines_8 (ac_x ?_)
      cases hF
      exact gx_out X (fun x hx => nomatch hx)
    · refine g_callV X eob5 rfl rfl (w_X1_allStops l hl D dA h1 ob5  (.inr v7) h6 e9) q1414 q1416 qs21 q92 q1417 okn_X1_allStops ⟨by rw [hRf]; exact Nat.le_of_ble_eq_true rfl, by rw [hRl]; exact Nat.le_of_ble_eq_true rfl⟩ (As := []) (rest := []) rfl (by first | exact Nat.le_of_ble_eq_true rfl | simp [cat_rf, cat_i, cat_j, cat_f, cat_d]) dX1_fewestLines_8 (ac_v ?_)
      refine g_astore_n (L' := [some (va_rf (some this)), some (.int a1), some (va_rf v7), none, none]) X dX1_fewestLines_11 rfl (Nat.le_of_ble_eq_true rfl) (by first | rfl | simp [stL, rm1, clr2, cat_rf, cat_i, cat_j, cat_f, cat_d]) ?_
      refine g_iconst (v := (-1 : Int32)) X dX1_fewestLines_12 (by decide) ?_
      refine g_istore_n (L' := [some (va_rf (some this)), some (.int a1), some (va_rf v7), some (.int (-1 : Int32)), none]) X dX1_fewestLines_13 rfl (Nat.le_of_ble_eq_true rfl) (by first | rfl | simp [stL, rm1, clr2, cat_rf, cat_i, cat_j, cat_f, cat_d]) ?_
      refine g_aload_n X dX1_fewestLines_14 rfl rfl ?_
      obtain ⟨ob10, eob10, hF⟩ := bnd hF
      obtain ⟨v11, ev11, hF⟩ := bnd hF
      refine g_callV X eob10 rfl rfl (w_J2_size l hl D dA h6 ob10  v11 ev11) q818 q289 q290 q96 q291 okn_J2_size ⟨by rw [hRf]; exact Nat.le_of_ble_eq_true rfl, by rw [hRl]; exact Nat.le_of_ble_eq_true rfl⟩ (As := []) (rest := []) rfl (by first | exact Nat.le_of_ble_eq_true rfl | simp [cat_rf, cat_i, cat_j, cat_f, cat_d]) dX1_fewestLines_15 (ac_v ?_)
      refine g_iconst (v := (1 : Int32)) X dX1_fewestLines_18 (by decide) ?_
      refine g_isub X dX1_fewestLines_19 ?_
      refine g_istore (L' := [some (va_rf (some this)), some (.int a1), some (va_rf v7), some (.int (-1 : Int32)), some (.int (v11 - (1 : Int32)))]) X dX1_fewestLines_20 (Nat.le_of_ble_eq_true rfl) (by first | rfl | simp [stL, rm1, clr2, cat_rf, cat_i, cat_j, cat_f, cat_d]) ?_
      refine G.drop [false, true, true, true, true] rfl ?_
      obtain ⟨v23, e29, hF⟩ := bnd hF
      refine lp_ind (Gs := (fun z => G p l e R s m args below meth c (RQ D dA h0 (rsI oE, hE) below s) D dA h0 5 h6 22 [none, some (.int a1), some (va_rf v7), some (.int z.1), some (.int z.2)] [])) (Ge := (fun z => G p l e R s m args below meth c (RQ D dA h0 (rsI oE, hE) below s) D dA h0 5 h6 66 [none, none, none, some (.int z), none] [])) ?_ _ _ _ e29 ?_
      · rintro ⟨x3_12, x4_12⟩ o hF hgo hr
        change F_X1_fewestLines_B22 this a1 v7 x3_12 x4_12 h6 = some o at hF
        generalize v7 = k2_12 at hF hgo hr ⊢
        unfold F_X1_fewestLines_B22 at hF
        show G p l e R s m args below meth c (RQ D dA h0 (rsI oE, hE) below s) D dA h0 5 h6 22 [none, some (.int a1), some (va_rf k2_12), some (.int x3_12), some (.int x4_12)] []
        refine g_iload X dX1_fewestLines_22 rfl ?_
        refine g_if_lt X 66 dX1_fewestLines_24 (by decide) (fun c13 => ?_) (fun c13 => ?_)
        · have hF := (if_pos c13).symm.trans hF
          refine G.drop [false, false, false, true, false] rfl ?_
          cases hF
          exact hr _ rfl
        · have hF := (if_neg c13).symm.trans hF
          refine g_aload_n X dX1_fewestLines_27 rfl rfl ?_
          refine g_iload X dX1_fewestLines_28 rfl ?_
          obtain ⟨ob14, eob14, hF⟩ := bnd hF
          obtain ⟨v15, ev15, hF⟩ := bnd hF
          refine g_callV X eob14 rfl rfl (w_J2_get l hl D dA h6 ob14 x4_12 v15 ev15) q1390 q295 q296 q96 q297 okn_J2_get ⟨by rw [hRf]; exact Nat.le_of_ble_eq_true rfl, by rw [hRl]; exact Nat.le_of_ble_eq_true rfl⟩ (As := [.int x4_12]) (rest := []) rfl (by first | exact Nat.le_of_ble_eq_true rfl | simp [cat_rf, cat_i, cat_j, cat_f, cat_d]) dX1_fewestLines_30 (ac_v ?_)
          obtain ⟨_, z16, hF⟩ := bnd hF
          refine g_castO X q1479 rfl z16 dX1_fewestLines_33 ?_
          obtain ⟨v17, ev17, hF⟩ := bnd hF
          refine g_getN (k := 0) X in_X7 rfl (by decide) (nw_in q1447 rfl) rfl (getI_V ev17) dX1_fewestLines_36 ?_
          refine g_iload_n X dX1_fewestLines_39 rfl rfl ?_
          refine g_icmp_ne X 58 dX1_fewestLines_40 (by decide) (fun c18 => ?_) (fun c18 => ?_)
          · have hF := (if_neg c18).symm.trans hF
            refine g_iload_n X dX1_fewestLines_58 rfl rfl ?_
            refine g_istore_n (L' := [none, some (.int a1), some (va_rf k2_12), some (.int x3_12), some (.int x4_12)]) X dX1_fewestLines_59 rfl (Nat.le_of_ble_eq_true rfl) (by first | rfl | simp [stL, rm1, clr2, cat_rf, cat_i, cat_j, cat_f, cat_d]) ?_
            refine g_iinc (v := (x4_12 + (-1 : Int32))) (L' := [none, some (.int a1), some (va_rf k2_12), some (.int x3_12), some (.int (x4_12 + (-1 : Int32)))]) X dX1_fewestLines_60 (Nat.le_of_ble_eq_true rfl) rfl rfl (by first | rfl | simp [stL, rm1, clr2, cat_rf, cat_i, cat_j, cat_f, cat_d]) ?_
            refine g_goto X 22 dX1_fewestLines_63 (by decide) ?_
            cases hF
            exact hgo _ rfl
          · have hF := (if_pos c18).symm.trans hF
            refine g_aload_n X dX1_fewestLines_43 rfl rfl ?_
            refine g_iload X dX1_fewestLines_44 rfl ?_
            obtain ⟨ob19, eob19, hF⟩ := bnd hF
            obtain ⟨v20, ev20, hF⟩ := bnd hF
            refine g_callV X eob19 rfl rfl (w_J2_get l hl D dA h6 ob19 x4_12 v20 ev20) q1390 q295 q296 q96 q297 okn_J2_get ⟨by rw [hRf]; exact Nat.le_of_ble_eq_true rfl, by rw [hRl]; exact Nat.le_of_ble_eq_true rfl⟩ (As := [.int x4_12]) (rest := []) rfl (by first | exact Nat.le_of_ble_eq_true rfl | simp [cat_rf, cat_i, cat_j, cat_f, cat_d]) dX1_fewestLines_46 (ac_v ?_)
            obtain ⟨_, z21, hF⟩ := bnd hF
            refine g_castO X q1479 rfl z21 dX1_fewestLines_49 ?_
            obtain ⟨v22, ev22, hF⟩ := bnd hF
            refine g_getN (k := 2) X in_X7 rfl (by decide) (nw_in q1452 rfl) rfl (getI_V ev22) dX1_fewestLines_52 ?_
            refine g_goto X 59 dX1_fewestLines_55 (by decide) ?_
            refine g_istore_n (L' := [none, some (.int a1), some (va_rf k2_12), some (.int v22), some (.int x4_12)]) X dX1_fewestLines_59 rfl (Nat.le_of_ble_eq_true rfl) (by first | rfl | simp [stL, rm1, clr2, cat_rf, cat_i, cat_j, cat_f, cat_d]) ?_
            refine g_iinc (v := (x4_12 + (-1 : Int32))) (L' := [none, some (.int a1), some (va_rf k2_12), some (.int v22), some (.int (x4_12 + (-1 : Int32)))]) X dX1_fewestLines_60 (Nat.le_of_ble_eq_true rfl) rfl rfl (by first | rfl | simp [stL, rm1, clr2, cat_rf, cat_i, cat_j, cat_f, cat_d]) ?_
            refine g_goto X 22 dX1_fewestLines_63 (by decide) ?_
            cases hF
            exact hgo _ rfl
      show G p l e R s m args below meth c (RQ D dA h0 (rsI oE, hE) below s) D dA h0 5 h6 66 [none, none, none, some (.int v23), none] []
      refine g_iload_n X dX1_fewestLines_66 rfl rfl ?_
      refine g_iconst (v := (-1 : Int32)) X dX1_fewestLines_67 (by decide) ?_
      suffices K : G p l e R s m args below meth c (RQ D dA h0 (rsI oE, hE) below s) D dA h0 5 h6 76 [none, none, none, some (.int v23), none] [.int (if v23 = (-1 : Int32) then (0 : Int32) else (1 : Int32))] by
        refine g_icmp_eq X 75 dX1_fewestLines_68 (by decide) (fun c24 => ?_) (fun c24 => ?_)
        · (try simp only [if_pos c24] at K)
          refine g_iconst (v := (0 : Int32)) X dX1_fewestLines_75 (by decide) ?_
          first | exact K | (simp only [if_pos c24]; exact K)
        · (try simp only [if_neg c24] at K)
          refine g_iconst (v := (1 : Int32)) X dX1_fewestLines_71 (by decide) ?_
          refine g_goto X 76 dX1_fewestLines_72 (by decide) ?_
          first | exact K | (simp only [if_neg c24]; exact K)
      rcases thr_some hF with ⟨q27, h25, e28, hF⟩ | ⟨u26, h25, e28, hF⟩
      · refine g_callS X (w_X1_needSuch l hl D dA h6 (if v23 = (-1 : Int32) then (0 : Int32) else (1 : Int32)) (.inl q27) h25 e28) q1261 q1262 q92 q1263 okn_X1_needSuch ⟨by rw [hRf]; exact Nat.le_of_ble_eq_true rfl, by rw [hRl]; exact Nat.le_of_ble_eq_true rfl⟩ (As := [.int (if v23 = (-1 : Int32) then (0 : Int32) else (1 : Int32))]) (rest := []) rfl (by first | exact Nat.le_of_ble_eq_true rfl | simp [cat_rf, cat_i, cat_j, cat_f, cat_d]) dX1_fewestLines_76 (ac_x ?_)
        cases hF
        exact gx_out X (fun x hx => nomatch hx)
      · refine g_callS X (w_X1_needSuch l hl D dA h6 (if v23 = (-1 : Int32) then (0 : Int32) else (1 : Int32)) (.inr u26) h25 e28) q1261 q1262 q92 q1263 okn_X1_needSuch ⟨by rw [hRf]; exact Nat.le_of_ble_eq_true rfl, by rw [hRl]; exact Nat.le_of_ble_eq_true rfl⟩ (As := [.int (if v23 = (-1 : Int32) then (0 : Int32) else (1 : Int32))]) (rest := []) rfl (by first | exact Nat.le_of_ble_eq_true rfl | simp [cat_rf, cat_i, cat_j, cat_f, cat_d]) dX1_fewestLines_76 (ac_0 ?_)
        refine g_iload_n X dX1_fewestLines_79 rfl rfl ?_
        cases hF
        exact g_iret X hr dX1_fewestLines_80
def F_X1_fewestTicks (this : Nat) (a1 : Int32) (h0 : HH) : Option (((Nat × String) ⊕ Int32) × HH) :=
  thr (F_X1_needArgument (F_X1_isHarbour a1) h0) (fun q3 h1 =>
    some (.inl q3, h1)
  ) (fun u2 h1 =>
    Option.bind (getR h1 0 0 (some this)) fun v5 =>
    Option.bind (isO h1 2 v5) fun ob6 =>
    b2 (F_X2_fewestTicksTo ob6 a1 h1) fun v8 h7 =>
    thr (F_X1_needSuch (if v8 = (-1 : Int32) then (0 : Int32) else (1 : Int32)) h7) (fun q12 h10 =>
      some (.inl q12, h10)
    ) (fun u11 h10 =>
      some (.inr v8, h10)
    )
  )
set_option maxHeartbeats 4000000 in
theorem w_X1_fewestTicks (l : Launch) (hl : l.stackTraces = false) (D : va_G) (dA : Nat → ClassId) (h0 : HH) (this : Nat) (a1 : Int32) (oE : (Nat × String) ⊕ Int32) (hE : HH) (hF : F_X1_fewestTicks this a1 h0 = some (oE, hE)) : MC D dA l yX1_fewestTicks cX1_fewestTicks 3 (Option.some Jvm.ClassFile.FieldType.int) [] 9 220 [va_rf (some this), .int a1] h0 (rsI oE, hE) := by
  refine mc_of hl (plainFor_of_name pn_X1) (by simp [lg_sl, cat_rf, cat_i, cat_j, cat_f, cat_d]) ?_
  intro p e s m args below meth c R hRf hRl X hr hnm
  unfold F_X1_fewestTicks at hF
  rw [show argL [va_rf (some this), .int a1] = [some (va_rf (some this)), some (.int a1)] from by simp [argL, cat_rf, cat_i, cat_j, cat_f, cat_d]]
  refine G.pad 1 (L' := [some (va_rf (some this)), some (.int a1), none]) rfl ?_
  refine g_iload_n X dX1_fewestTicks_0 rfl rfl ?_
  refine g_callS X (w_X1_isHarbour l hl D dA h0 a1) q1376 q641 q92 q642 okn_X1_isHarbour ⟨by rw [hRf]; exact Nat.le_of_ble_eq_true rfl, by rw [hRl]; exact Nat.le_of_ble_eq_true rfl⟩ (As := [.int a1]) (rest := []) rfl (by first | exact Nat.le_of_ble_eq_true rfl | simp [cat_rf, cat_i, cat_j, cat_f, cat_d]) dX1_fewestTicks_1 (ac_v ?_)
  rcases thr_some hF with ⟨q3, h1, e4, hF⟩ | ⟨u2, h1, e4, hF⟩
  · refine g_callS X (w_X1_needArgument l hl D dA h0 (F_X1_isHarbour a1) (.inl q3) h1 e4) q1254 q1255 q92 q1256 okn_X1_needArgument ⟨by rw [hRf]; exact Nat.le_of_ble_eq_true rfl, by rw [hRl]; exact Nat.le_of_ble_eq_true rfl⟩ (As := [.int (F_X1_isHarbour a1)]) (rest := []) rfl (by first | exact Nat.le_of_ble_eq_true rfl | simp [cat_rf, cat_i, cat_j, cat_f, cat_d]) dX1_fewestTicks_4 (ac_x ?_)
    cases hF
    exact gx_out X (fun x hx => nomatch hx)
  · refine g_callS X (w_X1_needArgument l hl D dA h0 (F_X1_isHarbour a1) (.inr u2) h1 e4) q1254 q1255 q92 q1256 okn_X1_needArgument ⟨by rw [hRf]; exact Nat.le_of_ble_eq_true rfl, by rw [hRl]; exact Nat.le_of_ble_eq_true rfl⟩ (As := [.int (F_X1_isHarbour a1)]) (rest := []) rfl (by first | exact Nat.le_of_ble_eq_true rfl | simp [cat_rf, cat_i, cat_j, cat_f, cat_d]) dX1_fewestTicks_4 (ac_0 ?_)
    refine g_aload_n X dX1_fewestTicks_7 rfl rfl ?_
    obtain ⟨v5, ev5, hF⟩ := bnd hF
    refine g_get (k := 0) X in_X1 rfl (by decide) q255 (Or.inl rfl) (getR_V ev5) dX1_fewestTicks_8 ?_
    refine g_iload_n X dX1_fewestTicks_11 rfl rfl ?_
    obtain ⟨ob6, eob6, hF⟩ := bnd hF
    obtain ⟨v8, h7, eh7, hF⟩ := b2_some hF
    refine g_callV X eob6 rfl rfl (w_X2_fewestTicksTo l hl D dA h1 ob6 a1 v8 h7 eh7) q1508 q1509 q1510 q93 q1511 okn_X2_fewestTicksTo ⟨by rw [hRf]; exact Nat.le_of_ble_eq_true rfl, by rw [hRl]; exact Nat.le_of_ble_eq_true rfl⟩ (As := [.int a1]) (rest := []) rfl (by first | exact Nat.le_of_ble_eq_true rfl | simp [cat_rf, cat_i, cat_j, cat_f, cat_d]) dX1_fewestTicks_12 (ac_v ?_)
    refine g_istore_n (L' := [some (va_rf (some this)), some (.int a1), some (.int v8)]) X dX1_fewestTicks_15 rfl (Nat.le_of_ble_eq_true rfl) (by first | rfl | simp [stL, rm1, clr2, cat_rf, cat_i, cat_j, cat_f, cat_d]) ?_
    refine g_iload_n X dX1_fewestTicks_16 rfl rfl ?_
    refine g_iconst (v := (-1 : Int32)) X dX1_fewestTicks_17 (by decide) ?_
    suffices K : G p l e R s m args below meth c (RQ D dA h0 (rsI oE, hE) below s) D dA h0 3 h7 26 [none, none, some (.int v8)] [.int (if v8 = (-1 : Int32) then (0 : Int32) else (1 : Int32))] by
      refine g_icmp_eq X 25 dX1_fewestTicks_18 (by decide) (fun c9 => ?_) (fun c9 => ?_)
      · (try simp only [if_pos c9] at K)
        refine g_iconst (v := (0 : Int32)) X dX1_fewestTicks_25 (by decide) ?_
        refine G.drop [false, false, true] rfl ?_
        first | exact K | (simp only [if_pos c9]; exact K)
      · (try simp only [if_neg c9] at K)
        refine g_iconst (v := (1 : Int32)) X dX1_fewestTicks_21 (by decide) ?_
        refine g_goto X 26 dX1_fewestTicks_22 (by decide) ?_
        refine G.drop [false, false, true] rfl ?_
        first | exact K | (simp only [if_neg c9]; exact K)
    rcases thr_some hF with ⟨q12, h10, e13, hF⟩ | ⟨u11, h10, e13, hF⟩
    · refine g_callS X (w_X1_needSuch l hl D dA h7 (if v8 = (-1 : Int32) then (0 : Int32) else (1 : Int32)) (.inl q12) h10 e13) q1261 q1262 q92 q1263 okn_X1_needSuch ⟨by rw [hRf]; exact Nat.le_of_ble_eq_true rfl, by rw [hRl]; exact Nat.le_of_ble_eq_true rfl⟩ (As := [.int (if v8 = (-1 : Int32) then (0 : Int32) else (1 : Int32))]) (rest := []) rfl (by first | exact Nat.le_of_ble_eq_true rfl | simp [cat_rf, cat_i, cat_j, cat_f, cat_d]) dX1_fewestTicks_26 (ac_x ?_)
      cases hF
      exact gx_out X (fun x hx => nomatch hx)
    · refine g_callS X (w_X1_needSuch l hl D dA h7 (if v8 = (-1 : Int32) then (0 : Int32) else (1 : Int32)) (.inr u11) h10 e13) q1261 q1262 q92 q1263 okn_X1_needSuch ⟨by rw [hRf]; exact Nat.le_of_ble_eq_true rfl, by rw [hRl]; exact Nat.le_of_ble_eq_true rfl⟩ (As := [.int (if v8 = (-1 : Int32) then (0 : Int32) else (1 : Int32))]) (rest := []) rfl (by first | exact Nat.le_of_ble_eq_true rfl | simp [cat_rf, cat_i, cat_j, cat_f, cat_d]) dX1_fewestTicks_26 (ac_0 ?_)
      refine g_iload_n X dX1_fewestTicks_29 rfl rfl ?_
      cases hF
      exact g_iret X hr dX1_fewestTicks_30
def F_X1_meanBits (this : Nat) (a1 : Int32) (h0 : HH) : Option (((Nat × String) ⊕ Int64) × HH) :=
  thr (F_X1_needArgument (F_X1_isClock a1) h0) (fun q3 h1 =>
    some (.inl q3, h1)
  ) (fun u2 h1 =>
    Option.bind (isO h1 0 (some this)) fun ob5 =>
    b2 (F_X1_moments ob5 h1) fun v7 h6 =>
    thr (F_X1_needSuch (if v7 ≤ 0 then (0 : Int32) else (1 : Int32)) h6) (fun q11 h9 =>
      some (.inl q11, h9)
    ) (fun u10 h9 =>
      Option.bind (getR h9 0 0 (some this)) fun v13 =>
      Option.bind (getR h9 2 3 v13) fun v14 =>
      Option.bind (isO h9 3 v14) fun ob15 =>
      b2 (F_X3_sum_2 ob15 a1 h9) fun v17 h16 =>
      Option.bind (ddivP (FP.l2d v17) (FP.i2d v7)) fun v18 =>
      Option.bind (F_J20_doubleToLongBits (FP.ddiv (FP.l2d v17) (FP.i2d v7)) h16) fun v19 =>
      some (.inr v19, h16)
    )
  )
set_option maxHeartbeats 4000000 in
theorem w_X1_meanBits (l : Launch) (hl : l.stackTraces = false) (D : va_G) (dA : Nat → ClassId) (h0 : HH) (this : Nat) (a1 : Int32) (oE : (Nat × String) ⊕ Int64) (hE : HH) (hF : F_X1_meanBits this a1 h0 = some (oE, hE)) : MC D dA l yX1_meanBits cX1_meanBits 3 (Option.some Jvm.ClassFile.FieldType.long) [] 9 220 [va_rf (some this), .int a1] h0 (rsJ oE, hE) := by
  refine mc_of hl (plainFor_of_name pn_X1) (by simp [lg_sl, cat_rf, cat_i, cat_j, cat_f, cat_d]) ?_
  intro p e s m args below meth c R hRf hRl X hr hnm
  unfold F_X1_meanBits at hF
  rw [show argL [va_rf (some this), .int a1] = [some (va_rf (some this)), some (.int a1)] from by simp [argL, cat_rf, cat_i, cat_j, cat_f, cat_d]]
  refine G.pad 1 (L' := [some (va_rf (some this)), some (.int a1), none]) rfl ?_
  refine g_iload_n X dX1_meanBits_0 rfl rfl ?_
  refine g_callS X (w_X1_isClock l hl D dA h0 a1) q1300 q560 q92 q561 okn_X1_isClock ⟨by rw [hRf]; exact Nat.le_of_ble_eq_true rfl, by rw [hRl]; exact Nat.le_of_ble_eq_true rfl⟩ (As := [.int a1]) (rest := []) rfl (by first | exact Nat.le_of_ble_eq_true rfl | simp [cat_rf, cat_i, cat_j, cat_f, cat_d]) dX1_meanBits_1 (ac_v ?_)
  rcases thr_some hF with ⟨q3, h1, e4, hF⟩ | ⟨u2, h1, e4, hF⟩
  · refine g_callS X (w_X1_needArgument l hl D dA h0 (F_X1_isClock a1) (.inl q3) h1 e4) q1254 q1255 q92 q1256 okn_X1_needArgument ⟨by rw [hRf]; exact Nat.le_of_ble_eq_true rfl, by rw [hRl]; exact Nat.le_of_ble_eq_true rfl⟩ (As := [.int (F_X1_isClock a1)]) (rest := []) rfl (by first | exact Nat.le_of_ble_eq_true rfl | simp [cat_rf, cat_i, cat_j, cat_f, cat_d]) dX1_meanBits_4 (ac_x ?_)
    cases hF
    exact gx_out X (fun x hx => nomatch hx)
  · refine g_callS X (w_X1_needArgument l hl D dA h0 (F_X1_isClock a1) (.inr u2) h1 e4) q1254 q1255 q92 q1256 okn_X1_needArgument ⟨by rw [hRf]; exact Nat.le_of_ble_eq_true rfl, by rw [hRl]; exact Nat.le_of_ble_eq_true rfl⟩ (As := [.int (F_X1_isClock a1)]) (rest := []) rfl (by first | exact Nat.le_of_ble_eq_true rfl | simp [cat_rf, cat_i, cat_j, cat_f, cat_d]) dX1_meanBits_4 (ac_0 ?_)
    refine g_aload_n X dX1_meanBits_7 rfl rfl ?_
    obtain ⟨ob5, eob5, hF⟩ := bnd hF
    obtain ⟨v7, h6, eh6, hF⟩ := b2_some hF
    refine g_callV X eob5 rfl rfl (w_X1_moments l hl D dA h1 ob5  v7 h6 eh6) q882 q807 q808 q92 q809 okn_X1_moments ⟨by rw [hRf]; exact Nat.le_of_ble_eq_true rfl, by rw [hRl]; exact Nat.le_of_ble_eq_true rfl⟩ (As := []) (rest := []) rfl (by first | exact Nat.le_of_ble_eq_true rfl | simp [cat_rf, cat_i, cat_j, cat_f, cat_d]) dX1_meanBits_8 (ac_v ?_)
    refine g_istore_n (L' := [some (va_rf (some this)), some (.int a1), some (.int v7)]) X dX1_meanBits_11 rfl (Nat.le_of_ble_eq_true rfl) (by first | rfl | simp [stL, rm1, clr2, cat_rf, cat_i, cat_j, cat_f, cat_d]) ?_
    refine g_iload_n X dX1_meanBits_12 rfl rfl ?_
    suffices K : G p l e R s m args below meth c (RQ D dA h0 (rsJ oE, hE) below s) D dA h0 3 h6 21 [some (va_rf (some this)), some (.int a1), some (.int v7)] [.int (if v7 ≤ 0 then (0 : Int32) else (1 : Int32))] by
      refine g_if_le X 20 dX1_meanBits_13 (by decide) (fun c8 => ?_) (fun c8 => ?_)
      · (try simp only [if_pos c8] at K)
        refine g_iconst (v := (0 : Int32)) X dX1_meanBits_20 (by decide) ?_
        first | exact K | (simp only [if_pos c8]; exact K)
      · (try simp only [if_neg c8] at K)
        refine g_iconst (v := (1 : Int32)) X dX1_meanBits_16 (by decide) ?_
        refine g_goto X 21 dX1_meanBits_17 (by decide) ?_
        first | exact K | (simp only [if_neg c8]; exact K)
    rcases thr_some hF with ⟨q11, h9, e12, hF⟩ | ⟨u10, h9, e12, hF⟩
    · refine g_callS X (w_X1_needSuch l hl D dA h6 (if v7 ≤ 0 then (0 : Int32) else (1 : Int32)) (.inl q11) h9 e12) q1261 q1262 q92 q1263 okn_X1_needSuch ⟨by rw [hRf]; exact Nat.le_of_ble_eq_true rfl, by rw [hRl]; exact Nat.le_of_ble_eq_true rfl⟩ (As := [.int (if v7 ≤ 0 then (0 : Int32) else (1 : Int32))]) (rest := []) rfl (by first | exact Nat.le_of_ble_eq_true rfl | simp [cat_rf, cat_i, cat_j, cat_f, cat_d]) dX1_meanBits_21 (ac_x ?_)
      cases hF
      exact gx_out X (fun x hx => nomatch hx)
    · refine g_callS X (w_X1_needSuch l hl D dA h6 (if v7 ≤ 0 then (0 : Int32) else (1 : Int32)) (.inr u10) h9 e12) q1261 q1262 q92 q1263 okn_X1_needSuch ⟨by rw [hRf]; exact Nat.le_of_ble_eq_true rfl, by rw [hRl]; exact Nat.le_of_ble_eq_true rfl⟩ (As := [.int (if v7 ≤ 0 then (0 : Int32) else (1 : Int32))]) (rest := []) rfl (by first | exact Nat.le_of_ble_eq_true rfl | simp [cat_rf, cat_i, cat_j, cat_f, cat_d]) dX1_meanBits_21 (ac_0 ?_)
      refine g_aload_n X dX1_meanBits_24 rfl rfl ?_
      obtain ⟨v13, ev13, hF⟩ := bnd hF
      refine g_get (k := 0) X in_X1 rfl (by decide) q255 (Or.inl rfl) (getR_V ev13) dX1_meanBits_25 ?_
      obtain ⟨v14, ev14, hF⟩ := bnd hF
      refine g_getN (k := 3) X in_X2 rfl (by decide) (nw_in q189 rfl) rfl (getR_V ev14) dX1_meanBits_28 ?_
      refine g_iload_n X dX1_meanBits_31 rfl rfl ?_
      obtain ⟨ob15, eob15, hF⟩ := bnd hF
      obtain ⟨v17, h16, eh16, hF⟩ := b2_some hF
      refine g_callV X eob15 rfl rfl (w_X3_sum_2 l hl D dA h9 ob15 a1 v17 h16 eh16) q1519 q1520 q1521 q97 q1522 okn_X3_sum_2 ⟨by rw [hRf]; exact Nat.le_of_ble_eq_true rfl, by rw [hRl]; exact Nat.le_of_ble_eq_true rfl⟩ (As := [.int a1]) (rest := []) rfl (by first | exact Nat.le_of_ble_eq_true rfl | simp [cat_rf, cat_i, cat_j, cat_f, cat_d]) dX1_meanBits_32 (ac_v ?_)
      refine g_l2d X dX1_meanBits_35 ?_
      refine g_iload_n X dX1_meanBits_36 rfl rfl ?_
      refine g_i2d X dX1_meanBits_37 ?_
      obtain ⟨v18, ev18, hF⟩ := bnd hF
      obtain ⟨nv18, rfl⟩ := ddivP_some ev18
      refine g_ddiv X dX1_meanBits_38 nv18 ?_
      obtain ⟨v19, ev19, hF⟩ := bnd hF
      refine g_callS X (w_J20_doubleToLongBits l hl D dA h16 (FP.ddiv (FP.l2d v17) (FP.i2d v7)) v19 ev19) q1523 q1524 q121 q1525 okn_J20_doubleToLongBits ⟨by rw [hRf]; exact Nat.le_of_ble_eq_true rfl, by rw [hRl]; exact Nat.le_of_ble_eq_true rfl⟩ (As := [.double (FP.ddiv (FP.l2d v17) (FP.i2d v7))]) (rest := []) rfl (by first | exact Nat.le_of_ble_eq_true rfl | simp [cat_rf, cat_i, cat_j, cat_f, cat_d]) dX1_meanBits_39 (ac_v ?_)
      cases hF
      exact g_lret X hr dX1_meanBits_42
def F_X1_needState (a1 : Int32) (h0 : HH) : Option (((Nat × String) ⊕ Unit) × HH) :=
  if a1 = 0 then (
    Option.bind (newE h0) fun h2 =>
    some (.inl (hSz h0, "java/lang/IllegalStateException"), h2)
  ) else (
    some (.inr (), h0)
  )
set_option maxHeartbeats 4000000 in
theorem w_X1_needState (l : Launch) (hl : l.stackTraces = false) (D : va_G) (dA : Nat → ClassId) (h0 : HH) (a1 : Int32) (oE : (Nat × String) ⊕ Unit) (hE : HH) (hF : F_X1_needState a1 h0 = some (oE, hE)) : MC D dA l yX1_needState cX1_needState 1 (Option.none : Option Jvm.ClassFile.FieldType) [] 8 200 [.int a1] h0 (rsV oE, hE) := by
  refine mc_of hl (plainFor_of_name pn_X1) (by simp [lg_sl, cat_rf, cat_i, cat_j, cat_f, cat_d]) ?_
  intro p e s m args below meth c R hRf hRl X hr hnm
  unfold F_X1_needState at hF
  rw [show argL [.int a1] = [some (.int a1)] from by simp [argL, cat_rf, cat_i, cat_j, cat_f, cat_d]]
  refine g_iload_n X dX1_needState_0 rfl rfl ?_
  refine g_if_ne X 14 dX1_needState_1 (by decide) (fun c1 => ?_) (fun c1 => ?_)
  · have hF := (if_neg c1).symm.trans hF
    cases hF
    exact g_vret X hr dX1_needState_14
  · have hF := (if_pos c1).symm.trans hF
    obtain ⟨h2, eh2, hF⟩ := bnd hF
    refine g_throwS X eh2 1 rfl ex_X1_IllegalStateException dX1_needState_4 dX1_needState_7 dX1_needState_8 dX1_needState_10 dX1_needState_13 ⟨by rw [hRf]; exact Nat.le_of_ble_eq_true rfl, by rw [hRl]; exact Nat.le_of_ble_eq_true rfl⟩ (by first | exact Nat.le_of_ble_eq_true rfl | simp [cat_rf, cat_i, cat_j, cat_f, cat_d]) ?_
    cases hF
    exact gx_out X (fun x hx => nomatch hx)
def F_X1_goBack (this : Nat) (h0 : HH) : Option (((Nat × String) ⊕ Int32) × HH) :=
  Option.bind (getR h0 0 1 (some this)) fun v1 =>
  thr (F_X1_needState (if v1 = none then (0 : Int32) else (1 : Int32)) h0) (fun q5 h3 =>
    some (.inl q5, h3)
  ) (fun u4 h3 =>
    Option.bind (getR h3 0 1 (some this)) fun v7 =>
    Option.bind (getR h3 0 1 (some this)) fun v8 =>
    Option.bind (getR h3 2 3 v8) fun v9 =>
    Option.bind (isO h3 3 v9) fun ob10 =>
    b2 (F_X3_count ob10 none h3) fun v12 h11 =>
    Option.bind (isO h11 0 (some this)) fun ob13 =>
    b2 (F_X1_changed ob13 v7 v12 h11) fun v15 h14 =>
    some (.inr v15, h14)
  )
set_option maxHeartbeats 4000000 in
theorem w_X1_goBack (l : Launch) (hl : l.stackTraces = false) (D : va_G) (dA : Nat → ClassId) (h0 : HH) (this : Nat) (oE : (Nat × String) ⊕ Int32) (hE : HH) (hF : F_X1_goBack this h0 = some (oE, hE)) : MC D dA l yX1_goBack cX1_goBack 1 (Option.some Jvm.ClassFile.FieldType.int) [] 9 220 [va_rf (some this)] h0 (rsI oE, hE) := by
  refine mc_of hl (plainFor_of_name pn_X1) (by simp [lg_sl, cat_rf, cat_i, cat_j, cat_f, cat_d]) ?_
  intro p e s m args below meth c R hRf hRl X hr hnm
  unfold F_X1_goBack at hF
  rw [show argL [va_rf (some this)] = [some (va_rf (some this))] from by simp [argL, cat_rf, cat_i, cat_j, cat_f, cat_d]]
  refine g_aload_n X dX1_goBack_0 rfl rfl ?_
  obtain ⟨v1, ev1, hF⟩ := bnd hF
  refine g_get (k := 1) X in_X1 rfl (by decide) q256 (Or.inl rfl) (getR_V ev1) dX1_goBack_1 ?_
  suffices K : G p l e R s m args below meth c (RQ D dA h0 (rsI oE, hE) below s) D dA h0 1 h0 12 [some (va_rf (some this))] [.int (if v1 = none then (0 : Int32) else (1 : Int32))] by
    refine g_ifnull X 11 dX1_goBack_4 (by decide) (fun c2 => ?_) (fun c2 => ?_)
    · (try simp only [if_pos c2] at K)
      refine g_iconst (v := (0 : Int32)) X dX1_goBack_11 (by decide) ?_
      first | exact K | (simp only [if_pos c2]; exact K)
    · (try simp only [if_neg c2] at K)
      refine g_iconst (v := (1 : Int32)) X dX1_goBack_7 (by decide) ?_
      refine g_goto X 12 dX1_goBack_8 (by decide) ?_
      first | exact K | (simp only [if_neg c2]; exact K)
  rcases thr_some hF with ⟨q5, h3, e6, hF⟩ | ⟨u4, h3, e6, hF⟩
  · refine g_callS X (w_X1_needState l hl D dA h0 (if v1 = none then (0 : Int32) else (1 : Int32)) (.inl q5) h3 e6) q1540 q1541 q92 q1542 okn_X1_needState ⟨by rw [hRf]; exact Nat.le_of_ble_eq_true rfl, by rw [hRl]; exact Nat.le_of_ble_eq_true rfl⟩ (As := [.int (if v1 = none then (0 : Int32) else (1 : Int32))]) (rest := []) rfl (by first | exact Nat.le_of_ble_eq_true rfl | simp [cat_rf, cat_i, cat_j, cat_f, cat_d]) dX1_goBack_12 (ac_x ?_)
    cases hF
    exact gx_out X (fun x hx => nomatch hx)
  · refine g_callS X (w_X1_needState l hl D dA h0 (if v1 = none then (0 : Int32) else (1 : Int32)) (.inr u4) h3 e6) q1540 q1541 q92 q1542 okn_X1_needState ⟨by rw [hRf]; exact Nat.le_of_ble_eq_true rfl, by rw [hRl]; exact Nat.le_of_ble_eq_true rfl⟩ (As := [.int (if v1 = none then (0 : Int32) else (1 : Int32))]) (rest := []) rfl (by first | exact Nat.le_of_ble_eq_true rfl | simp [cat_rf, cat_i, cat_j, cat_f, cat_d]) dX1_goBack_12 (ac_0 ?_)
    refine g_aload_n X dX1_goBack_15 rfl rfl ?_
    refine g_aload_n X dX1_goBack_16 rfl rfl ?_
    obtain ⟨v7, ev7, hF⟩ := bnd hF
    refine g_get (k := 1) X in_X1 rfl (by decide) q256 (Or.inl rfl) (getR_V ev7) dX1_goBack_17 ?_
    refine g_aload_n X dX1_goBack_20 rfl rfl ?_
    obtain ⟨v8, ev8, hF⟩ := bnd hF
    refine g_get (k := 1) X in_X1 rfl (by decide) q256 (Or.inl rfl) (getR_V ev8) dX1_goBack_21 ?_
    obtain ⟨v9, ev9, hF⟩ := bnd hF
    refine g_getN (k := 3) X in_X2 rfl (by decide) (nw_in q189 rfl) rfl (getR_V ev9) dX1_goBack_24 ?_
    refine g_null X dX1_goBack_27 ?_
    obtain ⟨ob10, eob10, hF⟩ := bnd hF
    obtain ⟨v12, h11, eh11, hF⟩ := b2_some hF
    refine g_callV X eob10 rfl rfl (w_X3_count l hl D dA h3 ob10 none v12 h11 eh11) q795 q796 q797 q97 q798 okn_X3_count ⟨by rw [hRf]; exact Nat.le_of_ble_eq_true rfl, by rw [hRl]; exact Nat.le_of_ble_eq_true rfl⟩ (As := [va_rf none]) (rest := [va_rf v7, va_rf (some this)]) rfl (by first | exact Nat.le_of_ble_eq_true rfl | simp [cat_rf, cat_i, cat_j, cat_f, cat_d]) dX1_goBack_28 (ac_v ?_)
    obtain ⟨ob13, eob13, hF⟩ := bnd hF
    obtain ⟨v15, h14, eh14, hF⟩ := b2_some hF
    refine g_callV X eob13 rfl rfl (w_X1_changed l hl D dA h11 ob13 v7 v12 v15 h14 eh14) q672 q674 qs9 q92 q675 okn_X1_changed ⟨by rw [hRf]; exact Nat.le_of_ble_eq_true rfl, by rw [hRl]; exact Nat.le_of_ble_eq_true rfl⟩ (As := [va_rf v7, .int v12]) (rest := []) rfl (by first | exact Nat.le_of_ble_eq_true rfl | simp [cat_rf, cat_i, cat_j, cat_f, cat_d]) dX1_goBack_31 (ac_v ?_)
    cases hF
    exact g_iret X hr dX1_goBack_34
def F_J3_isEmpty (this : Nat) (h0 : HH) : Option Int32 :=
  Option.bind (getI h0 9 1 (some this)) fun v1 =>
  Option.bind (getI h0 9 2 (some this)) fun v2 =>
  some (if v1 = v2 then (1 : Int32) else (0 : Int32))
set_option maxHeartbeats 4000000 in
theorem w_J3_isEmpty (l : Launch) (hl : l.stackTraces = false) (D : va_G) (dA : Nat → ClassId) (h0 : HH) (this : Nat) (rE : Int32) (hF : F_J3_isEmpty this h0 = some rE) : MC D dA l yJ3_isEmpty cJ3_isEmpty 1 (Option.some Jvm.ClassFile.FieldType.boolean) [] 0 0 [va_rf (some this)] h0 (.inr (some (.int rE)), h0) := by
  refine mc_of hl (plainFor_of_name pn_J3) (by simp [lg_sl, cat_rf, cat_i, cat_j, cat_f, cat_d]) ?_
  intro p e s m args below meth c R hRf hRl X hr hnm
  unfold F_J3_isEmpty at hF
  rw [show argL [va_rf (some this)] = [some (va_rf (some this))] from by simp [argL, cat_rf, cat_i, cat_j, cat_f, cat_d]]
  refine g_aload_n X dJ3_isEmpty_0 rfl rfl ?_
  obtain ⟨v1, ev1, hF⟩ := bnd hF
  refine g_get (k := 1) X in_J3 rfl (by decide) q212 (Or.inl rfl) (getI_V ev1) dJ3_isEmpty_1 ?_
  refine g_aload_n X dJ3_isEmpty_4 rfl rfl ?_
  obtain ⟨v2, ev2, hF⟩ := bnd hF
  refine g_get (k := 2) X in_J3 rfl (by decide) q213 (Or.inl rfl) (getI_V ev2) dJ3_isEmpty_5 ?_
  suffices K : G p l e R s m args below meth c (RQ D dA h0 (.inr (some (.int rE)), h0) below s) D dA h0 1 h0 16 [none] [.int (if v1 = v2 then (1 : Int32) else (0 : Int32))] by
    refine g_icmp_ne X 15 dJ3_isEmpty_8 (by decide) (fun c3 => ?_) (fun c3 => ?_)
    · (try simp only [if_neg c3] at K)
      refine g_iconst (v := (0 : Int32)) X dJ3_isEmpty_15 (by decide) ?_
      refine G.drop [false] rfl ?_
      first | exact K | (simp only [if_neg c3]; exact K)
    · (try simp only [if_pos c3] at K)
      refine g_iconst (v := (1 : Int32)) X dJ3_isEmpty_11 (by decide) ?_
      refine g_goto X 16 dJ3_isEmpty_12 (by decide) ?_
      refine G.drop [false] rfl ?_
      first | exact K | (simp only [if_pos c3]; exact K)
  cases hF
  exact g_zret X hr (by (repeat' split) <;> rfl) dJ3_isEmpty_16
def F_J3_dec (a1 : Int32) (a2 : Int32) : Int32 :=
  (if 0 ≤ (a1 + (-1 : Int32)) then (a1 + (-1 : Int32)) else (a2 - (1 : Int32)))
set_option maxHeartbeats 4000000 in
theorem w_J3_dec (l : Launch) (hl : l.stackTraces = false) (D : va_G) (dA : Nat → ClassId) (h0 : HH) (a1 : Int32) (a2 : Int32) : MC D dA l yJ3_dec cJ3_dec 2 (Option.some Jvm.ClassFile.FieldType.int) [] 0 0 [.int a1, .int a2] h0 (.inr (some (.int (F_J3_dec a1 a2))), h0) := by
  refine mc_of hl (plainFor_of_name pn_J3) (by simp [lg_sl, cat_rf, cat_i, cat_j, cat_f, cat_d]) ?_
  intro p e s m args below meth c R hRf hRl X hr hnm
  generalize hF : F_J3_dec a1 a2 = rE
  unfold F_J3_dec at hF
  rw [show argL [.int a1, .int a2] = [some (.int a1), some (.int a2)] from by simp [argL, cat_rf, cat_i, cat_j, cat_f, cat_d]]
  refine g_iinc (v := (a1 + (-1 : Int32))) (L' := [some (.int (a1 + (-1 : Int32))), some (.int a2)]) X dJ3_dec_0 (Nat.le_of_ble_eq_true rfl) rfl rfl (by first | rfl | simp [stL, rm1, clr2, cat_rf, cat_i, cat_j, cat_f, cat_d]) ?_
  refine g_iload_n X dJ3_dec_3 rfl rfl ?_
  suffices K : G p l e R s m args below meth c (RQ D dA h0 (.inr (some (.int rE)), h0) below s) D dA h0 2 h0 11 [some (.int (if 0 ≤ (a1 + (-1 : Int32)) then (a1 + (-1 : Int32)) else (a2 - (1 : Int32)))), none] [] by
    refine g_if_ge X 11 dJ3_dec_4 (by decide) (fun c1 => ?_) (fun c1 => ?_)
    · (try simp only [if_pos c1] at K)
      refine G.drop [true, false] rfl ?_
      first | exact K | (simp only [if_pos c1]; exact K)
    · (try simp only [if_neg c1] at K)
      refine g_iload_n X dJ3_dec_7 rfl rfl ?_
      refine g_iconst (v := (1 : Int32)) X dJ3_dec_8 (by decide) ?_
      refine g_isub X dJ3_dec_9 ?_
      refine g_istore_n (L' := [some (.int (a2 - (1 : Int32))), some (.int a2)]) X dJ3_dec_10 rfl (Nat.le_of_ble_eq_true rfl) (by first | rfl | simp [stL, rm1, clr2, cat_rf, cat_i, cat_j, cat_f, cat_d]) ?_
      refine G.drop [true, false] rfl ?_
      first | exact K | (simp only [if_neg c1]; exact K)
  refine g_iload_n X dJ3_dec_11 rfl rfl ?_
  cases hF
  exact g_iret X hr dJ3_dec_12
def F_J3_pollLast (this : Nat) (h0 : HH) : Option (Option Nat × HH) :=
  Option.bind (getR h0 9 0 (some this)) fun v1 =>
  Option.bind (getI h0 9 2 (some this)) fun v2 =>
  Option.bind (alen h0 v1) fun v3 =>
  Option.bind (F_J3_elementAt v1 (F_J3_dec v2 v3) h0) fun v4 =>
  if v4 = none then (
    some (v4, h0)
  ) else (
    Option.bind (putV h0 9 2 (some this) (.int (F_J3_dec v2 v3))) fun h6 =>
    Option.bind (astR h6 2 v1 (F_J3_dec v2 v3) none) fun h7 =>
    some (v4, h7)
  )
set_option maxHeartbeats 4000000 in
theorem w_J3_pollLast (l : Launch) (hl : l.stackTraces = false) (D : va_G) (dA : Nat → ClassId) (h0 : HH) (this : Nat) (rE : Option Nat) (hE : HH) (hF : F_J3_pollLast this h0 = some (rE, hE)) : MC D dA l yJ3_pollLast cJ3_pollLast 4 (Option.some (Jvm.ClassFile.FieldType.object "java/lang/Object")) [] 1 21 [va_rf (some this)] h0 (.inr (some (va_rf rE)), hE) := by
  refine mc_of hl (plainFor_of_name pn_J3) (by simp [lg_sl, cat_rf, cat_i, cat_j, cat_f, cat_d]) ?_
  intro p e s m args below meth c R hRf hRl X hr hnm
  unfold F_J3_pollLast at hF
  rw [show argL [va_rf (some this)] = [some (va_rf (some this))] from by simp [argL, cat_rf, cat_i, cat_j, cat_f, cat_d]]
  refine G.pad 3 (L' := [some (va_rf (some this)), none, none, none]) rfl ?_
  refine g_aload_n X dJ3_pollLast_0 rfl rfl ?_
  obtain ⟨v1, ev1, hF⟩ := bnd hF
  refine g_get (k := 0) X in_J3 rfl (by decide) q211 (Or.inl rfl) (getR_V ev1) dJ3_pollLast_1 ?_
  refine g_dup X dJ3_pollLast_4 (cat_rf _) ?_
  refine g_astore_n (L' := [some (va_rf (some this)), some (va_rf v1), none, none]) X dJ3_pollLast_5 rfl (Nat.le_of_ble_eq_true rfl) (by first | rfl | simp [stL, rm1, clr2, cat_rf, cat_i, cat_j, cat_f, cat_d]) ?_
  refine g_aload_n X dJ3_pollLast_6 rfl rfl ?_
  obtain ⟨v2, ev2, hF⟩ := bnd hF
  refine g_get (k := 2) X in_J3 rfl (by decide) q213 (Or.inl rfl) (getI_V ev2) dJ3_pollLast_7 ?_
  refine g_aload_n X dJ3_pollLast_10 rfl rfl ?_
  obtain ⟨v3, ev3, hF⟩ := bnd hF
  refine g_alen X ev3 dJ3_pollLast_11 ?_
  refine g_callS X (w_J3_dec l hl D dA h0 v2 v3) q1562 q1563 q98 q1564 okn_J3_dec ⟨by rw [hRf]; exact Nat.le_of_ble_eq_true rfl, by rw [hRl]; exact Nat.le_of_ble_eq_true rfl⟩ (As := [.int v2, .int v3]) (rest := [va_rf v1]) rfl (by first | exact Nat.le_of_ble_eq_true rfl | simp [cat_rf, cat_i, cat_j, cat_f, cat_d]) dJ3_pollLast_12 (ac_v ?_)
  refine g_dup X dJ3_pollLast_15 rfl ?_
  refine g_istore_n (L' := [some (va_rf (some this)), some (va_rf v1), some (.int (F_J3_dec v2 v3)), none]) X dJ3_pollLast_16 rfl (Nat.le_of_ble_eq_true rfl) (by first | rfl | simp [stL, rm1, clr2, cat_rf, cat_i, cat_j, cat_f, cat_d]) ?_
  obtain ⟨v4, ev4, hF⟩ := bnd hF
  refine g_callS X (w_J3_elementAt l hl D dA h0 v1 (F_J3_dec v2 v3) v4 ev4) q731 q732 q98 q733 okn_J3_elementAt ⟨by rw [hRf]; exact Nat.le_of_ble_eq_true rfl, by rw [hRl]; exact Nat.le_of_ble_eq_true rfl⟩ (As := [va_rf v1, .int (F_J3_dec v2 v3)]) (rest := []) rfl (by first | exact Nat.le_of_ble_eq_true rfl | simp [cat_rf, cat_i, cat_j, cat_f, cat_d]) dJ3_pollLast_17 (ac_v ?_)
  refine g_astore_n (L' := [some (va_rf (some this)), some (va_rf v1), some (.int (F_J3_dec v2 v3)), some (va_rf v4)]) X dJ3_pollLast_20 rfl (Nat.le_of_ble_eq_true rfl) (by first | rfl | simp [stL, rm1, clr2, cat_rf, cat_i, cat_j, cat_f, cat_d]) ?_
  refine g_aload_n X dJ3_pollLast_21 rfl rfl ?_
  refine g_ifnull X 34 dJ3_pollLast_22 (by decide) (fun c5 => ?_) (fun c5 => ?_)
  · have hF := (if_pos c5).symm.trans hF
    refine g_aload_n X dJ3_pollLast_34 rfl rfl ?_
    cases hF
    exact g_aret X hr (Or.inl ⟨_, rfl⟩) dJ3_pollLast_35
  · have hF := (if_neg c5).symm.trans hF
    refine g_aload_n X dJ3_pollLast_25 rfl rfl ?_
    refine g_aload_n X dJ3_pollLast_26 rfl rfl ?_
    refine g_iload_n X dJ3_pollLast_27 rfl rfl ?_
    refine g_dup_x1 X dJ3_pollLast_28 rfl (cat_rf _) ?_
    obtain ⟨h6, eh6, hF⟩ := bnd hF
    refine g_put (k := 2) X in_J3 tyJ3 tyJ3_ok nmJ3 rfl (by decide) q213 (Or.inl rfl) rfl (tyJ3_ok 2 (by decide)) rfl rfl eh6 dJ3_pollLast_29 ?_
    refine g_null X dJ3_pollLast_32 ?_
    obtain ⟨h7, eh7, hF⟩ := bnd hF
    refine g_aast X eh7 dJ3_pollLast_33 ?_
    refine g_aload_n X dJ3_pollLast_34 rfl rfl ?_
    cases hF
    exact g_aret X hr (Or.inl ⟨_, rfl⟩) dJ3_pollLast_35
def F_J3_removeLast (this : Nat) (h0 : HH) : Option (Option Nat × HH) :=
  Option.bind (isO h0 9 (some this)) fun ob1 =>
  b2 (F_J3_pollLast ob1 h0) fun v3 h2 =>
  if v3 = none then (
    none
  ) else (
    some (v3, h2)
  )
set_option maxHeartbeats 4000000 in
theorem w_J3_removeLast (l : Launch) (hl : l.stackTraces = false) (D : va_G) (dA : Nat → ClassId) (h0 : HH) (this : Nat) (rE : Option Nat) (hE : HH) (hF : F_J3_removeLast this h0 = some (rE, hE)) : MC D dA l yJ3_removeLast cJ3_removeLast 2 (Option.some (Jvm.ClassFile.FieldType.object "java/lang/Object")) [] 2 44 [va_rf (some this)] h0 (.inr (some (va_rf rE)), hE) := by
  refine mc_of hl (plainFor_of_name pn_J3) (by simp [lg_sl, cat_rf, cat_i, cat_j, cat_f, cat_d]) ?_
  intro p e s m args below meth c R hRf hRl X hr hnm
  unfold F_J3_removeLast at hF
  rw [show argL [va_rf (some this)] = [some (va_rf (some this))] from by simp [argL, cat_rf, cat_i, cat_j, cat_f, cat_d]]
  refine G.pad 1 (L' := [some (va_rf (some this)), none]) rfl ?_
  refine g_aload_n X dJ3_removeLast_0 rfl rfl ?_
  obtain ⟨ob1, eob1, hF⟩ := bnd hF
  obtain ⟨v3, h2, eh2, hF⟩ := b2_some hF
  refine g_callV X eob1 rfl rfl (w_J3_pollLast l hl D dA h0 ob1  v3 h2 eh2) q1558 q1559 q1560 q98 q1561 okn_J3_pollLast ⟨by rw [hRf]; exact Nat.le_of_ble_eq_true rfl, by rw [hRl]; exact Nat.le_of_ble_eq_true rfl⟩ (As := []) (rest := []) rfl (by first | exact Nat.le_of_ble_eq_true rfl | simp [cat_rf, cat_i, cat_j, cat_f, cat_d]) dJ3_removeLast_1 (ac_v ?_)
  refine g_astore_n (L' := [some (va_rf (some this)), some (va_rf v3)]) X dJ3_removeLast_4 rfl (Nat.le_of_ble_eq_true rfl) (by first | rfl | simp [stL, rm1, clr2, cat_rf, cat_i, cat_j, cat_f, cat_d]) ?_
  refine g_aload_n X dJ3_removeLast_5 rfl rfl ?_
  refine g_ifnonnull X 17 dJ3_removeLast_6 (by decide) (fun c4 => ?_) (fun c4 => ?_)
  · have hF := (if_neg c4).symm.trans hF
    refine g_aload_n X dJ3_removeLast_17 rfl rfl ?_
    cases hF
    exact g_aret X hr (Or.inl ⟨_, rfl⟩) dJ3_removeLast_18
  · have hF := (if_pos c4).symm.trans hF
    cases hF
def F_X1_undo (this : Nat) (h0 : HH) : Option (((Nat × String) ⊕ Int32) × HH) :=
  Option.bind (getR h0 0 2 (some this)) fun v1 =>
  Option.bind (isO h0 9 v1) fun ob2 =>
  Option.bind (F_J3_isEmpty ob2 h0) fun v3 =>
  thr (F_X1_needState (if v3 = 0 then (1 : Int32) else (0 : Int32)) h0) (fun q7 h5 =>
    some (.inl q7, h5)
  ) (fun u6 h5 =>
    Option.bind (getR h5 0 2 (some this)) fun v9 =>
    Option.bind (isO h5 9 v9) fun ob10 =>
    b2 (F_J3_removeLast ob10 h5) fun v12 h11 =>
    Option.bind (castO h11 2 v12) fun _ =>
    Option.bind (putV h11 0 0 (some this) (va_rf v12)) fun h14 =>
    Option.bind (getR h14 0 2 (some this)) fun v15 =>
    Option.bind (isO h14 9 v15) fun ob16 =>
    Option.bind (F_J3_size ob16 h14) fun v17 =>
    some (.inr v17, h14)
  )
set_option maxHeartbeats 4000000 in
theorem w_X1_undo (l : Launch) (hl : l.stackTraces = false) (D : va_G) (dA : Nat → ClassId) (h0 : HH) (this : Nat) (oE : (Nat × String) ⊕ Int32) (hE : HH) (hF : F_X1_undo this h0 = some (oE, hE)) : MC D dA l yX1_undo cX1_undo 1 (Option.some Jvm.ClassFile.FieldType.int) [] 9 220 [va_rf (some this)] h0 (rsI oE, hE) := by
  refine mc_of hl (plainFor_of_name pn_X1) (by simp [lg_sl, cat_rf, cat_i, cat_j, cat_f, cat_d]) ?_
  intro p e s m args below meth c R hRf hRl X hr hnm
  unfold F_X1_undo at hF
  rw [show argL [va_rf (some this)] = [some (va_rf (some this))] from by simp [argL, cat_rf, cat_i, cat_j, cat_f, cat_d]]
  refine g_aload_n X dX1_undo_0 rfl rfl ?_
  obtain ⟨v1, ev1, hF⟩ := bnd hF
  refine g_get (k := 2) X in_X1 rfl (by decide) q257 (Or.inl rfl) (getR_V ev1) dX1_undo_1 ?_
  obtain ⟨ob2, eob2, hF⟩ := bnd hF
  obtain ⟨v3, ev3, hF⟩ := bnd hF
  refine g_callV X eob2 rfl rfl (w_J3_isEmpty l hl D dA h0 ob2  v3 ev3) q1550 q1551 q1552 q98 q1553 okn_J3_isEmpty ⟨by rw [hRf]; exact Nat.le_of_ble_eq_true rfl, by rw [hRl]; exact Nat.le_of_ble_eq_true rfl⟩ (As := []) (rest := []) rfl (by first | exact Nat.le_of_ble_eq_true rfl | simp [cat_rf, cat_i, cat_j, cat_f, cat_d]) dX1_undo_4 (ac_v ?_)
  suffices K : G p l e R s m args below meth c (RQ D dA h0 (rsI oE, hE) below s) D dA h0 1 h0 15 [some (va_rf (some this))] [.int (if v3 = 0 then (1 : Int32) else (0 : Int32))] by
    refine g_if_ne X 14 dX1_undo_7 (by decide) (fun c4 => ?_) (fun c4 => ?_)
    · (try simp only [if_neg c4] at K)
      refine g_iconst (v := (0 : Int32)) X dX1_undo_14 (by decide) ?_
      first | exact K | (simp only [if_neg c4]; exact K)
    · (try simp only [if_pos c4] at K)
      refine g_iconst (v := (1 : Int32)) X dX1_undo_10 (by decide) ?_
      refine g_goto X 15 dX1_undo_11 (by decide) ?_
      first | exact K | (simp only [if_pos c4]; exact K)
  rcases thr_some hF with ⟨q7, h5, e8, hF⟩ | ⟨u6, h5, e8, hF⟩
  · refine g_callS X (w_X1_needState l hl D dA h0 (if v3 = 0 then (1 : Int32) else (0 : Int32)) (.inl q7) h5 e8) q1540 q1541 q92 q1542 okn_X1_needState ⟨by rw [hRf]; exact Nat.le_of_ble_eq_true rfl, by rw [hRl]; exact Nat.le_of_ble_eq_true rfl⟩ (As := [.int (if v3 = 0 then (1 : Int32) else (0 : Int32))]) (rest := []) rfl (by first | exact Nat.le_of_ble_eq_true rfl | simp [cat_rf, cat_i, cat_j, cat_f, cat_d]) dX1_undo_15 (ac_x ?_)
    cases hF
    exact gx_out X (fun x hx => nomatch hx)
  · refine g_callS X (w_X1_needState l hl D dA h0 (if v3 = 0 then (1 : Int32) else (0 : Int32)) (.inr u6) h5 e8) q1540 q1541 q92 q1542 okn_X1_needState ⟨by rw [hRf]; exact Nat.le_of_ble_eq_true rfl, by rw [hRl]; exact Nat.le_of_ble_eq_true rfl⟩ (As := [.int (if v3 = 0 then (1 : Int32) else (0 : Int32))]) (rest := []) rfl (by first | exact Nat.le_of_ble_eq_true rfl | simp [cat_rf, cat_i, cat_j, cat_f, cat_d]) dX1_undo_15 (ac_0 ?_)
    refine g_aload_n X dX1_undo_18 rfl rfl ?_
    refine g_aload_n X dX1_undo_19 rfl rfl ?_
    obtain ⟨v9, ev9, hF⟩ := bnd hF
    refine g_get (k := 2) X in_X1 rfl (by decide) q257 (Or.inl rfl) (getR_V ev9) dX1_undo_20 ?_
    obtain ⟨ob10, eob10, hF⟩ := bnd hF
    obtain ⟨v12, h11, eh11, hF⟩ := b2_some hF
    refine g_callV X eob10 rfl rfl (w_J3_removeLast l hl D dA h5 ob10  v12 h11 eh11) q1554 q1555 q1556 q98 q1557 okn_J3_removeLast ⟨by rw [hRf]; exact Nat.le_of_ble_eq_true rfl, by rw [hRl]; exact Nat.le_of_ble_eq_true rfl⟩ (As := []) (rest := [va_rf (some this)]) rfl (by first | exact Nat.le_of_ble_eq_true rfl | simp [cat_rf, cat_i, cat_j, cat_f, cat_d]) dX1_undo_23 (ac_v ?_)
    obtain ⟨_, z13, hF⟩ := bnd hF
    refine g_castO X q134 rfl z13 dX1_undo_26 ?_
    obtain ⟨h14, eh14, hF⟩ := bnd hF
    refine g_put (k := 0) X in_X1 tyX1 tyX1_ok nmX1 rfl (by decide) q255 (Or.inl rfl) rfl (tyX1_ok 0 (by decide)) (narrow_rf _ _) (fits_rf _ _) eh14 dX1_undo_29 ?_
    refine g_aload_n X dX1_undo_32 rfl rfl ?_
    obtain ⟨v15, ev15, hF⟩ := bnd hF
    refine g_get (k := 2) X in_X1 rfl (by decide) q257 (Or.inl rfl) (getR_V ev15) dX1_undo_33 ?_
    obtain ⟨ob16, eob16, hF⟩ := bnd hF
    obtain ⟨v17, ev17, hF⟩ := bnd hF
    refine g_callV X eob16 rfl rfl (w_J3_size l hl D dA h14 ob16  v17 ev17) q716 q717 q718 q98 q719 okn_J3_size ⟨by rw [hRf]; exact Nat.le_of_ble_eq_true rfl, by rw [hRl]; exact Nat.le_of_ble_eq_true rfl⟩ (As := []) (rest := []) rfl (by first | exact Nat.le_of_ble_eq_true rfl | simp [cat_rf, cat_i, cat_j, cat_f, cat_d]) dX1_undo_36 (ac_v ?_)
    cases hF
    exact g_iret X hr dX1_undo_39
def F_J4_isLatin1 (this : Nat) (h0 : HH) : Option Int32 :=
  if (1 : Int32) = 0 then (
    some (0 : Int32)
  ) else (
    Option.bind (getI h0 10 1 (some this)) fun v2 =>
    some (if v2 = 0 then (1 : Int32) else (0 : Int32))
  )
set_option maxHeartbeats 4000000 in
theorem w_J4_isLatin1 (l : Launch) (hl : l.stackTraces = false) (D : va_G) (dA : Nat → ClassId) (h0 : HH) (this : Nat) (rE : Int32) (hF : F_J4_isLatin1 this h0 = some rE) : MC D dA l yJ4_isLatin1 cJ4_isLatin1 1 (Option.some Jvm.ClassFile.FieldType.boolean) [] 0 0 [va_rf (some this)] h0 (.inr (some (.int rE)), h0) := by
  refine mc_of hl (plainFor_of_name pn_J4) (by simp [lg_sl, cat_rf, cat_i, cat_j, cat_f, cat_d]) ?_
  intro p e s m args below meth c R hRf hRl X hr hnm
  unfold F_J4_isLatin1 at hF
  rw [show argL [va_rf (some this)] = [some (va_rf (some this))] from by simp [argL, cat_rf, cat_i, cat_j, cat_f, cat_d]]
  refine g_getsC X q230 rfl dJ4_isLatin1_0 ?_
  refine g_if_eq X 17 dJ4_isLatin1_3 (by decide) (fun c1 => ?_) (fun c1 => ?_)
  · have hF := (if_pos c1).symm.trans hF
    refine g_iconst (v := (0 : Int32)) X dJ4_isLatin1_17 (by decide) ?_
    cases hF
    exact g_zret X hr rfl dJ4_isLatin1_18
  · have hF := (if_neg c1).symm.trans hF
    refine g_aload_n X dJ4_isLatin1_6 rfl rfl ?_
    obtain ⟨v2, ev2, hF⟩ := bnd hF
    refine g_get (k := 1) X in_J5 rfl (by decide) q240 (Or.inl rfl) (getI_V ev2) dJ4_isLatin1_7 ?_
    suffices K : G p l e R s m args below meth c (RQ D dA h0 (.inr (some (.int rE)), h0) below s) D dA h0 1 h0 18 [none] [.int (if v2 = 0 then (1 : Int32) else (0 : Int32))] by
      refine g_if_ne X 17 dJ4_isLatin1_10 (by decide) (fun c3 => ?_) (fun c3 => ?_)
      · (try simp only [if_neg c3] at K)
        refine g_iconst (v := (0 : Int32)) X dJ4_isLatin1_17 (by decide) ?_
        refine G.drop [false] rfl ?_
        first | exact K | (simp only [if_neg c3]; exact K)
      · (try simp only [if_pos c3] at K)
        refine g_iconst (v := (1 : Int32)) X dJ4_isLatin1_13 (by decide) ?_
        refine g_goto X 18 dJ4_isLatin1_14 (by decide) ?_
        refine G.drop [false] rfl ?_
        first | exact K | (simp only [if_pos c3]; exact K)
    cases hF
    exact g_zret X hr (by (repeat' split) <;> rfl) dJ4_isLatin1_18
def F_J21_canEncode (a1 : Int32) : Int32 :=
  (if (255 : Int32) < a1 then (0 : Int32) else (1 : Int32))
set_option maxHeartbeats 4000000 in
theorem w_J21_canEncode (l : Launch) (hl : l.stackTraces = false) (D : va_G) (dA : Nat → ClassId) (h0 : HH) (a1 : Int32) : MC D dA l yJ21_canEncode cJ21_canEncode 1 (Option.some Jvm.ClassFile.FieldType.boolean) [] 0 0 [.int a1] h0 (.inr (some (.int (F_J21_canEncode a1))), h0) := by
  refine mc_of hl (plainFor_of_name pn_J21) (by simp [lg_sl, cat_rf, cat_i, cat_j, cat_f, cat_d]) ?_
  intro p e s m args below meth c R hRf hRl X hr hnm
  generalize hF : F_J21_canEncode a1 = rE
  unfold F_J21_canEncode at hF
  rw [show argL [.int a1] = [some (.int a1)] from by simp [argL, cat_rf, cat_i, cat_j, cat_f, cat_d]]
  refine g_iload_n X dJ21_canEncode_0 rfl rfl ?_
  refine g_sipush (v := (255 : Int32)) X dJ21_canEncode_1 (by decide) ?_
  suffices K : G p l e R s m args below meth c (RQ D dA h0 (.inr (some (.int rE)), h0) below s) D dA h0 1 h0 12 [none] [.int (if (255 : Int32) < a1 then (0 : Int32) else (1 : Int32))] by
    refine g_icmp_gt X 11 dJ21_canEncode_4 (by decide) (fun c1 => ?_) (fun c1 => ?_)
    · (try simp only [if_pos c1] at K)
      refine g_iconst (v := (0 : Int32)) X dJ21_canEncode_11 (by decide) ?_
      refine G.drop [false] rfl ?_
      first | exact K | (simp only [if_pos c1]; exact K)
    · (try simp only [if_neg c1] at K)
      refine g_iconst (v := (1 : Int32)) X dJ21_canEncode_7 (by decide) ?_
      refine g_goto X 12 dJ21_canEncode_8 (by decide) ?_
      refine G.drop [false] rfl ?_
      first | exact K | (simp only [if_neg c1]; exact K)
  cases hF
  exact g_zret X hr (by (repeat' split) <;> rfl) dJ21_canEncode_12
def F_J4_append_3 (this : Nat) (a1 : Int32) (h0 : HH) : Option (Option Nat × HH) :=
  Option.bind (getI h0 10 3 (some this)) fun v1 =>
  Option.bind (isO h0 10 (some this)) fun ob2 =>
  Option.bind (F_J4_ensureCapacityInternal ob2 (v1 + (1 : Int32)) h0) fun h3 =>
  Option.bind (isO h3 10 (some this)) fun ob4 =>
  Option.bind (F_J4_isLatin1 ob4 h3) fun v5 =>
  if v5 = 0 then (
    none
  ) else (
    if (F_J21_canEncode a1) = 0 then (
      none
    ) else (
      Option.bind (getR h3 10 0 (some this)) fun v8 =>
      Option.bind (getI h3 10 3 (some this)) fun v9 =>
      Option.bind (putV h3 10 3 (some this) (.int (v9 + (1 : Int32)))) fun h10 =>
      Option.bind (astB h10 v8 v9 (a1.toInt8.toInt32)) fun h11 =>
      some ((some this), h11)
    )
  )
set_option maxHeartbeats 4000000 in
theorem w_J4_append_3 (l : Launch) (hl : l.stackTraces = false) (D : va_G) (dA : Nat → ClassId) (h0 : HH) (this : Nat) (a1 : Int32) (rE : Option Nat) (hE : HH) (hF : F_J4_append_3 this a1 h0 = some (rE, hE)) : MC D dA l yJ4_append_3 cJ4_append_3 2 (Option.some (Jvm.ClassFile.FieldType.object "java/lang/AbstractStringBuilder")) [] 4 91 [va_rf (some this), .int a1] h0 (.inr (some (va_rf rE)), hE) := by
  refine mc_of hl (plainFor_of_name pn_J4) (by simp [lg_sl, cat_rf, cat_i, cat_j, cat_f, cat_d]) ?_
  intro p e s m args below meth c R hRf hRl X hr hnm
  unfold F_J4_append_3 at hF
  rw [show argL [va_rf (some this), .int a1] = [some (va_rf (some this)), some (.int a1)] from by simp [argL, cat_rf, cat_i, cat_j, cat_f, cat_d]]
  refine g_aload_n X dJ4_append_3_0 rfl rfl ?_
  refine g_aload_n X dJ4_append_3_1 rfl rfl ?_
  obtain ⟨v1, ev1, hF⟩ := bnd hF
  refine g_get (k := 3) X in_J5 rfl (by decide) q243 (Or.inl rfl) (getI_V ev1) dJ4_append_3_2 ?_
  refine g_iconst (v := (1 : Int32)) X dJ4_append_3_5 (by decide) ?_
  refine g_iadd X dJ4_append_3_6 ?_
  obtain ⟨ob2, eob2, hF⟩ := bnd hF
  obtain ⟨h3, eh3, hF⟩ := bnd hF
  refine g_callP X eob2 rfl (w_J4_ensureCapacityInternal l hl D dA h0 ob2 (v1 + (1 : Int32)) h3 eh3) q929 q931 q950 rfl okn_J4_isLatin1 (nw_in q930 rfl) q99 q932 okn_J4_ensureCapacityInternal ⟨by rw [hRf]; exact Nat.le_of_ble_eq_true rfl, by rw [hRl]; exact Nat.le_of_ble_eq_true rfl⟩ (As := [.int (v1 + (1 : Int32))]) (rest := []) rfl (by first | exact Nat.le_of_ble_eq_true rfl | simp [cat_rf, cat_i, cat_j, cat_f, cat_d]) dJ4_append_3_7 (ac_0 ?_)
  refine g_aload_n X dJ4_append_3_10 rfl rfl ?_
  obtain ⟨ob4, eob4, hF⟩ := bnd hF
  obtain ⟨v5, ev5, hF⟩ := bnd hF
  refine g_callU X eob4 rfl rfl (w_J4_isLatin1 l hl D dA h3 ob4  v5 ev5) q947 q948 q950 q99 q951 okn_J4_isLatin1 ⟨by rw [hRf]; exact Nat.le_of_ble_eq_true rfl, by rw [hRl]; exact Nat.le_of_ble_eq_true rfl⟩ (As := []) (rest := []) rfl (by first | exact Nat.le_of_ble_eq_true rfl | simp [cat_rf, cat_i, cat_j, cat_f, cat_d]) dJ4_append_3_11 (ac_v ?_)
  refine g_if_eq X 45 dJ4_append_3_14 (by decide) (fun c6 => ?_) (fun c6 => ?_)
  · have hF := (if_pos c6).symm.trans hF
    cases hF
  · have hF := (if_neg c6).symm.trans hF
    refine g_iload_n X dJ4_append_3_17 rfl rfl ?_
    refine g_callS X (w_J21_canEncode l hl D dA h3 a1) q1581 q1582 q122 q1583 okn_J21_canEncode ⟨by rw [hRf]; exact Nat.le_of_ble_eq_true rfl, by rw [hRl]; exact Nat.le_of_ble_eq_true rfl⟩ (As := [.int a1]) (rest := []) rfl (by first | exact Nat.le_of_ble_eq_true rfl | simp [cat_rf, cat_i, cat_j, cat_f, cat_d]) dJ4_append_3_18 (ac_v ?_)
    refine g_if_eq X 45 dJ4_append_3_21 (by decide) (fun c7 => ?_) (fun c7 => ?_)
    · have hF := (if_pos c7).symm.trans hF
      cases hF
    · have hF := (if_neg c7).symm.trans hF
      refine g_aload_n X dJ4_append_3_24 rfl rfl ?_
      obtain ⟨v8, ev8, hF⟩ := bnd hF
      refine g_get (k := 0) X in_J5 rfl (by decide) q239 (Or.inl rfl) (getR_V ev8) dJ4_append_3_25 ?_
      refine g_aload_n X dJ4_append_3_28 rfl rfl ?_
      refine g_dup X dJ4_append_3_29 (cat_rf _) ?_
      obtain ⟨v9, ev9, hF⟩ := bnd hF
      refine g_get (k := 3) X in_J5 rfl (by decide) q243 (Or.inl rfl) (getI_V ev9) dJ4_append_3_30 ?_
      refine g_dup_x1 X dJ4_append_3_33 rfl (cat_rf _) ?_
      refine g_iconst (v := (1 : Int32)) X dJ4_append_3_34 (by decide) ?_
      refine g_iadd X dJ4_append_3_35 ?_
      obtain ⟨h10, eh10, hF⟩ := bnd hF
      refine g_put (k := 3) X in_J5 tyJ5 tyJ5_ok nmJ5 rfl (by decide) q243 (Or.inl rfl) rfl (tyJ5_ok 3 (by decide)) rfl rfl eh10 dJ4_append_3_36 ?_
      refine g_iload_n X dJ4_append_3_39 rfl rfl ?_
      refine g_i2b X dJ4_append_3_40 ?_
      obtain ⟨h11, eh11, hF⟩ := bnd hF
      refine g_bast X eh11 dJ4_append_3_41 ?_
      refine g_goto X 75 dJ4_append_3_42 (by decide) ?_
      refine g_aload_n X dJ4_append_3_75 rfl rfl ?_
      cases hF
      exact g_aret X hr (Or.inl ⟨_, rfl⟩) dJ4_append_3_76
def F_J5_append_3 (this : Nat) (a1 : Int32) (h0 : HH) : Option (Option Nat × HH) :=
  Option.bind (isO h0 10 (some this)) fun ob1 =>
  b2 (F_J4_append_3 ob1 a1 h0) fun v3 h2 =>
  some ((some this), h2)
set_option maxHeartbeats 4000000 in
theorem w_J5_append_3 (l : Launch) (hl : l.stackTraces = false) (D : va_G) (dA : Nat → ClassId) (h0 : HH) (this : Nat) (a1 : Int32) (rE : Option Nat) (hE : HH) (hF : F_J5_append_3 this a1 h0 = some (rE, hE)) : MC D dA l yJ5_append_3 cJ5_append_3 2 (Option.some (Jvm.ClassFile.FieldType.object "java/lang/StringBuilder")) [] 5 112 [va_rf (some this), .int a1] h0 (.inr (some (va_rf rE)), hE) := by
  refine mc_of hl (plainFor_of_name pn_J5) (by simp [lg_sl, cat_rf, cat_i, cat_j, cat_f, cat_d]) ?_
  intro p e s m args below meth c R hRf hRl X hr hnm
  unfold F_J5_append_3 at hF
  rw [show argL [va_rf (some this), .int a1] = [some (va_rf (some this)), some (.int a1)] from by simp [argL, cat_rf, cat_i, cat_j, cat_f, cat_d]]
  refine g_aload_n X dJ5_append_3_0 rfl rfl ?_
  refine g_iload_n X dJ5_append_3_1 rfl rfl ?_
  obtain ⟨ob1, eob1, hF⟩ := bnd hF
  obtain ⟨v3, h2, eh2, hF⟩ := b2_some hF
  refine g_callSU X eob1 rfl (w_J4_append_3 l hl D dA h0 ob1 a1 v3 h2 eh2) q1578 q1579 q2400 q252 (by decide) q99 q1580 okn_J4_append_3 ⟨by rw [hRf]; exact Nat.le_of_ble_eq_true rfl, by rw [hRl]; exact Nat.le_of_ble_eq_true rfl⟩ (As := [.int a1]) (rest := []) rfl (by first | exact Nat.le_of_ble_eq_true rfl | simp [cat_rf, cat_i, cat_j, cat_f, cat_d]) dJ5_append_3_2 (ac_v ?_)
  refine g_pop X dJ5_append_3_5 (cat_rf _) ?_
  refine g_aload_n X dJ5_append_3_6 rfl rfl ?_
  cases hF
  exact g_aret X hr (Or.inl ⟨_, rfl⟩) dJ5_append_3_7
def F_X1_type (this : Nat) (a1 : Int32) (h0 : HH) : Option (((Nat × String) ⊕ Int32) × HH) :=
  thr (F_X1_needArgument (F_X1_isBetween (a1.toInt64) (32 : Int64) (126 : Int64)) h0) (fun q3 h1 =>
    some (.inl q3, h1)
  ) (fun u2 h1 =>
    Option.bind (getR h1 0 3 (some this)) fun v5 =>
    Option.bind (isO h1 10 v5) fun ob6 =>
    Option.bind (F_J5_length ob6 h1) fun v7 =>
    thr (F_X1_needState (if (60 : Int32) ≤ v7 then (0 : Int32) else (1 : Int32)) h1) (fun q11 h9 =>
      some (.inl q11, h9)
    ) (fun u10 h9 =>
      Option.bind (getR h9 0 3 (some this)) fun v13 =>
      Option.bind (isO h9 10 v13) fun ob14 =>
      b2 (F_J5_append_3 ob14 ((a1.toUInt32 % 65536).toInt32) h9) fun v16 h15 =>
      Option.bind (getR h15 0 3 (some this)) fun v17 =>
      Option.bind (isO h15 10 v17) fun ob18 =>
      Option.bind (F_J5_length ob18 h15) fun v19 =>
      some (.inr v19, h15)
    )
  )
set_option maxHeartbeats 4000000 in
theorem w_X1_type (l : Launch) (hl : l.stackTraces = false) (D : va_G) (dA : Nat → ClassId) (h0 : HH) (this : Nat) (a1 : Int32) (oE : (Nat × String) ⊕ Int32) (hE : HH) (hF : F_X1_type this a1 h0 = some (oE, hE)) : MC D dA l yX1_type cX1_type 2 (Option.some Jvm.ClassFile.FieldType.int) [] 9 220 [va_rf (some this), .int a1] h0 (rsI oE, hE) := by
  refine mc_of hl (plainFor_of_name pn_X1) (by simp [lg_sl, cat_rf, cat_i, cat_j, cat_f, cat_d]) ?_
  intro p e s m args below meth c R hRf hRl X hr hnm
  unfold F_X1_type at hF
  rw [show argL [va_rf (some this), .int a1] = [some (va_rf (some this)), some (.int a1)] from by simp [argL, cat_rf, cat_i, cat_j, cat_f, cat_d]]
  refine g_iload_n X dX1_type_0 rfl rfl ?_
  refine g_i2l X dX1_type_1 ?_
  refine g_ldc2 (v := (32 : Int64)) X q1572 dX1_type_2 ?_
  refine g_ldc2 (v := (126 : Int64)) X q1573 dX1_type_5 ?_
  refine g_callS X (w_X1_isBetween l hl D dA h0 (a1.toInt64) (32 : Int64) (126 : Int64)) q414 q415 q92 q416 okn_X1_isBetween ⟨by rw [hRf]; exact Nat.le_of_ble_eq_true rfl, by rw [hRl]; exact Nat.le_of_ble_eq_true rfl⟩ (As := [.long (a1.toInt64), .long (32 : Int64), .long (126 : Int64)]) (rest := []) rfl (by first | exact Nat.le_of_ble_eq_true rfl | simp [cat_rf, cat_i, cat_j, cat_f, cat_d]) dX1_type_8 (ac_v ?_)
  rcases thr_some hF with ⟨q3, h1, e4, hF⟩ | ⟨u2, h1, e4, hF⟩
  · refine g_callS X (w_X1_needArgument l hl D dA h0 (F_X1_isBetween (a1.toInt64) (32 : Int64) (126 : Int64)) (.inl q3) h1 e4) q1254 q1255 q92 q1256 okn_X1_needArgument ⟨by rw [hRf]; exact Nat.le_of_ble_eq_true rfl, by rw [hRl]; exact Nat.le_of_ble_eq_true rfl⟩ (As := [.int (F_X1_isBetween (a1.toInt64) (32 : Int64) (126 : Int64))]) (rest := []) rfl (by first | exact Nat.le_of_ble_eq_true rfl | simp [cat_rf, cat_i, cat_j, cat_f, cat_d]) dX1_type_11 (ac_x ?_)
    cases hF
    exact gx_out X (fun x hx => nomatch hx)
  · refine g_callS X (w_X1_needArgument l hl D dA h0 (F_X1_isBetween (a1.toInt64) (32 : Int64) (126 : Int64)) (.inr u2) h1 e4) q1254 q1255 q92 q1256 okn_X1_needArgument ⟨by rw [hRf]; exact Nat.le_of_ble_eq_true rfl, by rw [hRl]; exact Nat.le_of_ble_eq_true rfl⟩ (As := [.int (F_X1_isBetween (a1.toInt64) (32 : Int64) (126 : Int64))]) (rest := []) rfl (by first | exact Nat.le_of_ble_eq_true rfl | simp [cat_rf, cat_i, cat_j, cat_f, cat_d]) dX1_type_11 (ac_0 ?_)
    refine g_aload_n X dX1_type_14 rfl rfl ?_
    obtain ⟨v5, ev5, hF⟩ := bnd hF
    refine g_get (k := 3) X in_X1 rfl (by decide) q259 (Or.inl rfl) (getR_V ev5) dX1_type_15 ?_
    obtain ⟨ob6, eob6, hF⟩ := bnd hF
    obtain ⟨v7, ev7, hF⟩ := bnd hF
    refine g_callV X eob6 rfl rfl (w_J5_length l hl D dA h1 ob6  v7 ev7) q915 q916 q917 q100 q918 okn_J5_length ⟨by rw [hRf]; exact Nat.le_of_ble_eq_true rfl, by rw [hRl]; exact Nat.le_of_ble_eq_true rfl⟩ (As := []) (rest := []) rfl (by first | exact Nat.le_of_ble_eq_true rfl | simp [cat_rf, cat_i, cat_j, cat_f, cat_d]) dX1_type_18 (ac_v ?_)
    refine g_bipush (v := (60 : Int32)) X dX1_type_21 (by decide) ?_
    suffices K : G p l e R s m args below meth c (RQ D dA h0 (rsI oE, hE) below s) D dA h0 2 h1 31 [some (va_rf (some this)), some (.int a1)] [.int (if (60 : Int32) ≤ v7 then (0 : Int32) else (1 : Int32))] by
      refine g_icmp_ge X 30 dX1_type_23 (by decide) (fun c8 => ?_) (fun c8 => ?_)
      · (try simp only [if_pos c8] at K)
        refine g_iconst (v := (0 : Int32)) X dX1_type_30 (by decide) ?_
        first | exact K | (simp only [if_pos c8]; exact K)
      · (try simp only [if_neg c8] at K)
        refine g_iconst (v := (1 : Int32)) X dX1_type_26 (by decide) ?_
        refine g_goto X 31 dX1_type_27 (by decide) ?_
        first | exact K | (simp only [if_neg c8]; exact K)
    rcases thr_some hF with ⟨q11, h9, e12, hF⟩ | ⟨u10, h9, e12, hF⟩
    · refine g_callS X (w_X1_needState l hl D dA h1 (if (60 : Int32) ≤ v7 then (0 : Int32) else (1 : Int32)) (.inl q11) h9 e12) q1540 q1541 q92 q1542 okn_X1_needState ⟨by rw [hRf]; exact Nat.le_of_ble_eq_true rfl, by rw [hRl]; exact Nat.le_of_ble_eq_true rfl⟩ (As := [.int (if (60 : Int32) ≤ v7 then (0 : Int32) else (1 : Int32))]) (rest := []) rfl (by first | exact Nat.le_of_ble_eq_true rfl | simp [cat_rf, cat_i, cat_j, cat_f, cat_d]) dX1_type_31 (ac_x ?_)
      cases hF
      exact gx_out X (fun x hx => nomatch hx)
    · refine g_callS X (w_X1_needState l hl D dA h1 (if (60 : Int32) ≤ v7 then (0 : Int32) else (1 : Int32)) (.inr u10) h9 e12) q1540 q1541 q92 q1542 okn_X1_needState ⟨by rw [hRf]; exact Nat.le_of_ble_eq_true rfl, by rw [hRl]; exact Nat.le_of_ble_eq_true rfl⟩ (As := [.int (if (60 : Int32) ≤ v7 then (0 : Int32) else (1 : Int32))]) (rest := []) rfl (by first | exact Nat.le_of_ble_eq_true rfl | simp [cat_rf, cat_i, cat_j, cat_f, cat_d]) dX1_type_31 (ac_0 ?_)
      refine g_aload_n X dX1_type_34 rfl rfl ?_
      obtain ⟨v13, ev13, hF⟩ := bnd hF
      refine g_get (k := 3) X in_X1 rfl (by decide) q259 (Or.inl rfl) (getR_V ev13) dX1_type_35 ?_
      refine g_iload_n X dX1_type_38 rfl rfl ?_
      refine g_i2c X dX1_type_39 ?_
      obtain ⟨ob14, eob14, hF⟩ := bnd hF
      obtain ⟨v16, h15, eh15, hF⟩ := b2_some hF
      refine g_callV X eob14 rfl rfl (w_J5_append_3 l hl D dA h9 ob14 ((a1.toUInt32 % 65536).toInt32) v16 h15 eh15) q1574 q1575 q1576 q100 q1577 okn_J5_append_3 ⟨by rw [hRf]; exact Nat.le_of_ble_eq_true rfl, by rw [hRl]; exact Nat.le_of_ble_eq_true rfl⟩ (As := [.int ((a1.toUInt32 % 65536).toInt32)]) (rest := []) rfl (by first | exact Nat.le_of_ble_eq_true rfl | simp [cat_rf, cat_i, cat_j, cat_f, cat_d]) dX1_type_40 (ac_v ?_)
      refine g_pop X dX1_type_43 (cat_rf _) ?_
      refine g_aload_n X dX1_type_44 rfl rfl ?_
      obtain ⟨v17, ev17, hF⟩ := bnd hF
      refine g_get (k := 3) X in_X1 rfl (by decide) q259 (Or.inl rfl) (getR_V ev17) dX1_type_45 ?_
      obtain ⟨ob18, eob18, hF⟩ := bnd hF
      obtain ⟨v19, ev19, hF⟩ := bnd hF
      refine g_callV X eob18 rfl rfl (w_J5_length l hl D dA h15 ob18  v19 ev19) q915 q916 q917 q100 q918 okn_J5_length ⟨by rw [hRf]; exact Nat.le_of_ble_eq_true rfl, by rw [hRl]; exact Nat.le_of_ble_eq_true rfl⟩ (As := []) (rest := []) rfl (by first | exact Nat.le_of_ble_eq_true rfl | simp [cat_rf, cat_i, cat_j, cat_f, cat_d]) dX1_type_48 (ac_v ?_)
      cases hF
      exact g_iret X hr dX1_type_51
def F_X1_faulty (this : Nat) (h0 : HH) : Option (((Nat × String) ⊕ Option Nat) × HH) :=
  Option.bind (newO h0 6 8 [.null, .null, .int 0, .int 0, .int 0, .int 0, .int 0, .null]) fun h1 =>
  Option.bind (nnl (some (hSz h0))) fun ob2 =>
  Option.bind (F_X8_init ob2 (some this) h1) fun h3 =>
  Option.bind (isO h3 6 (some (hSz h0))) fun ob4 =>
  b2 (F_X8_isWell ob4 h3) fun v6 h5 =>
  thr (F_X1_needSuch (if v6 = 0 then (1 : Int32) else (0 : Int32)) h5) (fun q10 h8 =>
    some (.inl q10, h8)
  ) (fun u9 h8 =>
    some (.inr (some (hSz h0)), h8)
  )
set_option maxHeartbeats 4000000 in
theorem w_X1_faulty (l : Launch) (hl : l.stackTraces = false) (D : va_G) (dA : Nat → ClassId) (h0 : HH) (this : Nat) (oE : (Nat × String) ⊕ Option Nat) (hE : HH) (hF : F_X1_faulty this h0 = some (oE, hE)) : MC D dA l yX1_faulty cX1_faulty 2 (Option.some (Jvm.ClassFile.FieldType.object "FerryClocks$Reader")) [] 17 455 [va_rf (some this)] h0 (rsR oE, hE) := by
  refine mc_of hl (plainFor_of_name pn_X1) (by simp [lg_sl, cat_rf, cat_i, cat_j, cat_f, cat_d]) ?_
  intro p e s m args below meth c R hRf hRl X hr hnm
  unfold F_X1_faulty at hF
  rw [show argL [va_rf (some this)] = [some (va_rf (some this))] from by simp [argL, cat_rf, cat_i, cat_j, cat_f, cat_d]]
  refine G.pad 1 (L' := [some (va_rf (some this)), none]) rfl ?_
  obtain ⟨h1, eh1, hF⟩ := bnd hF
  refine g_new X in_X8 tyX8 tyX8_ok rfl q1605 q1606 q124 rfl dv_X8 eh1 dX1_faulty_0 ?_
  refine g_dup X dX1_faulty_3 (cat_rf _) ?_
  refine g_aload_n X dX1_faulty_4 rfl rfl ?_
  obtain ⟨ob2, eob2, hF⟩ := bnd hF
  obtain ⟨h3, eh3, hF⟩ := bnd hF
  refine g_callIN X (nnl_some eob2) (w_X8_init l hl D dA h1 ob2 (some this) h3 eh3) rfl (nw_in q1607 rfl) q1608 q124 q1609 okn_X8_init ⟨by rw [hRf]; exact Nat.le_of_ble_eq_true rfl, by rw [hRl]; exact Nat.le_of_ble_eq_true rfl⟩ (As := [va_rf (some this)]) (rest := [va_rf (some (hSz h0))]) rfl (by first | exact Nat.le_of_ble_eq_true rfl | simp [cat_rf, cat_i, cat_j, cat_f, cat_d]) dX1_faulty_5 (ac_0 ?_)
  refine g_astore_n (L' := [some (va_rf (some this)), some (va_rf (some (hSz h0)))]) X dX1_faulty_8 rfl (Nat.le_of_ble_eq_true rfl) (by first | rfl | simp [stL, rm1, clr2, cat_rf, cat_i, cat_j, cat_f, cat_d]) ?_
  refine g_aload_n X dX1_faulty_9 rfl rfl ?_
  obtain ⟨ob4, eob4, hF⟩ := bnd hF
  obtain ⟨v6, h5, eh5, hF⟩ := b2_some hF
  refine g_callV X eob4 rfl rfl (w_X8_isWell l hl D dA h3 ob4  v6 h5 eh5) q1643 q1644 q1645 q124 q1646 okn_X8_isWell ⟨by rw [hRf]; exact Nat.le_of_ble_eq_true rfl, by rw [hRl]; exact Nat.le_of_ble_eq_true rfl⟩ (As := []) (rest := []) rfl (by first | exact Nat.le_of_ble_eq_true rfl | simp [cat_rf, cat_i, cat_j, cat_f, cat_d]) dX1_faulty_10 (ac_v ?_)
  suffices K : G p l e R s m args below meth c (RQ D dA h0 (rsR oE, hE) below s) D dA h0 2 h5 21 [none, some (va_rf (some (hSz h0)))] [.int (if v6 = 0 then (1 : Int32) else (0 : Int32))] by
    refine g_if_ne X 20 dX1_faulty_13 (by decide) (fun c7 => ?_) (fun c7 => ?_)
    · (try simp only [if_neg c7] at K)
      refine g_iconst (v := (0 : Int32)) X dX1_faulty_20 (by decide) ?_
      refine G.drop [false, true] rfl ?_
      first | exact K | (simp only [if_neg c7]; exact K)
    · (try simp only [if_pos c7] at K)
      refine g_iconst (v := (1 : Int32)) X dX1_faulty_16 (by decide) ?_
      refine g_goto X 21 dX1_faulty_17 (by decide) ?_
      refine G.drop [false, true] rfl ?_
      first | exact K | (simp only [if_pos c7]; exact K)
  rcases thr_some hF with ⟨q10, h8, e11, hF⟩ | ⟨u9, h8, e11, hF⟩
  · refine g_callS X (w_X1_needSuch l hl D dA h5 (if v6 = 0 then (1 : Int32) else (0 : Int32)) (.inl q10) h8 e11) q1261 q1262 q92 q1263 okn_X1_needSuch ⟨by rw [hRf]; exact Nat.le_of_ble_eq_true rfl, by rw [hRl]; exact Nat.le_of_ble_eq_true rfl⟩ (As := [.int (if v6 = 0 then (1 : Int32) else (0 : Int32))]) (rest := []) rfl (by first | exact Nat.le_of_ble_eq_true rfl | simp [cat_rf, cat_i, cat_j, cat_f, cat_d]) dX1_faulty_21 (ac_x ?_)
    cases hF
    exact gx_out X (fun x hx => nomatch hx)
  · refine g_callS X (w_X1_needSuch l hl D dA h5 (if v6 = 0 then (1 : Int32) else (0 : Int32)) (.inr u9) h8 e11) q1261 q1262 q92 q1263 okn_X1_needSuch ⟨by rw [hRf]; exact Nat.le_of_ble_eq_true rfl, by rw [hRl]; exact Nat.le_of_ble_eq_true rfl⟩ (As := [.int (if v6 = 0 then (1 : Int32) else (0 : Int32))]) (rest := []) rfl (by first | exact Nat.le_of_ble_eq_true rfl | simp [cat_rf, cat_i, cat_j, cat_f, cat_d]) dX1_faulty_21 (ac_0 ?_)
    refine g_aload_n X dX1_faulty_24 rfl rfl ?_
    cases hF
    exact g_aret X hr (Or.inl ⟨_, rfl⟩) dX1_faulty_25
def F_X1_faultPosition (this : Nat) (h0 : HH) : Option (((Nat × String) ⊕ Int32) × HH) :=
  Option.bind (isO h0 0 (some this)) fun ob1 =>
  thr (F_X1_faulty ob1 h0) (fun q4 h2 =>
    some (.inl q4, h2)
  ) (fun v3 h2 =>
    Option.bind (getI h2 6 3 v3) fun v6 =>
    some (.inr v6, h2)
  )
set_option maxHeartbeats 4000000 in
theorem w_X1_faultPosition (l : Launch) (hl : l.stackTraces = false) (D : va_G) (dA : Nat → ClassId) (h0 : HH) (this : Nat) (oE : (Nat × String) ⊕ Int32) (hE : HH) (hF : F_X1_faultPosition this h0 = some (oE, hE)) : MC D dA l yX1_faultPosition cX1_faultPosition 1 (Option.some Jvm.ClassFile.FieldType.int) [] 18 476 [va_rf (some this)] h0 (rsI oE, hE) := by
  refine mc_of hl (plainFor_of_name pn_X1) (by simp [lg_sl, cat_rf, cat_i, cat_j, cat_f, cat_d]) ?_
  intro p e s m args below meth c R hRf hRl X hr hnm
  unfold F_X1_faultPosition at hF
  rw [show argL [va_rf (some this)] = [some (va_rf (some this))] from by simp [argL, cat_rf, cat_i, cat_j, cat_f, cat_d]]
  refine g_aload_n X dX1_faultPosition_0 rfl rfl ?_
  obtain ⟨ob1, eob1, hF⟩ := bnd hF
  rcases thr_some hF with ⟨q4, h2, e5, hF⟩ | ⟨v3, h2, e5, hF⟩
  · refine g_callV X eob1 rfl rfl (w_X1_faulty l hl D dA h0 ob1  (.inl q4) h2 e5) q1601 q1603 qs25 q92 q1604 okn_X1_faulty ⟨by rw [hRf]; exact Nat.le_of_ble_eq_true rfl, by rw [hRl]; exact Nat.le_of_ble_eq_true rfl⟩ (As := []) (rest := []) rfl (by first | exact Nat.le_of_ble_eq_true rfl | simp [cat_rf, cat_i, cat_j, cat_f, cat_d]) dX1_faultPosition_1 (ac_x ?_)
    cases hF
    exact gx_out X (fun x hx => nomatch hx)
  · refine g_callV X eob1 rfl rfl (w_X1_faulty l hl D dA h0 ob1  (.inr v3) h2 e5) q1601 q1603 qs25 q92 q1604 okn_X1_faulty ⟨by rw [hRf]; exact Nat.le_of_ble_eq_true rfl, by rw [hRl]; exact Nat.le_of_ble_eq_true rfl⟩ (As := []) (rest := []) rfl (by first | exact Nat.le_of_ble_eq_true rfl | simp [cat_rf, cat_i, cat_j, cat_f, cat_d]) dX1_faultPosition_1 (ac_v ?_)
    obtain ⟨v6, ev6, hF⟩ := bnd hF
    refine g_getN (k := 3) X in_X8 rfl (by decide) (nw_in q1618 rfl) rfl (getI_V ev6) dX1_faultPosition_4 ?_
    cases hF
    exact g_iret X hr dX1_faultPosition_7
def F_X1_faultReason (this : Nat) (h0 : HH) : Option (((Nat × String) ⊕ Int32) × HH) :=
  Option.bind (isO h0 0 (some this)) fun ob1 =>
  thr (F_X1_faulty ob1 h0) (fun q4 h2 =>
    some (.inl q4, h2)
  ) (fun v3 h2 =>
    Option.bind (getI h2 6 4 v3) fun v6 =>
    some (.inr v6, h2)
  )
set_option maxHeartbeats 4000000 in
theorem w_X1_faultReason (l : Launch) (hl : l.stackTraces = false) (D : va_G) (dA : Nat → ClassId) (h0 : HH) (this : Nat) (oE : (Nat × String) ⊕ Int32) (hE : HH) (hF : F_X1_faultReason this h0 = some (oE, hE)) : MC D dA l yX1_faultReason cX1_faultReason 1 (Option.some Jvm.ClassFile.FieldType.int) [] 18 476 [va_rf (some this)] h0 (rsI oE, hE) := by
  refine mc_of hl (plainFor_of_name pn_X1) (by simp [lg_sl, cat_rf, cat_i, cat_j, cat_f, cat_d]) ?_
  intro p e s m args below meth c R hRf hRl X hr hnm
  unfold F_X1_faultReason at hF
  rw [show argL [va_rf (some this)] = [some (va_rf (some this))] from by simp [argL, cat_rf, cat_i, cat_j, cat_f, cat_d]]
  refine g_aload_n X dX1_faultReason_0 rfl rfl ?_
  obtain ⟨ob1, eob1, hF⟩ := bnd hF
  rcases thr_some hF with ⟨q4, h2, e5, hF⟩ | ⟨v3, h2, e5, hF⟩
  · refine g_callV X eob1 rfl rfl (w_X1_faulty l hl D dA h0 ob1  (.inl q4) h2 e5) q1601 q1603 qs25 q92 q1604 okn_X1_faulty ⟨by rw [hRf]; exact Nat.le_of_ble_eq_true rfl, by rw [hRl]; exact Nat.le_of_ble_eq_true rfl⟩ (As := []) (rest := []) rfl (by first | exact Nat.le_of_ble_eq_true rfl | simp [cat_rf, cat_i, cat_j, cat_f, cat_d]) dX1_faultReason_1 (ac_x ?_)
    cases hF
    exact gx_out X (fun x hx => nomatch hx)
  · refine g_callV X eob1 rfl rfl (w_X1_faulty l hl D dA h0 ob1  (.inr v3) h2 e5) q1601 q1603 qs25 q92 q1604 okn_X1_faulty ⟨by rw [hRf]; exact Nat.le_of_ble_eq_true rfl, by rw [hRl]; exact Nat.le_of_ble_eq_true rfl⟩ (As := []) (rest := []) rfl (by first | exact Nat.le_of_ble_eq_true rfl | simp [cat_rf, cat_i, cat_j, cat_f, cat_d]) dX1_faultReason_1 (ac_v ?_)
    obtain ⟨v6, ev6, hF⟩ := bnd hF
    refine g_getN (k := 4) X in_X8 rfl (by decide) (nw_in q1620 rfl) rfl (getI_V ev6) dX1_faultReason_4 ?_
    cases hF
    exact g_iret X hr dX1_faultReason_7
def F_X1_faultCause (this : Nat) (h0 : HH) : Option (((Nat × String) ⊕ Int32) × HH) :=
  Option.bind (isO h0 0 (some this)) fun ob1 =>
  thr (F_X1_faulty ob1 h0) (fun q4 h2 =>
    some (.inl q4, h2)
  ) (fun v3 h2 =>
    Option.bind (getI h2 6 5 v3) fun v6 =>
    some (.inr v6, h2)
  )
set_option maxHeartbeats 4000000 in
theorem w_X1_faultCause (l : Launch) (hl : l.stackTraces = false) (D : va_G) (dA : Nat → ClassId) (h0 : HH) (this : Nat) (oE : (Nat × String) ⊕ Int32) (hE : HH) (hF : F_X1_faultCause this h0 = some (oE, hE)) : MC D dA l yX1_faultCause cX1_faultCause 1 (Option.some Jvm.ClassFile.FieldType.int) [] 18 476 [va_rf (some this)] h0 (rsI oE, hE) := by
  refine mc_of hl (plainFor_of_name pn_X1) (by simp [lg_sl, cat_rf, cat_i, cat_j, cat_f, cat_d]) ?_
  intro p e s m args below meth c R hRf hRl X hr hnm
  unfold F_X1_faultCause at hF
  rw [show argL [va_rf (some this)] = [some (va_rf (some this))] from by simp [argL, cat_rf, cat_i, cat_j, cat_f, cat_d]]
  refine g_aload_n X dX1_faultCause_0 rfl rfl ?_
  obtain ⟨ob1, eob1, hF⟩ := bnd hF
  rcases thr_some hF with ⟨q4, h2, e5, hF⟩ | ⟨v3, h2, e5, hF⟩
  · refine g_callV X eob1 rfl rfl (w_X1_faulty l hl D dA h0 ob1  (.inl q4) h2 e5) q1601 q1603 qs25 q92 q1604 okn_X1_faulty ⟨by rw [hRf]; exact Nat.le_of_ble_eq_true rfl, by rw [hRl]; exact Nat.le_of_ble_eq_true rfl⟩ (As := []) (rest := []) rfl (by first | exact Nat.le_of_ble_eq_true rfl | simp [cat_rf, cat_i, cat_j, cat_f, cat_d]) dX1_faultCause_1 (ac_x ?_)
    cases hF
    exact gx_out X (fun x hx => nomatch hx)
  · refine g_callV X eob1 rfl rfl (w_X1_faulty l hl D dA h0 ob1  (.inr v3) h2 e5) q1601 q1603 qs25 q92 q1604 okn_X1_faulty ⟨by rw [hRf]; exact Nat.le_of_ble_eq_true rfl, by rw [hRl]; exact Nat.le_of_ble_eq_true rfl⟩ (As := []) (rest := []) rfl (by first | exact Nat.le_of_ble_eq_true rfl | simp [cat_rf, cat_i, cat_j, cat_f, cat_d]) dX1_faultCause_1 (ac_v ?_)
    obtain ⟨v6, ev6, hF⟩ := bnd hF
    refine g_getN (k := 5) X in_X8 rfl (by decide) (nw_in q1622 rfl) rfl (getI_V ev6) dX1_faultCause_4 ?_
    cases hF
    exact g_iret X hr dX1_faultCause_7
def F_X1_play (this : Nat) (h0 : HH) : Option (((Nat × String) ⊕ Int32) × HH) :=
  Option.bind (newO h0 6 8 [.null, .null, .int 0, .int 0, .int 0, .int 0, .int 0, .null]) fun h1 =>
  Option.bind (nnl (some (hSz h0))) fun ob2 =>
  Option.bind (F_X8_init ob2 (some this) h1) fun h3 =>
  Option.bind (isO h3 6 (some (hSz h0))) fun ob4 =>
  b2 (F_X8_isWell ob4 h3) fun v6 h5 =>
  thr (F_X1_needState v6 h5) (fun q9 h7 =>
    some (.inl q9, h7)
  ) (fun u8 h7 =>
    Option.bind (getR h7 6 0 (some (hSz h0))) fun v11 =>
    Option.bind (getI h7 6 6 (some (hSz h0))) fun v12 =>
    Option.bind (isO h7 0 (some this)) fun ob13 =>
    b2 (F_X1_changed ob13 v11 v12 h7) fun v15 h14 =>
    some (.inr v15, h14)
  )
set_option maxHeartbeats 4000000 in
theorem w_X1_play (l : Launch) (hl : l.stackTraces = false) (D : va_G) (dA : Nat → ClassId) (h0 : HH) (this : Nat) (oE : (Nat × String) ⊕ Int32) (hE : HH) (hF : F_X1_play this h0 = some (oE, hE)) : MC D dA l yX1_play cX1_play 2 (Option.some Jvm.ClassFile.FieldType.int) [] 17 455 [va_rf (some this)] h0 (rsI oE, hE) := by
  refine mc_of hl (plainFor_of_name pn_X1) (by simp [lg_sl, cat_rf, cat_i, cat_j, cat_f, cat_d]) ?_
  intro p e s m args below meth c R hRf hRl X hr hnm
  unfold F_X1_play at hF
  rw [show argL [va_rf (some this)] = [some (va_rf (some this))] from by simp [argL, cat_rf, cat_i, cat_j, cat_f, cat_d]]
  refine G.pad 1 (L' := [some (va_rf (some this)), none]) rfl ?_
  obtain ⟨h1, eh1, hF⟩ := bnd hF
  refine g_new X in_X8 tyX8 tyX8_ok rfl q1605 q1606 q124 rfl dv_X8 eh1 dX1_play_0 ?_
  refine g_dup X dX1_play_3 (cat_rf _) ?_
  refine g_aload_n X dX1_play_4 rfl rfl ?_
  obtain ⟨ob2, eob2, hF⟩ := bnd hF
  obtain ⟨h3, eh3, hF⟩ := bnd hF
  refine g_callIN X (nnl_some eob2) (w_X8_init l hl D dA h1 ob2 (some this) h3 eh3) rfl (nw_in q1607 rfl) q1608 q124 q1609 okn_X8_init ⟨by rw [hRf]; exact Nat.le_of_ble_eq_true rfl, by rw [hRl]; exact Nat.le_of_ble_eq_true rfl⟩ (As := [va_rf (some this)]) (rest := [va_rf (some (hSz h0))]) rfl (by first | exact Nat.le_of_ble_eq_true rfl | simp [cat_rf, cat_i, cat_j, cat_f, cat_d]) dX1_play_5 (ac_0 ?_)
  refine g_astore_n (L' := [some (va_rf (some this)), some (va_rf (some (hSz h0)))]) X dX1_play_8 rfl (Nat.le_of_ble_eq_true rfl) (by first | rfl | simp [stL, rm1, clr2, cat_rf, cat_i, cat_j, cat_f, cat_d]) ?_
  refine g_aload_n X dX1_play_9 rfl rfl ?_
  obtain ⟨ob4, eob4, hF⟩ := bnd hF
  obtain ⟨v6, h5, eh5, hF⟩ := b2_some hF
  refine g_callV X eob4 rfl rfl (w_X8_isWell l hl D dA h3 ob4  v6 h5 eh5) q1643 q1644 q1645 q124 q1646 okn_X8_isWell ⟨by rw [hRf]; exact Nat.le_of_ble_eq_true rfl, by rw [hRl]; exact Nat.le_of_ble_eq_true rfl⟩ (As := []) (rest := []) rfl (by first | exact Nat.le_of_ble_eq_true rfl | simp [cat_rf, cat_i, cat_j, cat_f, cat_d]) dX1_play_10 (ac_v ?_)
  rcases thr_some hF with ⟨q9, h7, e10, hF⟩ | ⟨u8, h7, e10, hF⟩
  · refine g_callS X (w_X1_needState l hl D dA h5 v6 (.inl q9) h7 e10) q1540 q1541 q92 q1542 okn_X1_needState ⟨by rw [hRf]; exact Nat.le_of_ble_eq_true rfl, by rw [hRl]; exact Nat.le_of_ble_eq_true rfl⟩ (As := [.int v6]) (rest := []) rfl (by first | exact Nat.le_of_ble_eq_true rfl | simp [cat_rf, cat_i, cat_j, cat_f, cat_d]) dX1_play_13 (ac_x ?_)
    cases hF
    exact gx_out X (fun x hx => nomatch hx)
  · refine g_callS X (w_X1_needState l hl D dA h5 v6 (.inr u8) h7 e10) q1540 q1541 q92 q1542 okn_X1_needState ⟨by rw [hRf]; exact Nat.le_of_ble_eq_true rfl, by rw [hRl]; exact Nat.le_of_ble_eq_true rfl⟩ (As := [.int v6]) (rest := []) rfl (by first | exact Nat.le_of_ble_eq_true rfl | simp [cat_rf, cat_i, cat_j, cat_f, cat_d]) dX1_play_13 (ac_0 ?_)
    refine g_aload_n X dX1_play_16 rfl rfl ?_
    refine g_aload_n X dX1_play_17 rfl rfl ?_
    obtain ⟨v11, ev11, hF⟩ := bnd hF
    refine g_getN (k := 0) X in_X8 rfl (by decide) (nw_in q1614 rfl) rfl (getR_V ev11) dX1_play_18 ?_
    refine g_aload_n X dX1_play_21 rfl rfl ?_
    obtain ⟨v12, ev12, hF⟩ := bnd hF
    refine g_getN (k := 6) X in_X8 rfl (by decide) (nw_in q1624 rfl) rfl (getI_V ev12) dX1_play_22 ?_
    obtain ⟨ob13, eob13, hF⟩ := bnd hF
    obtain ⟨v15, h14, eh14, hF⟩ := b2_some hF
    refine g_callV X eob13 rfl rfl (w_X1_changed l hl D dA h7 ob13 v11 v12 v15 h14 eh14) q672 q674 qs9 q92 q675 okn_X1_changed ⟨by rw [hRf]; exact Nat.le_of_ble_eq_true rfl, by rw [hRl]; exact Nat.le_of_ble_eq_true rfl⟩ (As := [va_rf v11, .int v12]) (rest := []) rfl (by first | exact Nat.le_of_ble_eq_true rfl | simp [cat_rf, cat_i, cat_j, cat_f, cat_d]) dX1_play_25 (ac_v ?_)
    cases hF
    exact g_iret X hr dX1_play_28
