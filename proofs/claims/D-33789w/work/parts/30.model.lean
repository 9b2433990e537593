def F_X4_frees_B2 (this : Nat) (x1_1 : Int32) (h_1 : HH) : Option ((Int32 × HH) ⊕ HH) :=
  if (16 : Int32) ≤ x1_1 then (
    some (.inr h_1)
  ) else (
    Option.bind (getR h_1 1 0 (some this)) fun v3 =>
    Option.bind (astI h_1 v3 ((0 : Int32) + x1_1) (if (x1_1 / (4 : Int32)) = (x1_1 - x1_1 / (4 : Int32) * (4 : Int32)) then (0 : Int32) else (if (x1_1 / (4 : Int32)) = (3 : Int32) then (0 : Int32) else (100000 : Int32)))) fun h6 =>
    some (.inl ((x1_1 + (1 : Int32)), h6))
  )
def F_X4_frees (this : Nat) (h0 : HH) : Option HH :=
  Option.bind (lp (fun z => F_X4_frees_B2 this z.1 z.2) 100000 ((0 : Int32), h0)) fun h7 =>
  some h7
set_option maxHeartbeats 4000000 in
theorem w_X4_frees (l : Launch) (hl : l.stackTraces = false) (D : va_G) (dA : Nat → ClassId) (h0 : HH) (this : Nat) (hE : HH) (hF : F_X4_frees this h0 = some hE) : MC D dA l yX4_frees cX4_frees 2 (Option.none : Option Jvm.ClassFile.FieldType) [] 0 0 [va_rf (some this)] h0 (.inr none, hE) := by
  refine mc_of hl (plainFor_of_name pn_X4) (by simp [lg_sl, cat_rf, cat_i, cat_j, cat_f, cat_d]) ?_
  intro p e s m args below meth c R hRf hRl X hr hnm
  unfold F_X4_frees at hF
  rw [show argL [va_rf (some this)] = [some (va_rf (some this))] from by simp [argL, cat_rf, cat_i, cat_j, cat_f, cat_d]]
  refine G.pad 1 (L' := [some (va_rf (some this)), none]) rfl ?_
  refine g_iconst (v := (0 : Int32)) X dX4_frees_0 (by decide) ?_
  refine g_istore_n (L' := [some (va_rf (some this)), some (.int (0 : Int32))]) X dX4_frees_1 rfl (Nat.le_of_ble_eq_true rfl) (by first | rfl | simp [stL, rm1, clr2, cat_rf, cat_i, cat_j, cat_f, cat_d]) ?_
  obtain ⟨h7, e8, hF⟩ := bnd hF
  refine lp_ind (Gs := (fun z => G p l e R s m args below meth c (RQ D dA h0 (.inr none, hE) below s) D dA h0 2 z.2 2 [some (va_rf (some this)), some (.int z.1)] [])) (Ge := (fun z => G p l e R s m args below meth c (RQ D dA h0 (.inr none, hE) below s) D dA h0 2 z 44 [none, none] [])) ?_ _ _ _ e8 ?_
  · rintro ⟨x1_1, h_1⟩ o hF hgo hr
    change F_X4_frees_B2 this x1_1 h_1 = some o at hF
    unfold F_X4_frees_B2 at hF
    show G p l e R s m args below meth c (RQ D dA h0 (.inr none, hE) below s) D dA h0 2 h_1 2 [some (va_rf (some this)), some (.int x1_1)] []
    refine g_iload_n X dX4_frees_2 rfl rfl ?_
    refine g_bipush (v := (16 : Int32)) X dX4_frees_3 (by decide) ?_
    refine g_icmp_ge X 44 dX4_frees_5 (by decide) (fun c2 => ?_) (fun c2 => ?_)
    · have hF := (if_pos c2).symm.trans hF
      refine G.drop [false, false] rfl ?_
      cases hF
      exact hr _ rfl
    · have hF := (if_neg c2).symm.trans hF
      refine g_aload_n X dX4_frees_8 rfl rfl ?_
      obtain ⟨v3, ev3, hF⟩ := bnd hF
      refine g_get (k := 0) X in_X4 rfl (by decide) q1763 (Or.inl rfl) (getR_V ev3) dX4_frees_9 ?_
      refine g_iconst (v := (0 : Int32)) X dX4_frees_12 (by decide) ?_
      refine g_iload_n X dX4_frees_13 rfl rfl ?_
      refine g_iadd X dX4_frees_14 ?_
      refine g_iload_n X dX4_frees_15 rfl rfl ?_
      refine g_iconst (v := (4 : Int32)) X dX4_frees_16 (by decide) ?_
      refine g_idiv X dX4_frees_17 (by decide) ?_
      refine g_iload_n X dX4_frees_18 rfl rfl ?_
      refine g_iconst (v := (4 : Int32)) X dX4_frees_19 (by decide) ?_
      refine g_irem X dX4_frees_20 (by decide) ?_
      suffices K : G p l e R s m args below meth c (RQ D dA h0 (.inr none, hE) below s) D dA h0 2 h_1 37 [some (va_rf (some this)), some (.int x1_1)] [.int (if (x1_1 / (4 : Int32)) = (x1_1 - x1_1 / (4 : Int32) * (4 : Int32)) then (0 : Int32) else (if (x1_1 / (4 : Int32)) = (3 : Int32) then (0 : Int32) else (100000 : Int32))), .int ((0 : Int32) + x1_1), va_rf v3] by
        refine g_icmp_eq X 31 dX4_frees_21 (by decide) (fun c4 => ?_) (fun c4 => ?_)
        · (try simp only [if_pos c4] at K)
          refine g_iconst (v := (0 : Int32)) X dX4_frees_31 (by decide) ?_
          refine g_goto X 37 dX4_frees_32 (by decide) ?_
          first | exact K | (simp only [if_pos c4]; exact K)
        · (try simp only [if_neg c4] at K)
          refine g_iload_n X dX4_frees_24 rfl rfl ?_
          refine g_iconst (v := (4 : Int32)) X dX4_frees_25 (by decide) ?_
          refine g_idiv X dX4_frees_26 (by decide) ?_
          refine g_iconst (v := (3 : Int32)) X dX4_frees_27 (by decide) ?_
          refine g_icmp_ne X 35 dX4_frees_28 (by decide) (fun c5 => ?_) (fun c5 => ?_)
          · (try simp only [if_neg c5] at K)
            refine g_ldc (v := (100000 : Int32)) X q1762 dX4_frees_35 ?_
            first | exact K | (simp only [if_neg c4, if_neg c5]; exact K)
          · (try simp only [if_pos c5] at K)
            refine g_iconst (v := (0 : Int32)) X dX4_frees_31 (by decide) ?_
            refine g_goto X 37 dX4_frees_32 (by decide) ?_
            first | exact K | (simp only [if_neg c4, if_pos c5]; exact K)
      obtain ⟨h6, eh6, hF⟩ := bnd hF
      refine g_iast X eh6 dX4_frees_37 ?_
      refine g_iinc (v := (x1_1 + (1 : Int32))) (L' := [some (va_rf (some this)), some (.int (x1_1 + (1 : Int32)))]) X dX4_frees_38 (Nat.le_of_ble_eq_true rfl) rfl rfl (by first | rfl | simp [stL, rm1, clr2, cat_rf, cat_i, cat_j, cat_f, cat_d]) ?_
      refine g_goto X 2 dX4_frees_41 (by decide) ?_
      cases hF
      exact hgo _ rfl
  show G p l e R s m args below meth c (RQ D dA h0 (.inr none, hE) below s) D dA h0 2 h7 44 [none, none] []
  cases hF
  exact g_vret X hr dX4_frees_44
def F_X4_init_B113 (this : Nat) (x1_28 : Int32) (h_28 : HH) : Option ((Int32 × HH) ⊕ HH) :=
  if (18 : Int32) ≤ x1_28 then (
    some (.inr h_28)
  ) else (
    Option.bind (getR h_28 1 0 (some this)) fun v30 =>
    Option.bind (astI h_28 v30 ((84 : Int32) + x1_28) (10 : Int32)) fun h31 =>
    some (.inl ((x1_28 + (1 : Int32)), h31))
  )
def F_X4_init (this : Nat) (h0 : HH) : Option HH :=
  Option.bind (nnl (some this)) fun ob1 =>
  Option.bind (newA h0 0 (194 : Int32)) fun h2 =>
  Option.bind (putV h2 1 0 (some this) (va_rf (some (hSz h0)))) fun h3 =>
  Option.bind (newA h3 0 (194 : Int32)) fun h4 =>
  Option.bind (putV h4 1 1 (some this) (va_rf (some (hSz h3)))) fun h5 =>
  Option.bind (newA h5 0 (194 : Int32)) fun h6 =>
  Option.bind (putV h6 1 2 (some this) (va_rf (some (hSz h5)))) fun h7 =>
  Option.bind (newA h7 0 (776 : Int32)) fun h8 =>
  Option.bind (putV h8 1 4 (some this) (va_rf (some (hSz h7)))) fun h9 =>
  Option.bind (newA h9 0 (60 : Int32)) fun h10 =>
  Option.bind (putV h10 1 6 (some this) (va_rf (some (hSz h9)))) fun h11 =>
  Option.bind (newA h11 0 (16 : Int32)) fun h12 =>
  Option.bind (putV h12 1 9 (some this) (va_rf (some (hSz h11)))) fun h13 =>
  Option.bind (newA h13 0 (16 : Int32)) fun h14 =>
  Option.bind (putV h14 1 10 (some this) (va_rf (some (hSz h13)))) fun h15 =>
  Option.bind (newA h15 0 (1936 : Int32)) fun h16 =>
  Option.bind (putV h16 1 13 (some this) (va_rf (some (hSz h15)))) fun h17 =>
  Option.bind (newA h17 0 (121 : Int32)) fun h18 =>
  Option.bind (putV h18 1 14 (some this) (va_rf (some (hSz h17)))) fun h19 =>
  Option.bind (newA h19 0 (121 : Int32)) fun h20 =>
  Option.bind (putV h20 1 15 (some this) (va_rf (some (hSz h19)))) fun h21 =>
  Option.bind (newA h21 0 (7986 : Int32)) fun h22 =>
  Option.bind (putV h22 1 17 (some this) (va_rf (some (hSz h21)))) fun h23 =>
  Option.bind (newA h23 0 (7986 : Int32)) fun h24 =>
  Option.bind (putV h24 1 18 (some this) (va_rf (some (hSz h23)))) fun h25 =>
  Option.bind (isO h25 1 (some this)) fun ob26 =>
  Option.bind (F_X4_frees ob26 h25) fun h27 =>
  Option.bind (lp (fun z => F_X4_init_B113 this z.1 z.2) 100000 ((0 : Int32), h27)) fun h32 =>
  some h32
set_option maxHeartbeats 4000000 in
theorem w_X4_init (l : Launch) (hl : l.stackTraces = false) (D : va_G) (dA : Nat → ClassId) (h0 : HH) (this : Nat) (hE : HH) (hF : F_X4_init this h0 = some hE) : MC D dA l yX4_init cX4_init 2 (Option.none : Option Jvm.ClassFile.FieldType) [] 1 21 [va_rf (some this)] h0 (.inr none, hE) := by
  refine mc_of hl (plainFor_of_name pn_X4) (by simp [lg_sl, cat_rf, cat_i, cat_j, cat_f, cat_d]) ?_
  intro p e s m args below meth c R hRf hRl X hr hnm
  unfold F_X4_init at hF
  rw [show argL [va_rf (some this)] = [some (va_rf (some this))] from by simp [argL, cat_rf, cat_i, cat_j, cat_f, cat_d]]
  refine G.pad 1 (L' := [some (va_rf (some this)), none]) rfl ?_
  refine g_aload_n X dX4_init_0 rfl rfl ?_
  obtain ⟨ob1, eob1, hF⟩ := bnd hF
  refine g_objInit X ob1 eob1 q1757 q132 q133 ⟨by rw [hRf]; exact Nat.le_of_ble_eq_true rfl, by rw [hRl]; exact Nat.le_of_ble_eq_true rfl⟩ (by first | exact Nat.le_of_ble_eq_true rfl | simp [cat_rf, cat_i, cat_j, cat_f, cat_d]) dX4_init_1 ?_
  refine g_aload_n X dX4_init_4 rfl rfl ?_
  refine g_sipush (v := (194 : Int32)) X dX4_init_5 (by decide) ?_
  obtain ⟨h2, eh2, hF⟩ := bnd hF
  refine g_newa (atype := .int) (t := 0) X q182 rfl (funext fun _ => rfl) (by decide) eh2 dX4_init_8 ?_
  obtain ⟨h3, eh3, hF⟩ := bnd hF
  refine g_putF (k := 0) X in_X4 tyX4 tyX4_ok nmX4 rfl (by decide) q1763 rfl rfl hnm rfl (tyX4_ok 0 (by decide)) (narrow_rfA _ _) (fits_rfA _ _) eh3 dX4_init_10 ?_
  refine g_aload_n X dX4_init_13 rfl rfl ?_
  refine g_sipush (v := (194 : Int32)) X dX4_init_14 (by decide) ?_
  obtain ⟨h4, eh4, hF⟩ := bnd hF
  refine g_newa (atype := .int) (t := 0) X q182 rfl (funext fun _ => rfl) (by decide) eh4 dX4_init_17 ?_
  obtain ⟨h5, eh5, hF⟩ := bnd hF
  refine g_putF (k := 1) X in_X4 tyX4 tyX4_ok nmX4 rfl (by decide) q1764 rfl rfl hnm rfl (tyX4_ok 1 (by decide)) (narrow_rfA _ _) (fits_rfA _ _) eh5 dX4_init_19 ?_
  refine g_aload_n X dX4_init_22 rfl rfl ?_
  refine g_sipush (v := (194 : Int32)) X dX4_init_23 (by decide) ?_
  obtain ⟨h6, eh6, hF⟩ := bnd hF
  refine g_newa (atype := .int) (t := 0) X q182 rfl (funext fun _ => rfl) (by decide) eh6 dX4_init_26 ?_
  obtain ⟨h7, eh7, hF⟩ := bnd hF
  refine g_putF (k := 2) X in_X4 tyX4 tyX4_ok nmX4 rfl (by decide) q1765 rfl rfl hnm rfl (tyX4_ok 2 (by decide)) (narrow_rfA _ _) (fits_rfA _ _) eh7 dX4_init_28 ?_
  refine g_aload_n X dX4_init_31 rfl rfl ?_
  refine g_sipush (v := (776 : Int32)) X dX4_init_32 (by decide) ?_
  obtain ⟨h8, eh8, hF⟩ := bnd hF
  refine g_newa (atype := .int) (t := 0) X q182 rfl (funext fun _ => rfl) (by decide) eh8 dX4_init_35 ?_
  obtain ⟨h9, eh9, hF⟩ := bnd hF
  refine g_putF (k := 4) X in_X4 tyX4 tyX4_ok nmX4 rfl (by decide) q1767 rfl rfl hnm rfl (tyX4_ok 4 (by decide)) (narrow_rfA _ _) (fits_rfA _ _) eh9 dX4_init_37 ?_
  refine g_aload_n X dX4_init_40 rfl rfl ?_
  refine g_bipush (v := (60 : Int32)) X dX4_init_41 (by decide) ?_
  obtain ⟨h10, eh10, hF⟩ := bnd hF
  refine g_newa (atype := .int) (t := 0) X q182 rfl (funext fun _ => rfl) (by decide) eh10 dX4_init_43 ?_
  obtain ⟨h11, eh11, hF⟩ := bnd hF
  refine g_putF (k := 6) X in_X4 tyX4 tyX4_ok nmX4 rfl (by decide) q1769 rfl rfl hnm rfl (tyX4_ok 6 (by decide)) (narrow_rfA _ _) (fits_rfA _ _) eh11 dX4_init_45 ?_
  refine g_aload_n X dX4_init_48 rfl rfl ?_
  refine g_bipush (v := (16 : Int32)) X dX4_init_49 (by decide) ?_
  obtain ⟨h12, eh12, hF⟩ := bnd hF
  refine g_newa (atype := .int) (t := 0) X q182 rfl (funext fun _ => rfl) (by decide) eh12 dX4_init_51 ?_
  obtain ⟨h13, eh13, hF⟩ := bnd hF
  refine g_putF (k := 9) X in_X4 tyX4 tyX4_ok nmX4 rfl (by decide) q1772 rfl rfl hnm rfl (tyX4_ok 9 (by decide)) (narrow_rfA _ _) (fits_rfA _ _) eh13 dX4_init_53 ?_
  refine g_aload_n X dX4_init_56 rfl rfl ?_
  refine g_bipush (v := (16 : Int32)) X dX4_init_57 (by decide) ?_
  obtain ⟨h14, eh14, hF⟩ := bnd hF
  refine g_newa (atype := .int) (t := 0) X q182 rfl (funext fun _ => rfl) (by decide) eh14 dX4_init_59 ?_
  obtain ⟨h15, eh15, hF⟩ := bnd hF
  refine g_putF (k := 10) X in_X4 tyX4 tyX4_ok nmX4 rfl (by decide) q1773 rfl rfl hnm rfl (tyX4_ok 10 (by decide)) (narrow_rfA _ _) (fits_rfA _ _) eh15 dX4_init_61 ?_
  refine g_aload_n X dX4_init_64 rfl rfl ?_
  refine g_sipush (v := (1936 : Int32)) X dX4_init_65 (by decide) ?_
  obtain ⟨h16, eh16, hF⟩ := bnd hF
  refine g_newa (atype := .int) (t := 0) X q182 rfl (funext fun _ => rfl) (by decide) eh16 dX4_init_68 ?_
  obtain ⟨h17, eh17, hF⟩ := bnd hF
  refine g_putF (k := 13) X in_X4 tyX4 tyX4_ok nmX4 rfl (by decide) q1776 rfl rfl hnm rfl (tyX4_ok 13 (by decide)) (narrow_rfA _ _) (fits_rfA _ _) eh17 dX4_init_70 ?_
  refine g_aload_n X dX4_init_73 rfl rfl ?_
  refine g_bipush (v := (121 : Int32)) X dX4_init_74 (by decide) ?_
  obtain ⟨h18, eh18, hF⟩ := bnd hF
  refine g_newa (atype := .int) (t := 0) X q182 rfl (funext fun _ => rfl) (by decide) eh18 dX4_init_76 ?_
  obtain ⟨h19, eh19, hF⟩ := bnd hF
  refine g_putF (k := 14) X in_X4 tyX4 tyX4_ok nmX4 rfl (by decide) q1777 rfl rfl hnm rfl (tyX4_ok 14 (by decide)) (narrow_rfA _ _) (fits_rfA _ _) eh19 dX4_init_78 ?_
  refine g_aload_n X dX4_init_81 rfl rfl ?_
  refine g_bipush (v := (121 : Int32)) X dX4_init_82 (by decide) ?_
  obtain ⟨h20, eh20, hF⟩ := bnd hF
  refine g_newa (atype := .int) (t := 0) X q182 rfl (funext fun _ => rfl) (by decide) eh20 dX4_init_84 ?_
  obtain ⟨h21, eh21, hF⟩ := bnd hF
  refine g_putF (k := 15) X in_X4 tyX4 tyX4_ok nmX4 rfl (by decide) q1778 rfl rfl hnm rfl (tyX4_ok 15 (by decide)) (narrow_rfA _ _) (fits_rfA _ _) eh21 dX4_init_86 ?_
  refine g_aload_n X dX4_init_89 rfl rfl ?_
  refine g_sipush (v := (7986 : Int32)) X dX4_init_90 (by decide) ?_
  obtain ⟨h22, eh22, hF⟩ := bnd hF
  refine g_newa (atype := .int) (t := 0) X q182 rfl (funext fun _ => rfl) (by decide) eh22 dX4_init_93 ?_
  obtain ⟨h23, eh23, hF⟩ := bnd hF
  refine g_putF (k := 17) X in_X4 tyX4 tyX4_ok nmX4 rfl (by decide) q1780 rfl rfl hnm rfl (tyX4_ok 17 (by decide)) (narrow_rfA _ _) (fits_rfA _ _) eh23 dX4_init_95 ?_
  refine g_aload_n X dX4_init_98 rfl rfl ?_
  refine g_sipush (v := (7986 : Int32)) X dX4_init_99 (by decide) ?_
  obtain ⟨h24, eh24, hF⟩ := bnd hF
  refine g_newa (atype := .int) (t := 0) X q182 rfl (funext fun _ => rfl) (by decide) eh24 dX4_init_102 ?_
  obtain ⟨h25, eh25, hF⟩ := bnd hF
  refine g_putF (k := 18) X in_X4 tyX4 tyX4_ok nmX4 rfl (by decide) q1781 rfl rfl hnm rfl (tyX4_ok 18 (by decide)) (narrow_rfA _ _) (fits_rfA _ _) eh25 dX4_init_104 ?_
  refine g_aload_n X dX4_init_107 rfl rfl ?_
  obtain ⟨ob26, eob26, hF⟩ := bnd hF
  obtain ⟨h27, eh27, hF⟩ := bnd hF
  refine g_callV X eob26 rfl rfl (w_X4_frees l hl D dA h25 ob26  h27 eh27) q1758 q1760 qs30 q103 q1761 okn_X4_frees ⟨by rw [hRf]; exact Nat.le_of_ble_eq_true rfl, by rw [hRl]; exact Nat.le_of_ble_eq_true rfl⟩ (As := []) (rest := []) rfl (by first | exact Nat.le_of_ble_eq_true rfl | simp [cat_rf, cat_i, cat_j, cat_f, cat_d]) dX4_init_108 (ac_0 ?_)
  refine g_iconst (v := (0 : Int32)) X dX4_init_111 (by decide) ?_
  refine g_istore_n (L' := [some (va_rf (some this)), some (.int (0 : Int32))]) X dX4_init_112 rfl (Nat.le_of_ble_eq_true rfl) (by first | rfl | simp [stL, rm1, clr2, cat_rf, cat_i, cat_j, cat_f, cat_d]) ?_
  obtain ⟨h32, e33, hF⟩ := bnd hF
  refine lp_ind (Gs := (fun z => G p l e R s m args below meth c (RQ D dA h0 (.inr none, hE) below s) D dA h0 2 z.2 113 [some (va_rf (some this)), some (.int z.1)] [])) (Ge := (fun z => G p l e R s m args below meth c (RQ D dA h0 (.inr none, hE) below s) D dA h0 2 z 136 [none, none] [])) ?_ _ _ _ e33 ?_
  · rintro ⟨x1_28, h_28⟩ o hF hgo hr
    change F_X4_init_B113 this x1_28 h_28 = some o at hF
    unfold F_X4_init_B113 at hF
    show G p l e R s m args below meth c (RQ D dA h0 (.inr none, hE) below s) D dA h0 2 h_28 113 [some (va_rf (some this)), some (.int x1_28)] []
    refine g_iload_n X dX4_init_113 rfl rfl ?_
    refine g_bipush (v := (18 : Int32)) X dX4_init_114 (by decide) ?_
    refine g_icmp_ge X 136 dX4_init_116 (by decide) (fun c29 => ?_) (fun c29 => ?_)
    · have hF := (if_pos c29).symm.trans hF
      refine G.drop [false, false] rfl ?_
      cases hF
      exact hr _ rfl
    · have hF := (if_neg c29).symm.trans hF
      refine g_aload_n X dX4_init_119 rfl rfl ?_
      obtain ⟨v30, ev30, hF⟩ := bnd hF
      refine g_get (k := 0) X in_X4 rfl (by decide) q1763 (Or.inl rfl) (getR_V ev30) dX4_init_120 ?_
      refine g_bipush (v := (84 : Int32)) X dX4_init_123 (by decide) ?_
      refine g_iload_n X dX4_init_125 rfl rfl ?_
      refine g_iadd X dX4_init_126 ?_
      refine g_bipush (v := (10 : Int32)) X dX4_init_127 (by decide) ?_
      obtain ⟨h31, eh31, hF⟩ := bnd hF
      refine g_iast X eh31 dX4_init_129 ?_
      refine g_iinc (v := (x1_28 + (1 : Int32))) (L' := [some (va_rf (some this)), some (.int (x1_28 + (1 : Int32)))]) X dX4_init_130 (Nat.le_of_ble_eq_true rfl) rfl rfl (by first | rfl | simp [stL, rm1, clr2, cat_rf, cat_i, cat_j, cat_f, cat_d]) ?_
      refine g_goto X 113 dX4_init_133 (by decide) ?_
      cases hF
      exact hgo _ rfl
  show G p l e R s m args below meth c (RQ D dA h0 (.inr none, hE) below s) D dA h0 2 h32 136 [none, none] []
  cases hF
  exact g_vret X hr dX4_init_136
def F_X4_thrown (this : Nat) (h0 : HH) : Option Int32 :=
  Option.bind (getI h0 1 8 (some this)) fun v1 =>
  some v1
set_option maxHeartbeats 4000000 in
theorem w_X4_thrown (l : Launch) (hl : l.stackTraces = false) (D : va_G) (dA : Nat → ClassId) (h0 : HH) (this : Nat) (rE : Int32) (hF : F_X4_thrown this h0 = some rE) : MC D dA l yX4_thrown cX4_thrown 1 (Option.some Jvm.ClassFile.FieldType.int) [] 0 0 [va_rf (some this)] h0 (.inr (some (.int rE)), h0) := by
  refine mc_of hl (plainFor_of_name pn_X4) (by simp [lg_sl, cat_rf, cat_i, cat_j, cat_f, cat_d]) ?_
  intro p e s m args below meth c R hRf hRl X hr hnm
  unfold F_X4_thrown at hF
  rw [show argL [va_rf (some this)] = [some (va_rf (some this))] from by simp [argL, cat_rf, cat_i, cat_j, cat_f, cat_d]]
  refine g_aload_n X dX4_thrown_0 rfl rfl ?_
  obtain ⟨v1, ev1, hF⟩ := bnd hF
  refine g_get (k := 8) X in_X4 rfl (by decide) q1771 (Or.inl rfl) (getI_V ev1) dX4_thrown_1 ?_
  cases hF
  exact g_iret X hr dX4_thrown_4
def F_X4_copies_B3 (a1 : Option Nat) (a2 : Int32) (a3 : Option Nat) (a4 : Int32) (x4_1 : Int32) (h_1 : HH) : Option ((Int32 × HH) ⊕ HH) :=
  if (194 : Int32) ≤ x4_1 then (
    some (.inr h_1)
  ) else (
    Option.bind (aldI h_1 0 a1 (a2 + x4_1)) fun v3 =>
    Option.bind (astI h_1 a3 (a4 + x4_1) v3) fun h4 =>
    some (.inl ((x4_1 + (1 : Int32)), h4))
  )
def F_X4_copies (a1 : Option Nat) (a2 : Int32) (a3 : Option Nat) (a4 : Int32) (h0 : HH) : Option HH :=
  Option.bind (lp (fun z => F_X4_copies_B3 a1 a2 a3 a4 z.1 z.2) 100000 ((0 : Int32), h0)) fun h5 =>
  some h5
set_option maxHeartbeats 4000000 in
theorem w_X4_copies (l : Launch) (hl : l.stackTraces = false) (D : va_G) (dA : Nat → ClassId) (h0 : HH) (a1 : Option Nat) (a2 : Int32) (a3 : Option Nat) (a4 : Int32) (hE : HH) (hF : F_X4_copies a1 a2 a3 a4 h0 = some hE) : MC D dA l yX4_copies cX4_copies 5 (Option.none : Option Jvm.ClassFile.FieldType) [] 0 0 [va_rf a1, .int a2, va_rf a3, .int a4] h0 (.inr none, hE) := by
  refine mc_of hl (plainFor_of_name pn_X4) (by simp [lg_sl, cat_rf, cat_i, cat_j, cat_f, cat_d]) ?_
  intro p e s m args below meth c R hRf hRl X hr hnm
  unfold F_X4_copies at hF
  rw [show argL [va_rf a1, .int a2, va_rf a3, .int a4] = [some (va_rf a1), some (.int a2), some (va_rf a3), some (.int a4)] from by simp [argL, cat_rf, cat_i, cat_j, cat_f, cat_d]]
  refine G.pad 1 (L' := [some (va_rf a1), some (.int a2), some (va_rf a3), some (.int a4), none]) rfl ?_
  refine g_iconst (v := (0 : Int32)) X dX4_copies_0 (by decide) ?_
  refine g_istore (L' := [some (va_rf a1), some (.int a2), some (va_rf a3), some (.int a4), some (.int (0 : Int32))]) X dX4_copies_1 (Nat.le_of_ble_eq_true rfl) (by first | rfl | simp [stL, rm1, clr2, cat_rf, cat_i, cat_j, cat_f, cat_d]) ?_
  obtain ⟨h5, e6, hF⟩ := bnd hF
  refine lp_ind (Gs := (fun z => G p l e R s m args below meth c (RQ D dA h0 (.inr none, hE) below s) D dA h0 5 z.2 3 [some (va_rf a1), some (.int a2), some (va_rf a3), some (.int a4), some (.int z.1)] [])) (Ge := (fun z => G p l e R s m args below meth c (RQ D dA h0 (.inr none, hE) below s) D dA h0 5 z 29 [none, none, none, none, none] [])) ?_ _ _ _ e6 ?_
  · rintro ⟨x4_1, h_1⟩ o hF hgo hr
    change F_X4_copies_B3 a1 a2 a3 a4 x4_1 h_1 = some o at hF
    unfold F_X4_copies_B3 at hF
    show G p l e R s m args below meth c (RQ D dA h0 (.inr none, hE) below s) D dA h0 5 h_1 3 [some (va_rf a1), some (.int a2), some (va_rf a3), some (.int a4), some (.int x4_1)] []
    refine g_iload X dX4_copies_3 rfl ?_
    refine g_sipush (v := (194 : Int32)) X dX4_copies_5 (by decide) ?_
    refine g_icmp_ge X 29 dX4_copies_8 (by decide) (fun c2 => ?_) (fun c2 => ?_)
    · have hF := (if_pos c2).symm.trans hF
      refine G.drop [false, false, false, false, false] rfl ?_
      cases hF
      exact hr _ rfl
    · have hF := (if_neg c2).symm.trans hF
      refine g_aload_n X dX4_copies_11 rfl rfl ?_
      refine g_iload_n X dX4_copies_12 rfl rfl ?_
      refine g_iload X dX4_copies_13 rfl ?_
      refine g_iadd X dX4_copies_15 ?_
      refine g_aload_n X dX4_copies_16 rfl rfl ?_
      refine g_iload_n X dX4_copies_17 rfl rfl ?_
      refine g_iload X dX4_copies_18 rfl ?_
      refine g_iadd X dX4_copies_20 ?_
      obtain ⟨v3, ev3, hF⟩ := bnd hF
      refine g_iald X ev3 dX4_copies_21 ?_
      obtain ⟨h4, eh4, hF⟩ := bnd hF
      refine g_iast X eh4 dX4_copies_22 ?_
      refine g_iinc (v := (x4_1 + (1 : Int32))) (L' := [some (va_rf a1), some (.int a2), some (va_rf a3), some (.int a4), some (.int (x4_1 + (1 : Int32)))]) X dX4_copies_23 (Nat.le_of_ble_eq_true rfl) rfl rfl (by first | rfl | simp [stL, rm1, clr2, cat_rf, cat_i, cat_j, cat_f, cat_d]) ?_
      refine g_goto X 3 dX4_copies_26 (by decide) ?_
      cases hF
      exact hgo _ rfl
  show G p l e R s m args below meth c (RQ D dA h0 (.inr none, hE) below s) D dA h0 5 h5 29 [none, none, none, none, none] []
  cases hF
  exact g_vret X hr dX4_copies_29
def F_X4_begins (this : Nat) (h0 : HH) : Option HH :=
  Option.bind (putV h0 1 8 (some this) (.int (0 : Int32))) fun h1 =>
  Option.bind (getR h1 1 0 (some this)) fun v2 =>
  Option.bind (getR h1 1 1 (some this)) fun v3 =>
  Option.bind (F_X4_copies v2 (0 : Int32) v3 (0 : Int32) h1) fun h4 =>
  some h4
set_option maxHeartbeats 4000000 in
theorem w_X4_begins (l : Launch) (hl : l.stackTraces = false) (D : va_G) (dA : Nat → ClassId) (h0 : HH) (this : Nat) (hE : HH) (hF : F_X4_begins this h0 = some hE) : MC D dA l yX4_begins cX4_begins 1 (Option.none : Option Jvm.ClassFile.FieldType) [] 1 24 [va_rf (some this)] h0 (.inr none, hE) := by
  refine mc_of hl (plainFor_of_name pn_X4) (by simp [lg_sl, cat_rf, cat_i, cat_j, cat_f, cat_d]) ?_
  intro p e s m args below meth c R hRf hRl X hr hnm
  unfold F_X4_begins at hF
  rw [show argL [va_rf (some this)] = [some (va_rf (some this))] from by simp [argL, cat_rf, cat_i, cat_j, cat_f, cat_d]]
  refine g_aload_n X dX4_begins_0 rfl rfl ?_
  refine g_iconst (v := (0 : Int32)) X dX4_begins_1 (by decide) ?_
  obtain ⟨h1, eh1, hF⟩ := bnd hF
  refine g_put (k := 8) X in_X4 tyX4 tyX4_ok nmX4 rfl (by decide) q1771 (Or.inl rfl) rfl (tyX4_ok 8 (by decide)) rfl rfl eh1 dX4_begins_2 ?_
  refine g_aload_n X dX4_begins_5 rfl rfl ?_
  obtain ⟨v2, ev2, hF⟩ := bnd hF
  refine g_get (k := 0) X in_X4 rfl (by decide) q1763 (Or.inl rfl) (getR_V ev2) dX4_begins_6 ?_
  refine g_iconst (v := (0 : Int32)) X dX4_begins_9 (by decide) ?_
  refine g_aload_n X dX4_begins_10 rfl rfl ?_
  obtain ⟨v3, ev3, hF⟩ := bnd hF
  refine g_get (k := 1) X in_X4 rfl (by decide) q1764 (Or.inl rfl) (getR_V ev3) dX4_begins_11 ?_
  refine g_iconst (v := (0 : Int32)) X dX4_begins_14 (by decide) ?_
  obtain ⟨h4, eh4, hF⟩ := bnd hF
  refine g_callS X (w_X4_copies l hl D dA h1 v2 (0 : Int32) v3 (0 : Int32) h4 eh4) q1863 q1864 q103 q1865 okn_X4_copies ⟨by rw [hRf]; exact Nat.le_of_ble_eq_true rfl, by rw [hRl]; exact Nat.le_of_ble_eq_true rfl⟩ (As := [va_rf v2, .int (0 : Int32), va_rf v3, .int (0 : Int32)]) (rest := []) rfl (by first | exact Nat.le_of_ble_eq_true rfl | simp [cat_rf, cat_i, cat_j, cat_f, cat_d]) dX4_begins_15 (ac_0 ?_)
  cases hF
  exact g_vret X hr dX4_begins_18
def F_X4_fails (this : Nat) (a1 : Int32) (h0 : HH) : Option (Int32 × HH) :=
  Option.bind (putV h0 1 8 (some this) (.int a1)) fun h1 =>
  some ((0 : Int32), h1)
set_option maxHeartbeats 4000000 in
theorem w_X4_fails (l : Launch) (hl : l.stackTraces = false) (D : va_G) (dA : Nat → ClassId) (h0 : HH) (this : Nat) (a1 : Int32) (rE : Int32) (hE : HH) (hF : F_X4_fails this a1 h0 = some (rE, hE)) : MC D dA l yX4_fails cX4_fails 2 (Option.some Jvm.ClassFile.FieldType.int) [] 0 0 [va_rf (some this), .int a1] h0 (.inr (some (.int rE)), hE) := by
  refine mc_of hl (plainFor_of_name pn_X4) (by simp [lg_sl, cat_rf, cat_i, cat_j, cat_f, cat_d]) ?_
  intro p e s m args below meth c R hRf hRl X hr hnm
  unfold F_X4_fails at hF
  rw [show argL [va_rf (some this), .int a1] = [some (va_rf (some this)), some (.int a1)] from by simp [argL, cat_rf, cat_i, cat_j, cat_f, cat_d]]
  refine g_aload_n X dX4_fails_0 rfl rfl ?_
  refine g_iload_n X dX4_fails_1 rfl rfl ?_
  obtain ⟨h1, eh1, hF⟩ := bnd hF
  refine g_put (k := 8) X in_X4 tyX4 tyX4_ok nmX4 rfl (by decide) q1771 (Or.inl rfl) rfl (tyX4_ok 8 (by decide)) rfl rfl eh1 dX4_fails_2 ?_
  refine g_iconst (v := (0 : Int32)) X dX4_fails_5 (by decide) ?_
  cases hF
  exact g_iret X hr dX4_fails_6
def F_X4_records_T49 (this : Nat) (h_49 : HH) : Option HH :=
  Option.bind (getR h_49 1 1 (some this)) fun v2 =>
  Option.bind (getR h_49 1 4 (some this)) fun v3 =>
  Option.bind (getI h_49 1 5 (some this)) fun v4 =>
  Option.bind (F_X4_copies v2 (0 : Int32) v3 ((194 : Int32) * v4) h_49) fun h5 =>
  Option.bind (getI h5 1 5 (some this)) fun v6 =>
  Option.bind (putV h5 1 5 (some this) (.int (v6 + (1 : Int32)))) fun h7 =>
  some h7
def F_X4_records_B10 (this : Nat) (x1_9 : Int32) (h_9 : HH) : Option ((Int32 × HH) ⊕ HH) :=
  if (582 : Int32) ≤ x1_9 then (
    some (.inr h_9)
  ) else (
    Option.bind (getR h_9 1 4 (some this)) fun v11 =>
    Option.bind (getR h_9 1 4 (some this)) fun v12 =>
    Option.bind (aldI h_9 0 v12 (x1_9 + (194 : Int32))) fun v13 =>
    Option.bind (astI h_9 v11 x1_9 v13) fun h14 =>
    some (.inl ((x1_9 + (1 : Int32)), h14))
  )
def F_X4_records (this : Nat) (h0 : HH) : Option HH :=
  Option.bind (getI h0 1 5 (some this)) fun v1 =>
  if v1 = (4 : Int32) then (
    Option.bind (lp (fun z => F_X4_records_B10 this z.1 z.2) 100000 ((0 : Int32), h0)) fun h15 =>
    Option.bind (getI h15 1 5 (some this)) fun v16 =>
    Option.bind (putV h15 1 5 (some this) (.int (v16 - (1 : Int32)))) fun h17 =>
    F_X4_records_T49 this  h17
  ) else (
    F_X4_records_T49 this  h0
  )
set_option maxHeartbeats 4000000 in
theorem w_X4_records (l : Launch) (hl : l.stackTraces = false) (D : va_G) (dA : Nat → ClassId) (h0 : HH) (this : Nat) (hE : HH) (hF : F_X4_records this h0 = some hE) : MC D dA l yX4_records cX4_records 2 (Option.none : Option Jvm.ClassFile.FieldType) [] 1 24 [va_rf (some this)] h0 (.inr none, hE) := by
  refine mc_of hl (plainFor_of_name pn_X4) (by simp [lg_sl, cat_rf, cat_i, cat_j, cat_f, cat_d]) ?_
  intro p e s m args below meth c R hRf hRl X hr hnm
  unfold F_X4_records at hF
  rw [show argL [va_rf (some this)] = [some (va_rf (some this))] from by simp [argL, cat_rf, cat_i, cat_j, cat_f, cat_d]]
  refine G.pad 1 (L' := [some (va_rf (some this)), none]) rfl ?_
  refine g_aload_n X dX4_records_0 rfl rfl ?_
  obtain ⟨v1, ev1, hF⟩ := bnd hF
  refine g_get (k := 5) X in_X4 rfl (by decide) q1768 (Or.inl rfl) (getI_V ev1) dX4_records_1 ?_
  refine g_iconst (v := (4 : Int32)) X dX4_records_4 (by decide) ?_
  have T49 : ∀  (h_49 : HH) , F_X4_records_T49 this  h_49 = some hE → G p l e R s m args below meth c (RQ D dA h0 (.inr none, hE) below s) D dA h0 2 h_49 49 [some (va_rf (some this)), none] [] := by
    intro  h_49  hF 
    unfold F_X4_records_T49 at hF
    refine g_aload_n X dX4_records_49 rfl rfl ?_
    obtain ⟨v2, ev2, hF⟩ := bnd hF
    refine g_get (k := 1) X in_X4 rfl (by decide) q1764 (Or.inl rfl) (getR_V ev2) dX4_records_50 ?_
    refine g_iconst (v := (0 : Int32)) X dX4_records_53 (by decide) ?_
    refine g_aload_n X dX4_records_54 rfl rfl ?_
    obtain ⟨v3, ev3, hF⟩ := bnd hF
    refine g_get (k := 4) X in_X4 rfl (by decide) q1767 (Or.inl rfl) (getR_V ev3) dX4_records_55 ?_
    refine g_sipush (v := (194 : Int32)) X dX4_records_58 (by decide) ?_
    refine g_aload_n X dX4_records_61 rfl rfl ?_
    obtain ⟨v4, ev4, hF⟩ := bnd hF
    refine g_get (k := 5) X in_X4 rfl (by decide) q1768 (Or.inl rfl) (getI_V ev4) dX4_records_62 ?_
    refine g_imul X dX4_records_65 ?_
    obtain ⟨h5, eh5, hF⟩ := bnd hF
    refine g_callS X (w_X4_copies l hl D dA h_49 v2 (0 : Int32) v3 ((194 : Int32) * v4) h5 eh5) q1863 q1864 q103 q1865 okn_X4_copies ⟨by rw [hRf]; exact Nat.le_of_ble_eq_true rfl, by rw [hRl]; exact Nat.le_of_ble_eq_true rfl⟩ (As := [va_rf v2, .int (0 : Int32), va_rf v3, .int ((194 : Int32) * v4)]) (rest := []) rfl (by first | exact Nat.le_of_ble_eq_true rfl | simp [cat_rf, cat_i, cat_j, cat_f, cat_d]) dX4_records_66 (ac_0 ?_)
    refine g_aload_n X dX4_records_69 rfl rfl ?_
    refine g_dup X dX4_records_70 (cat_rf _) ?_
    obtain ⟨v6, ev6, hF⟩ := bnd hF
    refine g_get (k := 5) X in_X4 rfl (by decide) q1768 (Or.inl rfl) (getI_V ev6) dX4_records_71 ?_
    refine g_iconst (v := (1 : Int32)) X dX4_records_74 (by decide) ?_
    refine g_iadd X dX4_records_75 ?_
    obtain ⟨h7, eh7, hF⟩ := bnd hF
    refine g_put (k := 5) X in_X4 tyX4 tyX4_ok nmX4 rfl (by decide) q1768 (Or.inl rfl) rfl (tyX4_ok 5 (by decide)) rfl rfl eh7 dX4_records_76 ?_
    cases hF
    exact g_vret X hr dX4_records_79
  refine g_icmp_ne X 49 dX4_records_5 (by decide) (fun c8 => ?_) (fun c8 => ?_)
  · have hF := (if_neg c8).symm.trans hF
    exact T49 _ hF
  · have hF := (if_pos c8).symm.trans hF
    refine g_iconst (v := (0 : Int32)) X dX4_records_8 (by decide) ?_
    refine g_istore_n (L' := [some (va_rf (some this)), some (.int (0 : Int32))]) X dX4_records_9 rfl (Nat.le_of_ble_eq_true rfl) (by first | rfl | simp [stL, rm1, clr2, cat_rf, cat_i, cat_j, cat_f, cat_d]) ?_
    obtain ⟨h15, e18, hF⟩ := bnd hF
    refine lp_ind (Gs := (fun z => G p l e R s m args below meth c (RQ D dA h0 (.inr none, hE) below s) D dA h0 2 z.2 10 [some (va_rf (some this)), some (.int z.1)] [])) (Ge := (fun z => G p l e R s m args below meth c (RQ D dA h0 (.inr none, hE) below s) D dA h0 2 z 39 [some (va_rf (some this)), none] [])) ?_ _ _ _ e18 ?_
    · rintro ⟨x1_9, h_9⟩ o hF hgo hr
      change F_X4_records_B10 this x1_9 h_9 = some o at hF
      unfold F_X4_records_B10 at hF
      show G p l e R s m args below meth c (RQ D dA h0 (.inr none, hE) below s) D dA h0 2 h_9 10 [some (va_rf (some this)), some (.int x1_9)] []
      refine g_iload_n X dX4_records_10 rfl rfl ?_
      refine g_sipush (v := (582 : Int32)) X dX4_records_11 (by decide) ?_
      refine g_icmp_ge X 39 dX4_records_14 (by decide) (fun c10 => ?_) (fun c10 => ?_)
      · have hF := (if_pos c10).symm.trans hF
        refine G.drop [true, false] rfl ?_
        cases hF
        exact hr _ rfl
      · have hF := (if_neg c10).symm.trans hF
        refine g_aload_n X dX4_records_17 rfl rfl ?_
        obtain ⟨v11, ev11, hF⟩ := bnd hF
        refine g_get (k := 4) X in_X4 rfl (by decide) q1767 (Or.inl rfl) (getR_V ev11) dX4_records_18 ?_
        refine g_iload_n X dX4_records_21 rfl rfl ?_
        refine g_aload_n X dX4_records_22 rfl rfl ?_
        obtain ⟨v12, ev12, hF⟩ := bnd hF
        refine g_get (k := 4) X in_X4 rfl (by decide) q1767 (Or.inl rfl) (getR_V ev12) dX4_records_23 ?_
        refine g_iload_n X dX4_records_26 rfl rfl ?_
        refine g_sipush (v := (194 : Int32)) X dX4_records_27 (by decide) ?_
        refine g_iadd X dX4_records_30 ?_
        obtain ⟨v13, ev13, hF⟩ := bnd hF
        refine g_iald X ev13 dX4_records_31 ?_
        obtain ⟨h14, eh14, hF⟩ := bnd hF
        refine g_iast X eh14 dX4_records_32 ?_
        refine g_iinc (v := (x1_9 + (1 : Int32))) (L' := [some (va_rf (some this)), some (.int (x1_9 + (1 : Int32)))]) X dX4_records_33 (Nat.le_of_ble_eq_true rfl) rfl rfl (by first | rfl | simp [stL, rm1, clr2, cat_rf, cat_i, cat_j, cat_f, cat_d]) ?_
        refine g_goto X 10 dX4_records_36 (by decide) ?_
        cases hF
        exact hgo _ rfl
    show G p l e R s m args below meth c (RQ D dA h0 (.inr none, hE) below s) D dA h0 2 h15 39 [some (va_rf (some this)), none] []
    refine g_aload_n X dX4_records_39 rfl rfl ?_
    refine g_dup X dX4_records_40 (cat_rf _) ?_
    obtain ⟨v16, ev16, hF⟩ := bnd hF
    refine g_get (k := 5) X in_X4 rfl (by decide) q1768 (Or.inl rfl) (getI_V ev16) dX4_records_41 ?_
    refine g_iconst (v := (1 : Int32)) X dX4_records_44 (by decide) ?_
    refine g_isub X dX4_records_45 ?_
    obtain ⟨h17, eh17, hF⟩ := bnd hF
    refine g_put (k := 5) X in_X4 tyX4 tyX4_ok nmX4 rfl (by decide) q1768 (Or.inl rfl) rfl (tyX4_ok 5 (by decide)) rfl rfl eh17 dX4_records_46 ?_
    exact T49 _ hF
def F_X4_ends_T12 (this : Nat) (a1 : Int32) (h_12 : HH) : Option (Int32 × HH) :=
  Option.bind (getR h_12 1 1 (some this)) fun v1 =>
  Option.bind (getR h_12 1 0 (some this)) fun v2 =>
  Option.bind (F_X4_copies v1 (0 : Int32) v2 (0 : Int32) h_12) fun h3 =>
  Option.bind (isO h3 1 (some this)) fun ob5 =>
  b2 (F_X4_fails ob5 (if a1 = (-11 : Int32) then (1 : Int32) else (2 : Int32)) h3) fun v7 h6 =>
  some (v7, h6)
def F_X4_ends (this : Nat) (a1 : Int32) (h0 : HH) : Option (Int32 × HH) :=
  if a1 = (-11 : Int32) then (
    F_X4_ends_T12 this a1  h0
  ) else (
    if a1 = (-12 : Int32) then (
      F_X4_ends_T12 this a1  h0
    ) else (
      Option.bind (isO h0 1 (some this)) fun ob10 =>
      Option.bind (F_X4_records ob10 h0) fun h11 =>
      some (a1, h11)
    )
  )
set_option maxHeartbeats 4000000 in
theorem w_X4_ends (l : Launch) (hl : l.stackTraces = false) (D : va_G) (dA : Nat → ClassId) (h0 : HH) (this : Nat) (a1 : Int32) (rE : Int32) (hE : HH) (hF : F_X4_ends this a1 h0 = some (rE, hE)) : MC D dA l yX4_ends cX4_ends 2 (Option.some Jvm.ClassFile.FieldType.int) [] 2 45 [va_rf (some this), .int a1] h0 (.inr (some (.int rE)), hE) := by
  refine mc_of hl (plainFor_of_name pn_X4) (by simp [lg_sl, cat_rf, cat_i, cat_j, cat_f, cat_d]) ?_
  intro p e s m args below meth c R hRf hRl X hr hnm
  unfold F_X4_ends at hF
  rw [show argL [va_rf (some this), .int a1] = [some (va_rf (some this)), some (.int a1)] from by simp [argL, cat_rf, cat_i, cat_j, cat_f, cat_d]]
  refine g_iload_n X dX4_ends_0 rfl rfl ?_
  refine g_bipush (v := (-11 : Int32)) X dX4_ends_1 (by decide) ?_
  have T12 : ∀  (h_12 : HH) , F_X4_ends_T12 this a1  h_12 = some (rE, hE) → G p l e R s m args below meth c (RQ D dA h0 (.inr (some (.int rE)), hE) below s) D dA h0 2 h_12 12 [some (va_rf (some this)), some (.int a1)] [] := by
    intro  h_12  hF 
    unfold F_X4_ends_T12 at hF
    refine g_aload_n X dX4_ends_12 rfl rfl ?_
    obtain ⟨v1, ev1, hF⟩ := bnd hF
    refine g_get (k := 1) X in_X4 rfl (by decide) q1764 (Or.inl rfl) (getR_V ev1) dX4_ends_13 ?_
    refine g_iconst (v := (0 : Int32)) X dX4_ends_16 (by decide) ?_
    refine g_aload_n X dX4_ends_17 rfl rfl ?_
    obtain ⟨v2, ev2, hF⟩ := bnd hF
    refine g_get (k := 0) X in_X4 rfl (by decide) q1763 (Or.inl rfl) (getR_V ev2) dX4_ends_18 ?_
    refine g_iconst (v := (0 : Int32)) X dX4_ends_21 (by decide) ?_
    obtain ⟨h3, eh3, hF⟩ := bnd hF
    refine g_callS X (w_X4_copies l hl D dA h_12 v1 (0 : Int32) v2 (0 : Int32) h3 eh3) q1863 q1864 q103 q1865 okn_X4_copies ⟨by rw [hRf]; exact Nat.le_of_ble_eq_true rfl, by rw [hRl]; exact Nat.le_of_ble_eq_true rfl⟩ (As := [va_rf v1, .int (0 : Int32), va_rf v2, .int (0 : Int32)]) (rest := []) rfl (by first | exact Nat.le_of_ble_eq_true rfl | simp [cat_rf, cat_i, cat_j, cat_f, cat_d]) dX4_ends_22 (ac_0 ?_)
    refine g_aload_n X dX4_ends_25 rfl rfl ?_
    refine g_iload_n X dX4_ends_26 rfl rfl ?_
    refine g_bipush (v := (-11 : Int32)) X dX4_ends_27 (by decide) ?_
    suffices K : G p l e R s m args below meth c (RQ D dA h0 (.inr (some (.int rE)), hE) below s) D dA h0 2 h3 37 [none, none] [.int (if a1 = (-11 : Int32) then (1 : Int32) else (2 : Int32)), va_rf (some this)] by
      refine g_icmp_ne X 36 dX4_ends_29 (by decide) (fun c4 => ?_) (fun c4 => ?_)
      · (try simp only [if_neg c4] at K)
        refine g_iconst (v := (2 : Int32)) X dX4_ends_36 (by decide) ?_
        refine G.drop [false, false] rfl ?_
        first | exact K | (simp only [if_neg c4]; exact K)
      · (try simp only [if_pos c4] at K)
        refine g_iconst (v := (1 : Int32)) X dX4_ends_32 (by decide) ?_
        refine g_goto X 37 dX4_ends_33 (by decide) ?_
        refine G.drop [false, false] rfl ?_
        first | exact K | (simp only [if_pos c4]; exact K)
    obtain ⟨ob5, eob5, hF⟩ := bnd hF
    obtain ⟨v7, h6, eh6, hF⟩ := b2_some hF
    refine g_callV X eob5 rfl rfl (w_X4_fails l hl D dA h3 ob5 (if a1 = (-11 : Int32) then (1 : Int32) else (2 : Int32)) v7 h6 eh6) q1900 q1902 qs36 q103 q1903 okn_X4_fails ⟨by rw [hRf]; exact Nat.le_of_ble_eq_true rfl, by rw [hRl]; exact Nat.le_of_ble_eq_true rfl⟩ (As := [.int (if a1 = (-11 : Int32) then (1 : Int32) else (2 : Int32))]) (rest := []) rfl (by first | exact Nat.le_of_ble_eq_true rfl | simp [cat_rf, cat_i, cat_j, cat_f, cat_d]) dX4_ends_37 (ac_v ?_)
    cases hF
    exact g_iret X hr dX4_ends_40
  refine g_icmp_eq X 12 dX4_ends_3 (by decide) (fun c8 => ?_) (fun c8 => ?_)
  · have hF := (if_pos c8).symm.trans hF
    exact T12 _ hF
  · have hF := (if_neg c8).symm.trans hF
    refine g_iload_n X dX4_ends_6 rfl rfl ?_
    refine g_bipush (v := (-12 : Int32)) X dX4_ends_7 (by decide) ?_
    refine g_icmp_ne X 41 dX4_ends_9 (by decide) (fun c9 => ?_) (fun c9 => ?_)
    · have hF := (if_neg c9).symm.trans hF
      refine g_aload_n X dX4_ends_41 rfl rfl ?_
      obtain ⟨ob10, eob10, hF⟩ := bnd hF
      obtain ⟨h11, eh11, hF⟩ := bnd hF
      refine g_callV X eob10 rfl rfl (w_X4_records l hl D dA h0 ob10  h11 eh11) q1904 q1906 qs37 q103 q1907 okn_X4_records ⟨by rw [hRf]; exact Nat.le_of_ble_eq_true rfl, by rw [hRl]; exact Nat.le_of_ble_eq_true rfl⟩ (As := []) (rest := []) rfl (by first | exact Nat.le_of_ble_eq_true rfl | simp [cat_rf, cat_i, cat_j, cat_f, cat_d]) dX4_ends_42 (ac_0 ?_)
      refine g_iload_n X dX4_ends_45 rfl rfl ?_
      cases hF
      exact g_iret X hr dX4_ends_46
    · have hF := (if_pos c9).symm.trans hF
      exact T12 _ hF
def F_X4_in (a1 : Int32) (a2 : Int32) (a3 : Int32) : Int32 :=
  (if a1 < a2 then (0 : Int32) else (if a3 < a1 then (0 : Int32) else (1 : Int32)))
set_option maxHeartbeats 4000000 in
theorem w_X4_in (l : Launch) (hl : l.stackTraces = false) (D : va_G) (dA : Nat → ClassId) (h0 : HH) (a1 : Int32) (a2 : Int32) (a3 : Int32) : MC D dA l yX4_in cX4_in 3 (Option.some Jvm.ClassFile.FieldType.boolean) [] 0 0 [.int a1, .int a2, .int a3] h0 (.inr (some (.int (F_X4_in a1 a2 a3))), h0) := by
  refine mc_of hl (plainFor_of_name pn_X4) (by simp [lg_sl, cat_rf, cat_i, cat_j, cat_f, cat_d]) ?_
  intro p e s m args below meth c R hRf hRl X hr hnm
  generalize hF : F_X4_in a1 a2 a3 = rE
  unfold F_X4_in at hF
  rw [show argL [.int a1, .int a2, .int a3] = [some (.int a1), some (.int a2), some (.int a3)] from by simp [argL, cat_rf, cat_i, cat_j, cat_f, cat_d]]
  refine g_iload_n X dX4_in_0 rfl rfl ?_
  refine g_iload_n X dX4_in_1 rfl rfl ?_
  suffices K : G p l e R s m args below meth c (RQ D dA h0 (.inr (some (.int rE)), h0) below s) D dA h0 3 h0 15 [none, none, none] [.int (if a1 < a2 then (0 : Int32) else (if a3 < a1 then (0 : Int32) else (1 : Int32)))] by
    refine g_icmp_lt X 14 dX4_in_2 (by decide) (fun c1 => ?_) (fun c1 => ?_)
    · (try simp only [if_pos c1] at K)
      refine g_iconst (v := (0 : Int32)) X dX4_in_14 (by decide) ?_
      refine G.drop [false, false, false] rfl ?_
      first | exact K | (simp only [if_pos c1]; exact K)
    · (try simp only [if_neg c1] at K)
      refine g_iload_n X dX4_in_5 rfl rfl ?_
      refine g_iload_n X dX4_in_6 rfl rfl ?_
      refine g_icmp_gt X 14 dX4_in_7 (by decide) (fun c2 => ?_) (fun c2 => ?_)
      · (try simp only [if_pos c2] at K)
        refine g_iconst (v := (0 : Int32)) X dX4_in_14 (by decide) ?_
        refine G.drop [false, false, false] rfl ?_
        first | exact K | (simp only [if_neg c1, if_pos c2]; exact K)
      · (try simp only [if_neg c2] at K)
        refine g_iconst (v := (1 : Int32)) X dX4_in_10 (by decide) ?_
        refine g_goto X 15 dX4_in_11 (by decide) ?_
        refine G.drop [false, false, false] rfl ?_
        first | exact K | (simp only [if_neg c1, if_neg c2]; exact K)
  cases hF
  exact g_zret X hr (by (repeat' split) <;> rfl) dX4_in_15
def F_X4_arePair (a1 : Int32) (a2 : Int32) : Int32 :=
  (if (F_X4_in a1 (0 : Int32) (3 : Int32)) = 0 then (0 : Int32) else (if (F_X4_in a2 (0 : Int32) (3 : Int32)) = 0 then (0 : Int32) else (if a1 = a2 then (0 : Int32) else (1 : Int32))))
set_option maxHeartbeats 4000000 in
theorem w_X4_arePair (l : Launch) (hl : l.stackTraces = false) (D : va_G) (dA : Nat → ClassId) (h0 : HH) (a1 : Int32) (a2 : Int32) : MC D dA l yX4_arePair cX4_arePair 2 (Option.some Jvm.ClassFile.FieldType.boolean) [] 1 22 [.int a1, .int a2] h0 (.inr (some (.int (F_X4_arePair a1 a2))), h0) := by
  refine mc_of hl (plainFor_of_name pn_X4) (by simp [lg_sl, cat_rf, cat_i, cat_j, cat_f, cat_d]) ?_
  intro p e s m args below meth c R hRf hRl X hr hnm
  generalize hF : F_X4_arePair a1 a2 = rE
  unfold F_X4_arePair at hF
  rw [show argL [.int a1, .int a2] = [some (.int a1), some (.int a2)] from by simp [argL, cat_rf, cat_i, cat_j, cat_f, cat_d]]
  refine g_iload_n X dX4_arePair_0 rfl rfl ?_
  refine g_iconst (v := (0 : Int32)) X dX4_arePair_1 (by decide) ?_
  refine g_iconst (v := (3 : Int32)) X dX4_arePair_2 (by decide) ?_
  refine g_callS X (w_X4_in l hl D dA h0 a1 (0 : Int32) (3 : Int32)) q1873 q1874 q103 q1875 okn_X4_in ⟨by rw [hRf]; exact Nat.le_of_ble_eq_true rfl, by rw [hRl]; exact Nat.le_of_ble_eq_true rfl⟩ (As := [.int a1, .int (0 : Int32), .int (3 : Int32)]) (rest := []) rfl (by first | exact Nat.le_of_ble_eq_true rfl | simp [cat_rf, cat_i, cat_j, cat_f, cat_d]) dX4_arePair_3 (ac_v ?_)
  suffices K : G p l e R s m args below meth c (RQ D dA h0 (.inr (some (.int rE)), h0) below s) D dA h0 2 h0 28 [none, none] [.int (if (F_X4_in a1 (0 : Int32) (3 : Int32)) = 0 then (0 : Int32) else (if (F_X4_in a2 (0 : Int32) (3 : Int32)) = 0 then (0 : Int32) else (if a1 = a2 then (0 : Int32) else (1 : Int32))))] by
    refine g_if_eq X 27 dX4_arePair_6 (by decide) (fun c1 => ?_) (fun c1 => ?_)
    · (try simp only [if_pos c1] at K)
      refine g_iconst (v := (0 : Int32)) X dX4_arePair_27 (by decide) ?_
      refine G.drop [false, false] rfl ?_
      first | exact K | (simp only [if_pos c1]; exact K)
    · (try simp only [if_neg c1] at K)
      refine g_iload_n X dX4_arePair_9 rfl rfl ?_
      refine g_iconst (v := (0 : Int32)) X dX4_arePair_10 (by decide) ?_
      refine g_iconst (v := (3 : Int32)) X dX4_arePair_11 (by decide) ?_
      refine g_callS X (w_X4_in l hl D dA h0 a2 (0 : Int32) (3 : Int32)) q1873 q1874 q103 q1875 okn_X4_in ⟨by rw [hRf]; exact Nat.le_of_ble_eq_true rfl, by rw [hRl]; exact Nat.le_of_ble_eq_true rfl⟩ (As := [.int a2, .int (0 : Int32), .int (3 : Int32)]) (rest := []) rfl (by first | exact Nat.le_of_ble_eq_true rfl | simp [cat_rf, cat_i, cat_j, cat_f, cat_d]) dX4_arePair_12 (ac_v ?_)
      refine g_if_eq X 27 dX4_arePair_15 (by decide) (fun c2 => ?_) (fun c2 => ?_)
      · (try simp only [if_pos c2] at K)
        refine g_iconst (v := (0 : Int32)) X dX4_arePair_27 (by decide) ?_
        refine G.drop [false, false] rfl ?_
        first | exact K | (simp only [if_neg c1, if_pos c2]; exact K)
      · (try simp only [if_neg c2] at K)
        refine g_iload_n X dX4_arePair_18 rfl rfl ?_
        refine g_iload_n X dX4_arePair_19 rfl rfl ?_
        refine g_icmp_eq X 27 dX4_arePair_20 (by decide) (fun c3 => ?_) (fun c3 => ?_)
        · (try simp only [if_pos c3] at K)
          refine g_iconst (v := (0 : Int32)) X dX4_arePair_27 (by decide) ?_
          refine G.drop [false, false] rfl ?_
          first | exact K | (simp only [if_neg c1, if_neg c2, if_pos c3]; exact K)
        · (try simp only [if_neg c3] at K)
          refine g_iconst (v := (1 : Int32)) X dX4_arePair_23 (by decide) ?_
          refine g_goto X 28 dX4_arePair_24 (by decide) ?_
          refine G.drop [false, false] rfl ?_
          first | exact K | (simp only [if_neg c1, if_neg c2, if_neg c3]; exact K)
  cases hF
  exact g_zret X hr (by (repeat' split) <;> rfl) dX4_arePair_28
def F_X4_carries_B3 (a1 : Option Nat) (a2 : Int32) (a3 : Option Nat) (a4 : Int32) (x4_1 : Int32) (h_1 : HH) : Option ((Int32 × HH) ⊕ HH) :=
  if (16 : Int32) ≤ x4_1 then (
    some (.inr h_1)
  ) else (
    Option.bind (aldI h_1 0 a1 (a2 + x4_1)) fun v3 =>
    Option.bind (astI h_1 a3 (a4 + x4_1) v3) fun h4 =>
    some (.inl ((x4_1 + (1 : Int32)), h4))
  )
def F_X4_carries (a1 : Option Nat) (a2 : Int32) (a3 : Option Nat) (a4 : Int32) (h0 : HH) : Option HH :=
  Option.bind (lp (fun z => F_X4_carries_B3 a1 a2 a3 a4 z.1 z.2) 100000 ((0 : Int32), h0)) fun h5 =>
  some h5
set_option maxHeartbeats 4000000 in
theorem w_X4_carries (l : Launch) (hl : l.stackTraces = false) (D : va_G) (dA : Nat → ClassId) (h0 : HH) (a1 : Option Nat) (a2 : Int32) (a3 : Option Nat) (a4 : Int32) (hE : HH) (hF : F_X4_carries a1 a2 a3 a4 h0 = some hE) : MC D dA l yX4_carries cX4_carries 5 (Option.none : Option Jvm.ClassFile.FieldType) [] 0 0 [va_rf a1, .int a2, va_rf a3, .int a4] h0 (.inr none, hE) := by
  refine mc_of hl (plainFor_of_name pn_X4) (by simp [lg_sl, cat_rf, cat_i, cat_j, cat_f, cat_d]) ?_
  intro p e s m args below meth c R hRf hRl X hr hnm
  unfold F_X4_carries at hF
  rw [show argL [va_rf a1, .int a2, va_rf a3, .int a4] = [some (va_rf a1), some (.int a2), some (va_rf a3), some (.int a4)] from by simp [argL, cat_rf, cat_i, cat_j, cat_f, cat_d]]
  refine G.pad 1 (L' := [some (va_rf a1), some (.int a2), some (va_rf a3), some (.int a4), none]) rfl ?_
  refine g_iconst (v := (0 : Int32)) X dX4_carries_0 (by decide) ?_
  refine g_istore (L' := [some (va_rf a1), some (.int a2), some (va_rf a3), some (.int a4), some (.int (0 : Int32))]) X dX4_carries_1 (Nat.le_of_ble_eq_true rfl) (by first | rfl | simp [stL, rm1, clr2, cat_rf, cat_i, cat_j, cat_f, cat_d]) ?_
  obtain ⟨h5, e6, hF⟩ := bnd hF
  refine lp_ind (Gs := (fun z => G p l e R s m args below meth c (RQ D dA h0 (.inr none, hE) below s) D dA h0 5 z.2 3 [some (va_rf a1), some (.int a2), some (va_rf a3), some (.int a4), some (.int z.1)] [])) (Ge := (fun z => G p l e R s m args below meth c (RQ D dA h0 (.inr none, hE) below s) D dA h0 5 z 28 [none, none, none, none, none] [])) ?_ _ _ _ e6 ?_
  · rintro ⟨x4_1, h_1⟩ o hF hgo hr
    change F_X4_carries_B3 a1 a2 a3 a4 x4_1 h_1 = some o at hF
    unfold F_X4_carries_B3 at hF
    show G p l e R s m args below meth c (RQ D dA h0 (.inr none, hE) below s) D dA h0 5 h_1 3 [some (va_rf a1), some (.int a2), some (va_rf a3), some (.int a4), some (.int x4_1)] []
    refine g_iload X dX4_carries_3 rfl ?_
    refine g_bipush (v := (16 : Int32)) X dX4_carries_5 (by decide) ?_
    refine g_icmp_ge X 28 dX4_carries_7 (by decide) (fun c2 => ?_) (fun c2 => ?_)
    · have hF := (if_pos c2).symm.trans hF
      refine G.drop [false, false, false, false, false] rfl ?_
      cases hF
      exact hr _ rfl
    · have hF := (if_neg c2).symm.trans hF
      refine g_aload_n X dX4_carries_10 rfl rfl ?_
      refine g_iload_n X dX4_carries_11 rfl rfl ?_
      refine g_iload X dX4_carries_12 rfl ?_
      refine g_iadd X dX4_carries_14 ?_
      refine g_aload_n X dX4_carries_15 rfl rfl ?_
      refine g_iload_n X dX4_carries_16 rfl rfl ?_
      refine g_iload X dX4_carries_17 rfl ?_
      refine g_iadd X dX4_carries_19 ?_
      obtain ⟨v3, ev3, hF⟩ := bnd hF
      refine g_iald X ev3 dX4_carries_20 ?_
      obtain ⟨h4, eh4, hF⟩ := bnd hF
      refine g_iast X eh4 dX4_carries_21 ?_
      refine g_iinc (v := (x4_1 + (1 : Int32))) (L' := [some (va_rf a1), some (.int a2), some (va_rf a3), some (.int a4), some (.int (x4_1 + (1 : Int32)))]) X dX4_carries_22 (Nat.le_of_ble_eq_true rfl) rfl rfl (by first | rfl | simp [stL, rm1, clr2, cat_rf, cat_i, cat_j, cat_f, cat_d]) ?_
      refine g_goto X 3 dX4_carries_25 (by decide) ?_
      cases hF
      exact hgo _ rfl
  show G p l e R s m args below meth c (RQ D dA h0 (.inr none, hE) below s) D dA h0 5 h5 28 [none, none, none, none, none] []
  cases hF
  exact g_vret X hr dX4_carries_28
def F_X4_less (a1 : Int32) (a2 : Int32) : Int32 :=
  (if a2 ≤ a1 then a2 else a1)
set_option maxHeartbeats 4000000 in
theorem w_X4_less (l : Launch) (hl : l.stackTraces = false) (D : va_G) (dA : Nat → ClassId) (h0 : HH) (a1 : Int32) (a2 : Int32) : MC D dA l yX4_less cX4_less 2 (Option.some Jvm.ClassFile.FieldType.int) [] 0 0 [.int a1, .int a2] h0 (.inr (some (.int (F_X4_less a1 a2))), h0) := by
  refine mc_of hl (plainFor_of_name pn_X4) (by simp [lg_sl, cat_rf, cat_i, cat_j, cat_f, cat_d]) ?_
  intro p e s m args below meth c R hRf hRl X hr hnm
  generalize hF : F_X4_less a1 a2 = rE
  unfold F_X4_less at hF
  rw [show argL [.int a1, .int a2] = [some (.int a1), some (.int a2)] from by simp [argL, cat_rf, cat_i, cat_j, cat_f, cat_d]]
  refine g_iload_n X dX4_less_0 rfl rfl ?_
  refine g_iload_n X dX4_less_1 rfl rfl ?_
  suffices K : G p l e R s m args below meth c (RQ D dA h0 (.inr (some (.int rE)), h0) below s) D dA h0 2 h0 10 [none, none] [.int (if a2 ≤ a1 then a2 else a1)] by
    refine g_icmp_ge X 9 dX4_less_2 (by decide) (fun c1 => ?_) (fun c1 => ?_)
    · (try simp only [if_pos c1] at K)
      refine g_iload_n X dX4_less_9 rfl rfl ?_
      refine G.drop [false, false] rfl ?_
      first | exact K | (simp only [if_pos c1]; exact K)
    · (try simp only [if_neg c1] at K)
      refine g_iload_n X dX4_less_5 rfl rfl ?_
      refine g_goto X 10 dX4_less_6 (by decide) ?_
      refine G.drop [false, false] rfl ?_
      first | exact K | (simp only [if_neg c1]; exact K)
  cases hF
  exact g_iret X hr dX4_less_10
def F_X4_sum (a1 : Int32) (a2 : Int32) : Int32 :=
  (if a1 = (100000 : Int32) then (100000 : Int32) else (if a2 = (100000 : Int32) then (100000 : Int32) else (a1 + a2)))
set_option maxHeartbeats 4000000 in
theorem w_X4_sum (l : Launch) (hl : l.stackTraces = false) (D : va_G) (dA : Nat → ClassId) (h0 : HH) (a1 : Int32) (a2 : Int32) : MC D dA l yX4_sum cX4_sum 2 (Option.some Jvm.ClassFile.FieldType.int) [] 0 0 [.int a1, .int a2] h0 (.inr (some (.int (F_X4_sum a1 a2))), h0) := by
  refine mc_of hl (plainFor_of_name pn_X4) (by simp [lg_sl, cat_rf, cat_i, cat_j, cat_f, cat_d]) ?_
  intro p e s m args below meth c R hRf hRl X hr hnm
  generalize hF : F_X4_sum a1 a2 = rE
  unfold F_X4_sum at hF
  rw [show argL [.int a1, .int a2] = [some (.int a1), some (.int a2)] from by simp [argL, cat_rf, cat_i, cat_j, cat_f, cat_d]]
  refine g_iload_n X dX4_sum_0 rfl rfl ?_
  refine g_ldc (v := (100000 : Int32)) X q1762 dX4_sum_1 ?_
  suffices K : G p l e R s m args below meth c (RQ D dA h0 (.inr (some (.int rE)), h0) below s) D dA h0 2 h0 20 [none, none] [.int (if a1 = (100000 : Int32) then (100000 : Int32) else (if a2 = (100000 : Int32) then (100000 : Int32) else (a1 + a2)))] by
    refine g_icmp_eq X 12 dX4_sum_3 (by decide) (fun c1 => ?_) (fun c1 => ?_)
    · (try simp only [if_pos c1] at K)
      refine g_ldc (v := (100000 : Int32)) X q1762 dX4_sum_12 ?_
      refine g_goto X 20 dX4_sum_14 (by decide) ?_
      refine G.drop [false, false] rfl ?_
      first | exact K | (simp only [if_pos c1]; exact K)
    · (try simp only [if_neg c1] at K)
      refine g_iload_n X dX4_sum_6 rfl rfl ?_
      refine g_ldc (v := (100000 : Int32)) X q1762 dX4_sum_7 ?_
      refine g_icmp_ne X 17 dX4_sum_9 (by decide) (fun c2 => ?_) (fun c2 => ?_)
      · (try simp only [if_neg c2] at K)
        refine g_iload_n X dX4_sum_17 rfl rfl ?_
        refine g_iload_n X dX4_sum_18 rfl rfl ?_
        refine g_iadd X dX4_sum_19 ?_
        refine G.drop [false, false] rfl ?_
        first | exact K | (simp only [if_neg c1, if_neg c2]; exact K)
      · (try simp only [if_pos c2] at K)
        refine g_ldc (v := (100000 : Int32)) X q1762 dX4_sum_12 ?_
        refine g_goto X 20 dX4_sum_14 (by decide) ?_
        refine G.drop [false, false] rfl ?_
        first | exact K | (simp only [if_neg c1, if_pos c2]; exact K)
  cases hF
  exact g_iret X hr dX4_sum_20
def F_X4_tightens_B9 (a1 : Option Nat) (a2 : Int32) (x2_1 : Int32) (x3_3 : Int32) (h_3 : HH) : Option ((Int32 × HH) ⊕ HH) :=
  if (16 : Int32) ≤ x3_3 then (
    some (.inr h_3)
  ) else (
    Option.bind (aldI h_3 0 a1 (a2 + x3_3)) fun v5 =>
    Option.bind (aldI h_3 0 a1 ((a2 + ((4 : Int32) * (x3_3 / (4 : Int32)))) + x2_1)) fun v6 =>
    Option.bind (aldI h_3 0 a1 ((a2 + ((4 : Int32) * x2_1)) + (x3_3 - x3_3 / (4 : Int32) * (4 : Int32)))) fun v7 =>
    Option.bind (astI h_3 a1 (a2 + x3_3) (F_X4_less v5 (F_X4_sum v6 v7))) fun h8 =>
    some (.inl ((x3_3 + (1 : Int32)), h8))
  )
def F_X4_tightens_B2 (a1 : Option Nat) (a2 : Int32) (x2_1 : Int32) (h_1 : HH) : Option ((Int32 × HH) ⊕ HH) :=
  if (4 : Int32) ≤ x2_1 then (
    some (.inr h_1)
  ) else (
    Option.bind (lp (fun z => F_X4_tightens_B9 a1 a2 x2_1 z.1 z.2) 100000 ((0 : Int32), h_1)) fun h9 =>
    some (.inl ((x2_1 + (1 : Int32)), h9))
  )
def F_X4_tightens_B77 (a1 : Option Nat) (a2 : Int32) (x2_13 : Int32) (x3_13 : Int32) (h12 : HH) : Option ((Int32 × Int32) ⊕ Int32) :=
  if (4 : Int32) ≤ x3_13 then (
    some (.inr x2_13)
  ) else (
    if x2_13 = 0 then (
      some (.inl ((0 : Int32), (x3_13 + (1 : Int32))))
    ) else (
      Option.bind (aldI h12 0 a1 (a2 + ((5 : Int32) * x3_13))) fun v16 =>
      some (.inl ((if v16 < 0 then (0 : Int32) else (1 : Int32)), (x3_13 + (1 : Int32))))
    )
  )
def F_X4_tightens (a1 : Option Nat) (a2 : Int32) (h0 : HH) : Option (Int32 × HH) :=
  Option.bind (lp (fun z => F_X4_tightens_B2 a1 a2 z.1 z.2) 100000 ((0 : Int32), h0)) fun h12 =>
  Option.bind (lp (fun z => F_X4_tightens_B77 a1 a2 z.1 z.2 h12) 100000 ((1 : Int32), (0 : Int32))) fun v18 =>
  Option.bind (okZ v18) fun _ =>
  some (v18, h12)
set_option maxHeartbeats 4000000 in
theorem w_X4_tightens (l : Launch) (hl : l.stackTraces = false) (D : va_G) (dA : Nat → ClassId) (h0 : HH) (a1 : Option Nat) (a2 : Int32) (rE : Int32) (hE : HH) (hF : F_X4_tightens a1 a2 h0 = some (rE, hE)) : MC D dA l yX4_tightens cX4_tightens 6 (Option.some Jvm.ClassFile.FieldType.boolean) [] 1 21 [va_rf a1, .int a2] h0 (.inr (some (.int rE)), hE) := by
  refine mc_of hl (plainFor_of_name pn_X4) (by simp [lg_sl, cat_rf, cat_i, cat_j, cat_f, cat_d]) ?_
  intro p e s m args below meth c R hRf hRl X hr hnm
  unfold F_X4_tightens at hF
  rw [show argL [va_rf a1, .int a2] = [some (va_rf a1), some (.int a2)] from by simp [argL, cat_rf, cat_i, cat_j, cat_f, cat_d]]
  refine G.pad 4 (L' := [some (va_rf a1), some (.int a2), none, none, none, none]) rfl ?_
  refine g_iconst (v := (0 : Int32)) X dX4_tightens_0 (by decide) ?_
  refine g_istore_n (L' := [some (va_rf a1), some (.int a2), some (.int (0 : Int32)), none, none, none]) X dX4_tightens_1 rfl (Nat.le_of_ble_eq_true rfl) (by first | rfl | simp [stL, rm1, clr2, cat_rf, cat_i, cat_j, cat_f, cat_d]) ?_
  obtain ⟨h12, e22, hF⟩ := bnd hF
  refine lp_ind (Gs := (fun z => G p l e R s m args below meth c (RQ D dA h0 (.inr (some (.int rE)), hE) below s) D dA h0 6 z.2 2 [some (va_rf a1), some (.int a2), some (.int z.1), none, none, none] [])) (Ge := (fun z => G p l e R s m args below meth c (RQ D dA h0 (.inr (some (.int rE)), hE) below s) D dA h0 6 z 73 [some (va_rf a1), some (.int a2), none, none, none, none] [])) ?_ _ _ _ e22 ?_
  · rintro ⟨x2_1, h_1⟩ o hF hgo hr
    change F_X4_tightens_B2 a1 a2 x2_1 h_1 = some o at hF
    unfold F_X4_tightens_B2 at hF
    show G p l e R s m args below meth c (RQ D dA h0 (.inr (some (.int rE)), hE) below s) D dA h0 6 h_1 2 [some (va_rf a1), some (.int a2), some (.int x2_1), none, none, none] []
    refine g_iload_n X dX4_tightens_2 rfl rfl ?_
    refine g_iconst (v := (4 : Int32)) X dX4_tightens_3 (by decide) ?_
    refine g_icmp_ge X 73 dX4_tightens_4 (by decide) (fun c2 => ?_) (fun c2 => ?_)
    · have hF := (if_pos c2).symm.trans hF
      refine G.drop [true, true, false, false, false, false] rfl ?_
      cases hF
      exact hr _ rfl
    · have hF := (if_neg c2).symm.trans hF
      refine g_iconst (v := (0 : Int32)) X dX4_tightens_7 (by decide) ?_
      refine g_istore_n (L' := [some (va_rf a1), some (.int a2), some (.int x2_1), some (.int (0 : Int32)), none, none]) X dX4_tightens_8 rfl (Nat.le_of_ble_eq_true rfl) (by first | rfl | simp [stL, rm1, clr2, cat_rf, cat_i, cat_j, cat_f, cat_d]) ?_
      obtain ⟨h9, e10, hF⟩ := bnd hF
      refine lp_ind (Gs := (fun z => G p l e R s m args below meth c (RQ D dA h0 (.inr (some (.int rE)), hE) below s) D dA h0 6 z.2 9 [some (va_rf a1), some (.int a2), some (.int x2_1), some (.int z.1), none, none] [])) (Ge := (fun z => G p l e R s m args below meth c (RQ D dA h0 (.inr (some (.int rE)), hE) below s) D dA h0 6 z 67 [some (va_rf a1), some (.int a2), some (.int x2_1), none, none, none] [])) ?_ _ _ _ e10 ?_
      · rintro ⟨x3_3, h_3⟩ o hF hgo hr
        change F_X4_tightens_B9 a1 a2 x2_1 x3_3 h_3 = some o at hF
        unfold F_X4_tightens_B9 at hF
        show G p l e R s m args below meth c (RQ D dA h0 (.inr (some (.int rE)), hE) below s) D dA h0 6 h_3 9 [some (va_rf a1), some (.int a2), some (.int x2_1), some (.int x3_3), none, none] []
        refine g_iload_n X dX4_tightens_9 rfl rfl ?_
        refine g_bipush (v := (16 : Int32)) X dX4_tightens_10 (by decide) ?_
        refine g_icmp_ge X 67 dX4_tightens_12 (by decide) (fun c4 => ?_) (fun c4 => ?_)
        · have hF := (if_pos c4).symm.trans hF
          refine G.drop [true, true, true, false, false, false] rfl ?_
          cases hF
          exact hr _ rfl
        · have hF := (if_neg c4).symm.trans hF
          refine g_iload_n X dX4_tightens_15 rfl rfl ?_
          refine g_iconst (v := (4 : Int32)) X dX4_tightens_16 (by decide) ?_
          refine g_idiv X dX4_tightens_17 (by decide) ?_
          refine g_istore (L' := [some (va_rf a1), some (.int a2), some (.int x2_1), some (.int x3_3), some (.int (x3_3 / (4 : Int32))), none]) X dX4_tightens_18 (Nat.le_of_ble_eq_true rfl) (by first | rfl | simp [stL, rm1, clr2, cat_rf, cat_i, cat_j, cat_f, cat_d]) ?_
          refine g_iload_n X dX4_tightens_20 rfl rfl ?_
          refine g_iconst (v := (4 : Int32)) X dX4_tightens_21 (by decide) ?_
          refine g_irem X dX4_tightens_22 (by decide) ?_
          refine g_istore (L' := [some (va_rf a1), some (.int a2), some (.int x2_1), some (.int x3_3), some (.int (x3_3 / (4 : Int32))), some (.int (x3_3 - x3_3 / (4 : Int32) * (4 : Int32)))]) X dX4_tightens_23 (Nat.le_of_ble_eq_true rfl) (by first | rfl | simp [stL, rm1, clr2, cat_rf, cat_i, cat_j, cat_f, cat_d]) ?_
          refine g_aload_n X dX4_tightens_25 rfl rfl ?_
          refine g_iload_n X dX4_tightens_26 rfl rfl ?_
          refine g_iload_n X dX4_tightens_27 rfl rfl ?_
          refine g_iadd X dX4_tightens_28 ?_
          refine g_aload_n X dX4_tightens_29 rfl rfl ?_
          refine g_iload_n X dX4_tightens_30 rfl rfl ?_
          refine g_iload_n X dX4_tightens_31 rfl rfl ?_
          refine g_iadd X dX4_tightens_32 ?_
          obtain ⟨v5, ev5, hF⟩ := bnd hF
          refine g_iald X ev5 dX4_tightens_33 ?_
          refine g_aload_n X dX4_tightens_34 rfl rfl ?_
          refine g_iload_n X dX4_tightens_35 rfl rfl ?_
          refine g_iconst (v := (4 : Int32)) X dX4_tightens_36 (by decide) ?_
          refine g_iload X dX4_tightens_37 rfl ?_
          refine g_imul X dX4_tightens_39 ?_
          refine g_iadd X dX4_tightens_40 ?_
          refine g_iload_n X dX4_tightens_41 rfl rfl ?_
          refine g_iadd X dX4_tightens_42 ?_
          obtain ⟨v6, ev6, hF⟩ := bnd hF
          refine g_iald X ev6 dX4_tightens_43 ?_
          refine g_aload_n X dX4_tightens_44 rfl rfl ?_
          refine g_iload_n X dX4_tightens_45 rfl rfl ?_
          refine g_iconst (v := (4 : Int32)) X dX4_tightens_46 (by decide) ?_
          refine g_iload_n X dX4_tightens_47 rfl rfl ?_
          refine g_imul X dX4_tightens_48 ?_
          refine g_iadd X dX4_tightens_49 ?_
          refine g_iload X dX4_tightens_50 rfl ?_
          refine g_iadd X dX4_tightens_52 ?_
          obtain ⟨v7, ev7, hF⟩ := bnd hF
          refine g_iald X ev7 dX4_tightens_53 ?_
          refine g_callS X (w_X4_sum l hl D dA h_3 v6 v7) q1890 q1891 q103 q1892 okn_X4_sum ⟨by rw [hRf]; exact Nat.le_of_ble_eq_true rfl, by rw [hRl]; exact Nat.le_of_ble_eq_true rfl⟩ (As := [.int v6, .int v7]) (rest := [.int v5, .int (a2 + x3_3), va_rf a1]) rfl (by first | exact Nat.le_of_ble_eq_true rfl | simp [cat_rf, cat_i, cat_j, cat_f, cat_d]) dX4_tightens_54 (ac_v ?_)
          refine g_callS X (w_X4_less l hl D dA h_3 v5 (F_X4_sum v6 v7)) q1893 q1894 q103 q1895 okn_X4_less ⟨by rw [hRf]; exact Nat.le_of_ble_eq_true rfl, by rw [hRl]; exact Nat.le_of_ble_eq_true rfl⟩ (As := [.int v5, .int (F_X4_sum v6 v7)]) (rest := [.int (a2 + x3_3), va_rf a1]) rfl (by first | exact Nat.le_of_ble_eq_true rfl | simp [cat_rf, cat_i, cat_j, cat_f, cat_d]) dX4_tightens_57 (ac_v ?_)
          obtain ⟨h8, eh8, hF⟩ := bnd hF
          refine g_iast X eh8 dX4_tightens_60 ?_
          refine g_iinc (v := (x3_3 + (1 : Int32))) (L' := [some (va_rf a1), some (.int a2), some (.int x2_1), some (.int (x3_3 + (1 : Int32))), some (.int (x3_3 / (4 : Int32))), some (.int (x3_3 - x3_3 / (4 : Int32) * (4 : Int32)))]) X dX4_tightens_61 (Nat.le_of_ble_eq_true rfl) rfl rfl (by first | rfl | simp [stL, rm1, clr2, cat_rf, cat_i, cat_j, cat_f, cat_d]) ?_
          refine g_goto X 9 dX4_tightens_64 (by decide) ?_
          refine G.drop [true, true, true, true, false, false] rfl ?_
          cases hF
          exact hgo _ rfl
      show G p l e R s m args below meth c (RQ D dA h0 (.inr (some (.int rE)), hE) below s) D dA h0 6 h9 67 [some (va_rf a1), some (.int a2), some (.int x2_1), none, none, none] []
      refine g_iinc (v := (x2_1 + (1 : Int32))) (L' := [some (va_rf a1), some (.int a2), some (.int (x2_1 + (1 : Int32))), none, none, none]) X dX4_tightens_67 (Nat.le_of_ble_eq_true rfl) rfl rfl (by first | rfl | simp [stL, rm1, clr2, cat_rf, cat_i, cat_j, cat_f, cat_d]) ?_
      refine g_goto X 2 dX4_tightens_70 (by decide) ?_
      cases hF
      exact hgo _ rfl
  show G p l e R s m args below meth c (RQ D dA h0 (.inr (some (.int rE)), hE) below s) D dA h0 6 h12 73 [some (va_rf a1), some (.int a2), none, none, none, none] []
  refine g_iconst (v := (1 : Int32)) X dX4_tightens_73 (by decide) ?_
  refine g_istore_n (L' := [some (va_rf a1), some (.int a2), some (.int (1 : Int32)), none, none, none]) X dX4_tightens_74 rfl (Nat.le_of_ble_eq_true rfl) (by first | rfl | simp [stL, rm1, clr2, cat_rf, cat_i, cat_j, cat_f, cat_d]) ?_
  refine g_iconst (v := (0 : Int32)) X dX4_tightens_75 (by decide) ?_
  refine g_istore_n (L' := [some (va_rf a1), some (.int a2), some (.int (1 : Int32)), some (.int (0 : Int32)), none, none]) X dX4_tightens_76 rfl (Nat.le_of_ble_eq_true rfl) (by first | rfl | simp [stL, rm1, clr2, cat_rf, cat_i, cat_j, cat_f, cat_d]) ?_
  obtain ⟨v18, e20, hF⟩ := bnd hF
  refine lp_ind (Gs := (fun z => G p l e R s m args below meth c (RQ D dA h0 (.inr (some (.int rE)), hE) below s) D dA h0 6 h12 77 [some (va_rf a1), some (.int a2), some (.int z.1), some (.int z.2), none, none] [])) (Ge := (fun z => G p l e R s m args below meth c (RQ D dA h0 (.inr (some (.int rE)), hE) below s) D dA h0 6 h12 108 [none, none, some (.int z), none, none, none] [])) ?_ _ _ _ e20 ?_
  · rintro ⟨x2_13, x3_13⟩ o hF hgo hr
    change F_X4_tightens_B77 a1 a2 x2_13 x3_13 h12 = some o at hF
    unfold F_X4_tightens_B77 at hF
    show G p l e R s m args below meth c (RQ D dA h0 (.inr (some (.int rE)), hE) below s) D dA h0 6 h12 77 [some (va_rf a1), some (.int a2), some (.int x2_13), some (.int x3_13), none, none] []
    refine g_iload_n X dX4_tightens_77 rfl rfl ?_
    refine g_iconst (v := (4 : Int32)) X dX4_tightens_78 (by decide) ?_
    refine g_icmp_ge X 108 dX4_tightens_79 (by decide) (fun c14 => ?_) (fun c14 => ?_)
    · have hF := (if_pos c14).symm.trans hF
      refine G.drop [false, false, true, false, false, false] rfl ?_
      cases hF
      exact hr _ rfl
    · have hF := (if_neg c14).symm.trans hF
      refine g_iload_n X dX4_tightens_82 rfl rfl ?_
      refine g_if_eq X 100 dX4_tightens_83 (by decide) (fun c15 => ?_) (fun c15 => ?_)
      · have hF := (if_pos c15).symm.trans hF
        refine g_iconst (v := (0 : Int32)) X dX4_tightens_100 (by decide) ?_
        refine g_istore_n (L' := [some (va_rf a1), some (.int a2), some (.int (0 : Int32)), some (.int x3_13), none, none]) X dX4_tightens_101 rfl (Nat.le_of_ble_eq_true rfl) (by first | rfl | simp [stL, rm1, clr2, cat_rf, cat_i, cat_j, cat_f, cat_d]) ?_
        refine g_iinc (v := (x3_13 + (1 : Int32))) (L' := [some (va_rf a1), some (.int a2), some (.int (0 : Int32)), some (.int (x3_13 + (1 : Int32))), none, none]) X dX4_tightens_102 (Nat.le_of_ble_eq_true rfl) rfl rfl (by first | rfl | simp [stL, rm1, clr2, cat_rf, cat_i, cat_j, cat_f, cat_d]) ?_
        refine g_goto X 77 dX4_tightens_105 (by decide) ?_
        cases hF
        exact hgo _ rfl
      · have hF := (if_neg c15).symm.trans hF
        refine g_aload_n X dX4_tightens_86 rfl rfl ?_
        refine g_iload_n X dX4_tightens_87 rfl rfl ?_
        refine g_iconst (v := (5 : Int32)) X dX4_tightens_88 (by decide) ?_
        refine g_iload_n X dX4_tightens_89 rfl rfl ?_
        refine g_imul X dX4_tightens_90 ?_
        refine g_iadd X dX4_tightens_91 ?_
        obtain ⟨v16, ev16, hF⟩ := bnd hF
        refine g_iald X ev16 dX4_tightens_92 ?_
        suffices K : G p l e R s m args below meth c (RQ D dA h0 (.inr (some (.int rE)), hE) below s) D dA h0 6 h12 101 [some (va_rf a1), some (.int a2), none, some (.int x3_13), none, none] [.int (if v16 < 0 then (0 : Int32) else (1 : Int32))] by
          refine g_if_lt X 100 dX4_tightens_93 (by decide) (fun c17 => ?_) (fun c17 => ?_)
          · (try simp only [if_pos c17] at K)
            refine g_iconst (v := (0 : Int32)) X dX4_tightens_100 (by decide) ?_
            refine G.drop [true, true, false, true, false, false] rfl ?_
            first | exact K | (simp only [if_pos c17]; exact K)
          · (try simp only [if_neg c17] at K)
            refine g_iconst (v := (1 : Int32)) X dX4_tightens_96 (by decide) ?_
            refine g_goto X 101 dX4_tightens_97 (by decide) ?_
            refine G.drop [true, true, false, true, false, false] rfl ?_
            first | exact K | (simp only [if_neg c17]; exact K)
        refine g_istore_n (L' := [some (va_rf a1), some (.int a2), some (.int (if v16 < 0 then (0 : Int32) else (1 : Int32))), some (.int x3_13), none, none]) X dX4_tightens_101 rfl (Nat.le_of_ble_eq_true rfl) (by first | rfl | simp [stL, rm1, clr2, cat_rf, cat_i, cat_j, cat_f, cat_d]) ?_
        refine g_iinc (v := (x3_13 + (1 : Int32))) (L' := [some (va_rf a1), some (.int a2), some (.int (if v16 < 0 then (0 : Int32) else (1 : Int32))), some (.int (x3_13 + (1 : Int32))), none, none]) X dX4_tightens_102 (Nat.le_of_ble_eq_true rfl) rfl rfl (by first | rfl | simp [stL, rm1, clr2, cat_rf, cat_i, cat_j, cat_f, cat_d]) ?_
        refine g_goto X 77 dX4_tightens_105 (by decide) ?_
        cases hF
        exact hgo _ rfl
  show G p l e R s m args below meth c (RQ D dA h0 (.inr (some (.int rE)), hE) below s) D dA h0 6 h12 108 [none, none, some (.int v18), none, none, none] []
  refine g_iload_n X dX4_tightens_108 rfl rfl ?_
  obtain ⟨_, z19, hF⟩ := bnd hF
  cases hF
  exact g_zret X hr (narZ z19) dX4_tightens_109
def F_X4_looks (this : Nat) (h0 : HH) : Option (Int32 × HH) :=
  Option.bind (getR h0 1 0 (some this)) fun v1 =>
  Option.bind (getR h0 1 9 (some this)) fun v2 =>
  Option.bind (F_X4_carries v1 (0 : Int32) v2 (0 : Int32) h0) fun h3 =>
  Option.bind (getR h3 1 9 (some this)) fun v4 =>
  b2 (F_X4_tightens v4 (0 : Int32) h3) fun v6 h5 =>
  Option.bind (okZ v6) fun _ =>
  some (v6, h5)
set_option maxHeartbeats 4000000 in
theorem w_X4_looks (l : Launch) (hl : l.stackTraces = false) (D : va_G) (dA : Nat → ClassId) (h0 : HH) (this : Nat) (rE : Int32) (hE : HH) (hF : F_X4_looks this h0 = some (rE, hE)) : MC D dA l yX4_looks cX4_looks 1 (Option.some Jvm.ClassFile.FieldType.boolean) [] 2 46 [va_rf (some this)] h0 (.inr (some (.int rE)), hE) := by
  refine mc_of hl (plainFor_of_name pn_X4) (by simp [lg_sl, cat_rf, cat_i, cat_j, cat_f, cat_d]) ?_
  intro p e s m args below meth c R hRf hRl X hr hnm
  unfold F_X4_looks at hF
  rw [show argL [va_rf (some this)] = [some (va_rf (some this))] from by simp [argL, cat_rf, cat_i, cat_j, cat_f, cat_d]]
  refine g_aload_n X dX4_looks_0 rfl rfl ?_
  obtain ⟨v1, ev1, hF⟩ := bnd hF
  refine g_get (k := 0) X in_X4 rfl (by decide) q1763 (Or.inl rfl) (getR_V ev1) dX4_looks_1 ?_
  refine g_iconst (v := (0 : Int32)) X dX4_looks_4 (by decide) ?_
  refine g_aload_n X dX4_looks_5 rfl rfl ?_
  obtain ⟨v2, ev2, hF⟩ := bnd hF
  refine g_get (k := 9) X in_X4 rfl (by decide) q1772 (Or.inl rfl) (getR_V ev2) dX4_looks_6 ?_
  refine g_iconst (v := (0 : Int32)) X dX4_looks_9 (by decide) ?_
  obtain ⟨h3, eh3, hF⟩ := bnd hF
  refine g_callS X (w_X4_carries l hl D dA h0 v1 (0 : Int32) v2 (0 : Int32) h3 eh3) q1884 q1885 q103 q1886 okn_X4_carries ⟨by rw [hRf]; exact Nat.le_of_ble_eq_true rfl, by rw [hRl]; exact Nat.le_of_ble_eq_true rfl⟩ (As := [va_rf v1, .int (0 : Int32), va_rf v2, .int (0 : Int32)]) (rest := []) rfl (by first | exact Nat.le_of_ble_eq_true rfl | simp [cat_rf, cat_i, cat_j, cat_f, cat_d]) dX4_looks_10 (ac_0 ?_)
  refine g_aload_n X dX4_looks_13 rfl rfl ?_
  obtain ⟨v4, ev4, hF⟩ := bnd hF
  refine g_get (k := 9) X in_X4 rfl (by decide) q1772 (Or.inl rfl) (getR_V ev4) dX4_looks_14 ?_
  refine g_iconst (v := (0 : Int32)) X dX4_looks_17 (by decide) ?_
  obtain ⟨v6, h5, eh5, hF⟩ := b2_some hF
  refine g_callS X (w_X4_tightens l hl D dA h3 v4 (0 : Int32) v6 h5 eh5) q1887 q1888 q103 q1889 okn_X4_tightens ⟨by rw [hRf]; exact Nat.le_of_ble_eq_true rfl, by rw [hRl]; exact Nat.le_of_ble_eq_true rfl⟩ (As := [va_rf v4, .int (0 : Int32)]) (rest := []) rfl (by first | exact Nat.le_of_ble_eq_true rfl | simp [cat_rf, cat_i, cat_j, cat_f, cat_d]) dX4_looks_18 (ac_v ?_)
  obtain ⟨_, z7, hF⟩ := bnd hF
  cases hF
  exact g_zret X hr (narZ z7) dX4_looks_21
def F_X4_isTooLate_B9 (this : Nat) (k1_4 : Int32) (x2_4 : Int32) (x3_4 : Int32) (h2 : HH) : Option ((Int32 × Int32) ⊕ Int32) :=
  if (3 : Int32) ≤ x3_4 then (
    some (.inr x2_4)
  ) else (
    if x2_4 = 0 then (
      Option.bind (getR h2 1 9 (some this)) fun v7 =>
      Option.bind (aldI h2 0 v7 ((12 : Int32) + x3_4)) fun v8 =>
      some (.inl ((if (-30 : Int32) ≤ v8 then (0 : Int32) else (1 : Int32)), (x3_4 + (1 : Int32))))
    ) else (
      some (.inl ((1 : Int32), (x3_4 + (1 : Int32))))
    )
  )
def F_X4_isTooLate (this : Nat) (h0 : HH) : Option (Int32 × HH) :=
  Option.bind (isO h0 1 (some this)) fun ob1 =>
  b2 (F_X4_looks ob1 h0) fun v3 h2 =>
  Option.bind (lp (fun z => F_X4_isTooLate_B9 this v3 z.1 z.2 h2) 100000 ((0 : Int32), (0 : Int32))) fun v10 =>
  some ((if v3 = 0 then (0 : Int32) else (if v10 = 0 then (0 : Int32) else (1 : Int32))), h2)
set_option maxHeartbeats 4000000 in
theorem w_X4_isTooLate (l : Launch) (hl : l.stackTraces = false) (D : va_G) (dA : Nat → ClassId) (h0 : HH) (this : Nat) (rE : Int32) (hE : HH) (hF : F_X4_isTooLate this h0 = some (rE, hE)) : MC D dA l yX4_isTooLate cX4_isTooLate 4 (Option.some Jvm.ClassFile.FieldType.boolean) [] 3 66 [va_rf (some this)] h0 (.inr (some (.int rE)), hE) := by
  refine mc_of hl (plainFor_of_name pn_X4) (by simp [lg_sl, cat_rf, cat_i, cat_j, cat_f, cat_d]) ?_
  intro p e s m args below meth c R hRf hRl X hr hnm
  unfold F_X4_isTooLate at hF
  rw [show argL [va_rf (some this)] = [some (va_rf (some this))] from by simp [argL, cat_rf, cat_i, cat_j, cat_f, cat_d]]
  refine G.pad 3 (L' := [some (va_rf (some this)), none, none, none]) rfl ?_
  refine g_aload_n X dX4_isTooLate_0 rfl rfl ?_
  obtain ⟨ob1, eob1, hF⟩ := bnd hF
  obtain ⟨v3, h2, eh2, hF⟩ := b2_some hF
  refine g_callV X eob1 rfl rfl (w_X4_looks l hl D dA h0 ob1  v3 h2 eh2) q1880 q1882 qs34 q103 q1883 okn_X4_looks ⟨by rw [hRf]; exact Nat.le_of_ble_eq_true rfl, by rw [hRl]; exact Nat.le_of_ble_eq_true rfl⟩ (As := []) (rest := []) rfl (by first | exact Nat.le_of_ble_eq_true rfl | simp [cat_rf, cat_i, cat_j, cat_f, cat_d]) dX4_isTooLate_1 (ac_v ?_)
  refine g_istore_n (L' := [some (va_rf (some this)), some (.int v3), none, none]) X dX4_isTooLate_4 rfl (Nat.le_of_ble_eq_true rfl) (by first | rfl | simp [stL, rm1, clr2, cat_rf, cat_i, cat_j, cat_f, cat_d]) ?_
  refine g_iconst (v := (0 : Int32)) X dX4_isTooLate_5 (by decide) ?_
  refine g_istore_n (L' := [some (va_rf (some this)), some (.int v3), some (.int (0 : Int32)), none]) X dX4_isTooLate_6 rfl (Nat.le_of_ble_eq_true rfl) (by first | rfl | simp [stL, rm1, clr2, cat_rf, cat_i, cat_j, cat_f, cat_d]) ?_
  refine g_iconst (v := (0 : Int32)) X dX4_isTooLate_7 (by decide) ?_
  refine g_istore_n (L' := [some (va_rf (some this)), some (.int v3), some (.int (0 : Int32)), some (.int (0 : Int32))]) X dX4_isTooLate_8 rfl (Nat.le_of_ble_eq_true rfl) (by first | rfl | simp [stL, rm1, clr2, cat_rf, cat_i, cat_j, cat_f, cat_d]) ?_
  obtain ⟨v10, e13, hF⟩ := bnd hF
  refine lp_ind (Gs := (fun z => G p l e R s m args below meth c (RQ D dA h0 (.inr (some (.int rE)), hE) below s) D dA h0 4 h2 9 [some (va_rf (some this)), some (.int v3), some (.int z.1), some (.int z.2)] [])) (Ge := (fun z => G p l e R s m args below meth c (RQ D dA h0 (.inr (some (.int rE)), hE) below s) D dA h0 4 h2 44 [none, some (.int v3), some (.int z), none] [])) ?_ _ _ _ e13 ?_
  · rintro ⟨x2_4, x3_4⟩ o hF hgo hr
    change F_X4_isTooLate_B9 this v3 x2_4 x3_4 h2 = some o at hF
    generalize v3 = k1_4 at hF hgo hr ⊢
    unfold F_X4_isTooLate_B9 at hF
    show G p l e R s m args below meth c (RQ D dA h0 (.inr (some (.int rE)), hE) below s) D dA h0 4 h2 9 [some (va_rf (some this)), some (.int k1_4), some (.int x2_4), some (.int x3_4)] []
    refine g_iload_n X dX4_isTooLate_9 rfl rfl ?_
    refine g_iconst (v := (3 : Int32)) X dX4_isTooLate_10 (by decide) ?_
    refine g_icmp_ge X 44 dX4_isTooLate_11 (by decide) (fun c5 => ?_) (fun c5 => ?_)
    · have hF := (if_pos c5).symm.trans hF
      refine G.drop [false, true, true, false] rfl ?_
      cases hF
      exact hr _ rfl
    · have hF := (if_neg c5).symm.trans hF
      refine g_iload_n X dX4_isTooLate_14 rfl rfl ?_
      refine g_if_ne X 32 dX4_isTooLate_15 (by decide) (fun c6 => ?_) (fun c6 => ?_)
      · have hF := (if_neg c6).symm.trans hF
        refine g_iconst (v := (1 : Int32)) X dX4_isTooLate_32 (by decide) ?_
        refine g_goto X 37 dX4_isTooLate_33 (by decide) ?_
        refine g_istore_n (L' := [some (va_rf (some this)), some (.int k1_4), some (.int (1 : Int32)), some (.int x3_4)]) X dX4_isTooLate_37 rfl (Nat.le_of_ble_eq_true rfl) (by first | rfl | simp [stL, rm1, clr2, cat_rf, cat_i, cat_j, cat_f, cat_d]) ?_
        refine g_iinc (v := (x3_4 + (1 : Int32))) (L' := [some (va_rf (some this)), some (.int k1_4), some (.int (1 : Int32)), some (.int (x3_4 + (1 : Int32)))]) X dX4_isTooLate_38 (Nat.le_of_ble_eq_true rfl) rfl rfl (by first | rfl | simp [stL, rm1, clr2, cat_rf, cat_i, cat_j, cat_f, cat_d]) ?_
        refine g_goto X 9 dX4_isTooLate_41 (by decide) ?_
        cases hF
        exact hgo _ rfl
      · have hF := (if_pos c6).symm.trans hF
        refine g_aload_n X dX4_isTooLate_18 rfl rfl ?_
        obtain ⟨v7, ev7, hF⟩ := bnd hF
        refine g_get (k := 9) X in_X4 rfl (by decide) q1772 (Or.inl rfl) (getR_V ev7) dX4_isTooLate_19 ?_
        refine g_bipush (v := (12 : Int32)) X dX4_isTooLate_22 (by decide) ?_
        refine g_iload_n X dX4_isTooLate_24 rfl rfl ?_
        refine g_iadd X dX4_isTooLate_25 ?_
        obtain ⟨v8, ev8, hF⟩ := bnd hF
        refine g_iald X ev8 dX4_isTooLate_26 ?_
        refine g_bipush (v := (-30 : Int32)) X dX4_isTooLate_27 (by decide) ?_
        suffices K : G p l e R s m args below meth c (RQ D dA h0 (.inr (some (.int rE)), hE) below s) D dA h0 4 h2 37 [some (va_rf (some this)), some (.int k1_4), none, some (.int x3_4)] [.int (if (-30 : Int32) ≤ v8 then (0 : Int32) else (1 : Int32))] by
          refine g_icmp_ge X 36 dX4_isTooLate_29 (by decide) (fun c9 => ?_) (fun c9 => ?_)
          · (try simp only [if_pos c9] at K)
            refine g_iconst (v := (0 : Int32)) X dX4_isTooLate_36 (by decide) ?_
            refine G.drop [true, true, false, true] rfl ?_
            first | exact K | (simp only [if_pos c9]; exact K)
          · (try simp only [if_neg c9] at K)
            refine g_iconst (v := (1 : Int32)) X dX4_isTooLate_32 (by decide) ?_
            refine g_goto X 37 dX4_isTooLate_33 (by decide) ?_
            refine G.drop [true, true, false, true] rfl ?_
            first | exact K | (simp only [if_neg c9]; exact K)
        refine g_istore_n (L' := [some (va_rf (some this)), some (.int k1_4), some (.int (if (-30 : Int32) ≤ v8 then (0 : Int32) else (1 : Int32))), some (.int x3_4)]) X dX4_isTooLate_37 rfl (Nat.le_of_ble_eq_true rfl) (by first | rfl | simp [stL, rm1, clr2, cat_rf, cat_i, cat_j, cat_f, cat_d]) ?_
        refine g_iinc (v := (x3_4 + (1 : Int32))) (L' := [some (va_rf (some this)), some (.int k1_4), some (.int (if (-30 : Int32) ≤ v8 then (0 : Int32) else (1 : Int32))), some (.int (x3_4 + (1 : Int32)))]) X dX4_isTooLate_38 (Nat.le_of_ble_eq_true rfl) rfl rfl (by first | rfl | simp [stL, rm1, clr2, cat_rf, cat_i, cat_j, cat_f, cat_d]) ?_
        refine g_goto X 9 dX4_isTooLate_41 (by decide) ?_
        cases hF
        exact hgo _ rfl
  show G p l e R s m args below meth c (RQ D dA h0 (.inr (some (.int rE)), hE) below s) D dA h0 4 h2 44 [none, some (.int v3), some (.int v10), none] []
  refine g_iload_n X dX4_isTooLate_44 rfl rfl ?_
  suffices K : G p l e R s m args below meth c (RQ D dA h0 (.inr (some (.int rE)), hE) below s) D dA h0 4 h2 57 [none, none, none, none] [.int (if v3 = 0 then (0 : Int32) else (if v10 = 0 then (0 : Int32) else (1 : Int32)))] by
    refine g_if_eq X 56 dX4_isTooLate_45 (by decide) (fun c11 => ?_) (fun c11 => ?_)
    · (try simp only [if_pos c11] at K)
      refine g_iconst (v := (0 : Int32)) X dX4_isTooLate_56 (by decide) ?_
      refine G.drop [false, false, false, false] rfl ?_
      first | exact K | (simp only [if_pos c11]; exact K)
    · (try simp only [if_neg c11] at K)
      refine g_iload_n X dX4_isTooLate_48 rfl rfl ?_
      refine g_if_eq X 56 dX4_isTooLate_49 (by decide) (fun c12 => ?_) (fun c12 => ?_)
      · (try simp only [if_pos c12] at K)
        refine g_iconst (v := (0 : Int32)) X dX4_isTooLate_56 (by decide) ?_
        refine G.drop [false, false, false, false] rfl ?_
        first | exact K | (simp only [if_neg c11, if_pos c12]; exact K)
      · (try simp only [if_neg c12] at K)
        refine g_iconst (v := (1 : Int32)) X dX4_isTooLate_52 (by decide) ?_
        refine g_goto X 57 dX4_isTooLate_53 (by decide) ?_
        refine G.drop [false, false, false, false] rfl ?_
        first | exact K | (simp only [if_neg c11, if_neg c12]; exact K)
  cases hF
  exact g_zret X hr (by (repeat' split) <;> rfl) dX4_isTooLate_57
def F_X4_goTell_T80 (this : Nat) (a1 : Int32) (a2 : Int32) (a3 : Int32) (t5_80 : Int32) (y0_80 : Int32) (y1_80 : Int32) (y2_80 : Option Nat) (h_80 : HH) : Option (Int32 × HH) :=
  Option.bind (astI h_80 y2_80 y1_80 y0_80) fun h8 =>
  Option.bind (isO h8 1 (some this)) fun ob9 =>
  b2 (F_X4_isTooLate ob9 h8) fun v11 h10 =>
  some ((if v11 = 0 then (if t5_80 = 0 then (0 : Int32) else (1 : Int32)) else (-12 : Int32)), h10)
def F_X4_goTell (this : Nat) (a1 : Int32) (a2 : Int32) (a3 : Int32) (h0 : HH) : Option (Int32 × HH) :=
  if (F_X4_arePair a1 a2) = 0 then (
    some ((-11 : Int32), h0)
  ) else (
    if (F_X4_in a3 (-9 : Int32) (if a1 = (3 : Int32) then (0 : Int32) else (9 : Int32))) = 0 then (
      some ((-11 : Int32), h0)
    ) else (
      Option.bind (getR h0 1 0 (some this)) fun v4 =>
      Option.bind (aldI h0 0 v4 (((0 : Int32) + ((4 : Int32) * a1)) + a2)) fun v5 =>
      Option.bind (getR h0 1 0 (some this)) fun v7 =>
      if (if v5 ≤ a3 then (0 : Int32) else (1 : Int32)) = 0 then (
        Option.bind (getR h0 1 0 (some this)) fun v15 =>
        Option.bind (aldI h0 0 v15 (((0 : Int32) + ((4 : Int32) * a1)) + a2)) fun v16 =>
        F_X4_goTell_T80 this a1 a2 a3 (if v5 ≤ a3 then (0 : Int32) else (1 : Int32)) v16 (((0 : Int32) + ((4 : Int32) * a1)) + a2) v7 h0
      ) else (
        F_X4_goTell_T80 this a1 a2 a3 (if v5 ≤ a3 then (0 : Int32) else (1 : Int32)) a3 (((0 : Int32) + ((4 : Int32) * a1)) + a2) v7 h0
      )
    )
  )
set_option maxHeartbeats 4000000 in
theorem w_X4_goTell (l : Launch) (hl : l.stackTraces = false) (D : va_G) (dA : Nat → ClassId) (h0 : HH) (this : Nat) (a1 : Int32) (a2 : Int32) (a3 : Int32) (rE : Int32) (hE : HH) (hF : F_X4_goTell this a1 a2 a3 h0 = some (rE, hE)) : MC D dA l yX4_goTell cX4_goTell 6 (Option.some Jvm.ClassFile.FieldType.int) [] 4 89 [va_rf (some this), .int a1, .int a2, .int a3] h0 (.inr (some (.int rE)), hE) := by
  refine mc_of hl (plainFor_of_name pn_X4) (by simp [lg_sl, cat_rf, cat_i, cat_j, cat_f, cat_d]) ?_
  intro p e s m args below meth c R hRf hRl X hr hnm
  unfold F_X4_goTell at hF
  rw [show argL [va_rf (some this), .int a1, .int a2, .int a3] = [some (va_rf (some this)), some (.int a1), some (.int a2), some (.int a3)] from by simp [argL, cat_rf, cat_i, cat_j, cat_f, cat_d]]
  refine G.pad 2 (L' := [some (va_rf (some this)), some (.int a1), some (.int a2), some (.int a3), none, none]) rfl ?_
  refine g_iload_n X dX4_goTell_0 rfl rfl ?_
  refine g_iload_n X dX4_goTell_1 rfl rfl ?_
  refine g_callS X (w_X4_arePair l hl D dA h0 a1 a2) q1870 q1871 q103 q1872 okn_X4_arePair ⟨by rw [hRf]; exact Nat.le_of_ble_eq_true rfl, by rw [hRl]; exact Nat.le_of_ble_eq_true rfl⟩ (As := [.int a1, .int a2]) (rest := []) rfl (by first | exact Nat.le_of_ble_eq_true rfl | simp [cat_rf, cat_i, cat_j, cat_f, cat_d]) dX4_goTell_2 (ac_v ?_)
  refine g_if_eq X 28 dX4_goTell_5 (by decide) (fun c1 => ?_) (fun c1 => ?_)
  · have hF := (if_pos c1).symm.trans hF
    refine g_bipush (v := (-11 : Int32)) X dX4_goTell_28 (by decide) ?_
    cases hF
    exact g_iret X hr dX4_goTell_30
  · have hF := (if_neg c1).symm.trans hF
    refine g_iload_n X dX4_goTell_8 rfl rfl ?_
    refine g_bipush (v := (-9 : Int32)) X dX4_goTell_9 (by decide) ?_
    refine g_iload_n X dX4_goTell_11 rfl rfl ?_
    refine g_iconst (v := (3 : Int32)) X dX4_goTell_12 (by decide) ?_
    suffices K : G p l e R s m args below meth c (RQ D dA h0 (.inr (some (.int rE)), hE) below s) D dA h0 6 h0 22 [some (va_rf (some this)), some (.int a1), some (.int a2), some (.int a3), none, none] [.int (if a1 = (3 : Int32) then (0 : Int32) else (9 : Int32)), .int (-9 : Int32), .int a3] by
      refine g_icmp_ne X 20 dX4_goTell_13 (by decide) (fun c2 => ?_) (fun c2 => ?_)
      · (try simp only [if_neg c2] at K)
        refine g_bipush (v := (9 : Int32)) X dX4_goTell_20 (by decide) ?_
        first | exact K | (simp only [if_neg c2]; exact K)
      · (try simp only [if_pos c2] at K)
        refine g_iconst (v := (0 : Int32)) X dX4_goTell_16 (by decide) ?_
        refine g_goto X 22 dX4_goTell_17 (by decide) ?_
        first | exact K | (simp only [if_pos c2]; exact K)
    refine g_callS X (w_X4_in l hl D dA h0 a3 (-9 : Int32) (if a1 = (3 : Int32) then (0 : Int32) else (9 : Int32))) q1873 q1874 q103 q1875 okn_X4_in ⟨by rw [hRf]; exact Nat.le_of_ble_eq_true rfl, by rw [hRl]; exact Nat.le_of_ble_eq_true rfl⟩ (As := [.int a3, .int (-9 : Int32), .int (if a1 = (3 : Int32) then (0 : Int32) else (9 : Int32))]) (rest := []) rfl (by first | exact Nat.le_of_ble_eq_true rfl | simp [cat_rf, cat_i, cat_j, cat_f, cat_d]) dX4_goTell_22 (ac_v ?_)
    refine g_if_ne X 31 dX4_goTell_25 (by decide) (fun c3 => ?_) (fun c3 => ?_)
    · have hF := (if_neg c3).symm.trans hF
      refine g_iconst (v := (0 : Int32)) X dX4_goTell_31 (by decide) ?_
      refine g_iconst (v := (4 : Int32)) X dX4_goTell_32 (by decide) ?_
      refine g_iload_n X dX4_goTell_33 rfl rfl ?_
      refine g_imul X dX4_goTell_34 ?_
      refine g_iadd X dX4_goTell_35 ?_
      refine g_iload_n X dX4_goTell_36 rfl rfl ?_
      refine g_iadd X dX4_goTell_37 ?_
      refine g_istore (L' := [some (va_rf (some this)), some (.int a1), some (.int a2), some (.int a3), some (.int (((0 : Int32) + ((4 : Int32) * a1)) + a2)), none]) X dX4_goTell_38 (Nat.le_of_ble_eq_true rfl) (by first | rfl | simp [stL, rm1, clr2, cat_rf, cat_i, cat_j, cat_f, cat_d]) ?_
      refine g_aload_n X dX4_goTell_40 rfl rfl ?_
      obtain ⟨v4, ev4, hF⟩ := bnd hF
      refine g_get (k := 0) X in_X4 rfl (by decide) q1763 (Or.inl rfl) (getR_V ev4) dX4_goTell_41 ?_
      refine g_iload X dX4_goTell_44 rfl ?_
      obtain ⟨v5, ev5, hF⟩ := bnd hF
      refine g_iald X ev5 dX4_goTell_46 ?_
      refine g_iload_n X dX4_goTell_47 rfl rfl ?_
      suffices K : G p l e R s m args below meth c (RQ D dA h0 (.inr (some (.int rE)), hE) below s) D dA h0 6 h0 56 [some (va_rf (some this)), none, none, some (.int a3), some (.int (((0 : Int32) + ((4 : Int32) * a1)) + a2)), none] [.int (if v5 ≤ a3 then (0 : Int32) else (1 : Int32))] by
        refine g_icmp_le X 55 dX4_goTell_48 (by decide) (fun c6 => ?_) (fun c6 => ?_)
        · (try simp only [if_pos c6] at K)
          refine g_iconst (v := (0 : Int32)) X dX4_goTell_55 (by decide) ?_
          refine G.drop [true, false, false, true, true, false] rfl ?_
          first | exact K | (simp only [if_pos c6]; exact K)
        · (try simp only [if_neg c6] at K)
          refine g_iconst (v := (1 : Int32)) X dX4_goTell_51 (by decide) ?_
          refine g_goto X 56 dX4_goTell_52 (by decide) ?_
          refine G.drop [true, false, false, true, true, false] rfl ?_
          first | exact K | (simp only [if_neg c6]; exact K)
      refine g_istore (L' := [some (va_rf (some this)), none, none, some (.int a3), some (.int (((0 : Int32) + ((4 : Int32) * a1)) + a2)), some (.int (if v5 ≤ a3 then (0 : Int32) else (1 : Int32)))]) X dX4_goTell_56 (Nat.le_of_ble_eq_true rfl) (by first | rfl | simp [stL, rm1, clr2, cat_rf, cat_i, cat_j, cat_f, cat_d]) ?_
      refine g_aload_n X dX4_goTell_58 rfl rfl ?_
      obtain ⟨v7, ev7, hF⟩ := bnd hF
      refine g_get (k := 0) X in_X4 rfl (by decide) q1763 (Or.inl rfl) (getR_V ev7) dX4_goTell_59 ?_
      refine g_iload X dX4_goTell_62 rfl ?_
      refine g_iload X dX4_goTell_64 rfl ?_
      have T80 : ∀ (t5_80 : Int32) (y0_80 : Int32) (y1_80 : Int32) (y2_80 : Option Nat) (h_80 : HH) , F_X4_goTell_T80 this a1 a2 a3 t5_80 y0_80 y1_80 y2_80 h_80 = some (rE, hE) → G p l e R s m args below meth c (RQ D dA h0 (.inr (some (.int rE)), hE) below s) D dA h0 6 h_80 80 [some (va_rf (some this)), none, none, none, none, some (.int t5_80)] [.int y0_80, .int y1_80, va_rf y2_80] := by
        intro t5_80 y0_80 y1_80 y2_80 h_80  hF 
        unfold F_X4_goTell_T80 at hF
        obtain ⟨h8, eh8, hF⟩ := bnd hF
        refine g_iast X eh8 dX4_goTell_80 ?_
        refine g_aload_n X dX4_goTell_81 rfl rfl ?_
        obtain ⟨ob9, eob9, hF⟩ := bnd hF
        obtain ⟨v11, h10, eh10, hF⟩ := b2_some hF
        refine g_callV X eob9 rfl rfl (w_X4_isTooLate l hl D dA h8 ob9  v11 h10 eh10) q1876 q1878 qs33 q103 q1879 okn_X4_isTooLate ⟨by rw [hRf]; exact Nat.le_of_ble_eq_true rfl, by rw [hRl]; exact Nat.le_of_ble_eq_true rfl⟩ (As := []) (rest := []) rfl (by first | exact Nat.le_of_ble_eq_true rfl | simp [cat_rf, cat_i, cat_j, cat_f, cat_d]) dX4_goTell_82 (ac_v ?_)
        suffices K : G p l e R s m args below meth c (RQ D dA h0 (.inr (some (.int rE)), hE) below s) D dA h0 6 h10 103 [none, none, none, none, none, none] [.int (if v11 = 0 then (if t5_80 = 0 then (0 : Int32) else (1 : Int32)) else (-12 : Int32))] by
          refine g_if_eq X 93 dX4_goTell_85 (by decide) (fun c12 => ?_) (fun c12 => ?_)
          · (try simp only [if_pos c12] at K)
            refine g_iload X dX4_goTell_93 rfl ?_
            refine g_if_eq X 102 dX4_goTell_95 (by decide) (fun c13 => ?_) (fun c13 => ?_)
            · (try simp only [if_pos c13] at K)
              refine g_iconst (v := (0 : Int32)) X dX4_goTell_102 (by decide) ?_
              refine G.drop [false, false, false, false, false, false] rfl ?_
              first | exact K | (simp only [if_pos c12, if_pos c13]; exact K)
            · (try simp only [if_neg c13] at K)
              refine g_iconst (v := (1 : Int32)) X dX4_goTell_98 (by decide) ?_
              refine g_goto X 103 dX4_goTell_99 (by decide) ?_
              refine G.drop [false, false, false, false, false, false] rfl ?_
              first | exact K | (simp only [if_pos c12, if_neg c13]; exact K)
          · (try simp only [if_neg c12] at K)
            refine g_bipush (v := (-12 : Int32)) X dX4_goTell_88 (by decide) ?_
            refine g_goto X 103 dX4_goTell_90 (by decide) ?_
            refine G.drop [false, false, false, false, false, false] rfl ?_
            first | exact K | (simp only [if_neg c12]; exact K)
        cases hF
        exact g_iret X hr dX4_goTell_103
      refine g_if_eq X 73 dX4_goTell_66 (by decide) (fun c14 => ?_) (fun c14 => ?_)
      · have hF := (if_pos c14).symm.trans hF
        refine g_aload_n X dX4_goTell_73 rfl rfl ?_
        obtain ⟨v15, ev15, hF⟩ := bnd hF
        refine g_get (k := 0) X in_X4 rfl (by decide) q1763 (Or.inl rfl) (getR_V ev15) dX4_goTell_74 ?_
        refine g_iload X dX4_goTell_77 rfl ?_
        obtain ⟨v16, ev16, hF⟩ := bnd hF
        refine g_iald X ev16 dX4_goTell_79 ?_
        refine G.drop [true, false, false, false, false, true] rfl ?_
        exact T80 _ _ _ _ _ hF
      · have hF := (if_neg c14).symm.trans hF
        refine g_iload_n X dX4_goTell_69 rfl rfl ?_
        refine g_goto X 80 dX4_goTell_70 (by decide) ?_
        refine G.drop [true, false, false, false, false, true] rfl ?_
        exact T80 _ _ _ _ _ hF
    · have hF := (if_pos c3).symm.trans hF
      refine g_bipush (v := (-11 : Int32)) X dX4_goTell_28 (by decide) ?_
      cases hF
      exact g_iret X hr dX4_goTell_30
def F_X4_tell (this : Nat) (a1 : Int32) (a2 : Int32) (a3 : Int32) (h0 : HH) : Option (Int32 × HH) :=
  Option.bind (isO h0 1 (some this)) fun ob1 =>
  Option.bind (F_X4_begins ob1 h0) fun h2 =>
  Option.bind (isO h2 1 (some this)) fun ob3 =>
  b2 (F_X4_goTell ob3 a1 a2 a3 h2) fun v5 h4 =>
  Option.bind (isO h4 1 (some this)) fun ob6 =>
  b2 (F_X4_ends ob6 v5 h4) fun v8 h7 =>
  some ((if v8 = (1 : Int32) then (1 : Int32) else (0 : Int32)), h7)
set_option maxHeartbeats 4000000 in
theorem w_X4_tell (l : Launch) (hl : l.stackTraces = false) (D : va_G) (dA : Nat → ClassId) (h0 : HH) (this : Nat) (a1 : Int32) (a2 : Int32) (a3 : Int32) (rE : Int32) (hE : HH) (hF : F_X4_tell this a1 a2 a3 h0 = some (rE, hE)) : MC D dA l yX4_tell cX4_tell 4 (Option.some Jvm.ClassFile.FieldType.boolean) [] 5 114 [va_rf (some this), .int a1, .int a2, .int a3] h0 (.inr (some (.int rE)), hE) := by
  refine mc_of hl (plainFor_of_name pn_X4) (by simp [lg_sl, cat_rf, cat_i, cat_j, cat_f, cat_d]) ?_
  intro p e s m args below meth c R hRf hRl X hr hnm
  unfold F_X4_tell at hF
  rw [show argL [va_rf (some this), .int a1, .int a2, .int a3] = [some (va_rf (some this)), some (.int a1), some (.int a2), some (.int a3)] from by simp [argL, cat_rf, cat_i, cat_j, cat_f, cat_d]]
  refine g_aload_n X dX4_tell_0 rfl rfl ?_
  obtain ⟨ob1, eob1, hF⟩ := bnd hF
  obtain ⟨h2, eh2, hF⟩ := bnd hF
  refine g_callV X eob1 rfl rfl (w_X4_begins l hl D dA h0 ob1  h2 eh2) q1859 q1861 qs31 q103 q1862 okn_X4_begins ⟨by rw [hRf]; exact Nat.le_of_ble_eq_true rfl, by rw [hRl]; exact Nat.le_of_ble_eq_true rfl⟩ (As := []) (rest := []) rfl (by first | exact Nat.le_of_ble_eq_true rfl | simp [cat_rf, cat_i, cat_j, cat_f, cat_d]) dX4_tell_1 (ac_0 ?_)
  refine g_aload_n X dX4_tell_4 rfl rfl ?_
  refine g_aload_n X dX4_tell_5 rfl rfl ?_
  refine g_iload_n X dX4_tell_6 rfl rfl ?_
  refine g_iload_n X dX4_tell_7 rfl rfl ?_
  refine g_iload_n X dX4_tell_8 rfl rfl ?_
  obtain ⟨ob3, eob3, hF⟩ := bnd hF
  obtain ⟨v5, h4, eh4, hF⟩ := b2_some hF
  refine g_callV X eob3 rfl rfl (w_X4_goTell l hl D dA h2 ob3 a1 a2 a3 v5 h4 eh4) q1866 q1868 qs32 q103 q1869 okn_X4_goTell ⟨by rw [hRf]; exact Nat.le_of_ble_eq_true rfl, by rw [hRl]; exact Nat.le_of_ble_eq_true rfl⟩ (As := [.int a1, .int a2, .int a3]) (rest := [va_rf (some this)]) rfl (by first | exact Nat.le_of_ble_eq_true rfl | simp [cat_rf, cat_i, cat_j, cat_f, cat_d]) dX4_tell_9 (ac_v ?_)
  obtain ⟨ob6, eob6, hF⟩ := bnd hF
  obtain ⟨v8, h7, eh7, hF⟩ := b2_some hF
  refine g_callV X eob6 rfl rfl (w_X4_ends l hl D dA h4 ob6 v5 v8 h7 eh7) q1896 q1898 qs35 q103 q1899 okn_X4_ends ⟨by rw [hRf]; exact Nat.le_of_ble_eq_true rfl, by rw [hRl]; exact Nat.le_of_ble_eq_true rfl⟩ (As := [.int v5]) (rest := []) rfl (by first | exact Nat.le_of_ble_eq_true rfl | simp [cat_rf, cat_i, cat_j, cat_f, cat_d]) dX4_tell_12 (ac_v ?_)
  refine g_iconst (v := (1 : Int32)) X dX4_tell_15 (by decide) ?_
  suffices K : G p l e R s m args below meth c (RQ D dA h0 (.inr (some (.int rE)), hE) below s) D dA h0 4 h7 24 [none, none, none, none] [.int (if v8 = (1 : Int32) then (1 : Int32) else (0 : Int32))] by
    refine g_icmp_ne X 23 dX4_tell_16 (by decide) (fun c9 => ?_) (fun c9 => ?_)
    · (try simp only [if_neg c9] at K)
      refine g_iconst (v := (0 : Int32)) X dX4_tell_23 (by decide) ?_
      refine G.drop [false, false, false, false] rfl ?_
      first | exact K | (simp only [if_neg c9]; exact K)
    · (try simp only [if_pos c9] at K)
      refine g_iconst (v := (1 : Int32)) X dX4_tell_19 (by decide) ?_
      refine g_goto X 24 dX4_tell_20 (by decide) ?_
      refine G.drop [false, false, false, false] rfl ?_
      first | exact K | (simp only [if_pos c9]; exact K)
  cases hF
  exact g_zret X hr (by (repeat' split) <;> rfl) dX4_tell_24
def F_X4_goForget (this : Nat) (a1 : Int32) (a2 : Int32) (h0 : HH) : Option (Int32 × HH) :=
  if (F_X4_arePair a1 a2) = 0 then (
    some ((-11 : Int32), h0)
  ) else (
    Option.bind (getR h0 1 0 (some this)) fun v3 =>
    Option.bind (aldI h0 0 v3 (((0 : Int32) + ((4 : Int32) * a1)) + a2)) fun v4 =>
    Option.bind (getR h0 1 0 (some this)) fun v6 =>
    Option.bind (astI h0 v6 (((0 : Int32) + ((4 : Int32) * a1)) + a2) (if a1 = (3 : Int32) then (0 : Int32) else (100000 : Int32))) fun h7 =>
    Option.bind (isO h7 1 (some this)) fun ob8 =>
    b2 (F_X4_isTooLate ob8 h7) fun v10 h9 =>
    some ((if v10 = 0 then (if (if v4 = (if a1 = (3 : Int32) then (0 : Int32) else (100000 : Int32)) then (0 : Int32) else (1 : Int32)) = 0 then (0 : Int32) else (1 : Int32)) else (-12 : Int32)), h9)
  )
set_option maxHeartbeats 4000000 in
theorem w_X4_goForget (l : Launch) (hl : l.stackTraces = false) (D : va_G) (dA : Nat → ClassId) (h0 : HH) (this : Nat) (a1 : Int32) (a2 : Int32) (rE : Int32) (hE : HH) (hF : F_X4_goForget this a1 a2 h0 = some (rE, hE)) : MC D dA l yX4_goForget cX4_goForget 6 (Option.some Jvm.ClassFile.FieldType.int) [] 4 89 [va_rf (some this), .int a1, .int a2] h0 (.inr (some (.int rE)), hE) := by
  refine mc_of hl (plainFor_of_name pn_X4) (by simp [lg_sl, cat_rf, cat_i, cat_j, cat_f, cat_d]) ?_
  intro p e s m args below meth c R hRf hRl X hr hnm
  unfold F_X4_goForget at hF
  rw [show argL [va_rf (some this), .int a1, .int a2] = [some (va_rf (some this)), some (.int a1), some (.int a2)] from by simp [argL, cat_rf, cat_i, cat_j, cat_f, cat_d]]
  refine G.pad 3 (L' := [some (va_rf (some this)), some (.int a1), some (.int a2), none, none, none]) rfl ?_
  refine g_iload_n X dX4_goForget_0 rfl rfl ?_
  refine g_iload_n X dX4_goForget_1 rfl rfl ?_
  refine g_callS X (w_X4_arePair l hl D dA h0 a1 a2) q1870 q1871 q103 q1872 okn_X4_arePair ⟨by rw [hRf]; exact Nat.le_of_ble_eq_true rfl, by rw [hRl]; exact Nat.le_of_ble_eq_true rfl⟩ (As := [.int a1, .int a2]) (rest := []) rfl (by first | exact Nat.le_of_ble_eq_true rfl | simp [cat_rf, cat_i, cat_j, cat_f, cat_d]) dX4_goForget_2 (ac_v ?_)
  refine g_if_ne X 11 dX4_goForget_5 (by decide) (fun c1 => ?_) (fun c1 => ?_)
  · have hF := (if_neg c1).symm.trans hF
    refine g_iconst (v := (0 : Int32)) X dX4_goForget_11 (by decide) ?_
    refine g_iconst (v := (4 : Int32)) X dX4_goForget_12 (by decide) ?_
    refine g_iload_n X dX4_goForget_13 rfl rfl ?_
    refine g_imul X dX4_goForget_14 ?_
    refine g_iadd X dX4_goForget_15 ?_
    refine g_iload_n X dX4_goForget_16 rfl rfl ?_
    refine g_iadd X dX4_goForget_17 ?_
    refine g_istore_n (L' := [some (va_rf (some this)), some (.int a1), some (.int a2), some (.int (((0 : Int32) + ((4 : Int32) * a1)) + a2)), none, none]) X dX4_goForget_18 rfl (Nat.le_of_ble_eq_true rfl) (by first | rfl | simp [stL, rm1, clr2, cat_rf, cat_i, cat_j, cat_f, cat_d]) ?_
    refine g_iload_n X dX4_goForget_19 rfl rfl ?_
    refine g_iconst (v := (3 : Int32)) X dX4_goForget_20 (by decide) ?_
    suffices K : G p l e R s m args below meth c (RQ D dA h0 (.inr (some (.int rE)), hE) below s) D dA h0 6 h0 30 [some (va_rf (some this)), none, none, some (.int (((0 : Int32) + ((4 : Int32) * a1)) + a2)), none, none] [.int (if a1 = (3 : Int32) then (0 : Int32) else (100000 : Int32))] by
      refine g_icmp_ne X 28 dX4_goForget_21 (by decide) (fun c2 => ?_) (fun c2 => ?_)
      · (try simp only [if_neg c2] at K)
        refine g_ldc (v := (100000 : Int32)) X q1762 dX4_goForget_28 ?_
        refine G.drop [true, false, false, true, false, false] rfl ?_
        first | exact K | (simp only [if_neg c2]; exact K)
      · (try simp only [if_pos c2] at K)
        refine g_iconst (v := (0 : Int32)) X dX4_goForget_24 (by decide) ?_
        refine g_goto X 30 dX4_goForget_25 (by decide) ?_
        refine G.drop [true, false, false, true, false, false] rfl ?_
        first | exact K | (simp only [if_pos c2]; exact K)
    refine g_istore (L' := [some (va_rf (some this)), none, none, some (.int (((0 : Int32) + ((4 : Int32) * a1)) + a2)), some (.int (if a1 = (3 : Int32) then (0 : Int32) else (100000 : Int32))), none]) X dX4_goForget_30 (Nat.le_of_ble_eq_true rfl) (by first | rfl | simp [stL, rm1, clr2, cat_rf, cat_i, cat_j, cat_f, cat_d]) ?_
    refine g_aload_n X dX4_goForget_32 rfl rfl ?_
    obtain ⟨v3, ev3, hF⟩ := bnd hF
    refine g_get (k := 0) X in_X4 rfl (by decide) q1763 (Or.inl rfl) (getR_V ev3) dX4_goForget_33 ?_
    refine g_iload_n X dX4_goForget_36 rfl rfl ?_
    obtain ⟨v4, ev4, hF⟩ := bnd hF
    refine g_iald X ev4 dX4_goForget_37 ?_
    refine g_iload X dX4_goForget_38 rfl ?_
    suffices K : G p l e R s m args below meth c (RQ D dA h0 (.inr (some (.int rE)), hE) below s) D dA h0 6 h0 48 [some (va_rf (some this)), none, none, some (.int (((0 : Int32) + ((4 : Int32) * a1)) + a2)), some (.int (if a1 = (3 : Int32) then (0 : Int32) else (100000 : Int32))), none] [.int (if v4 = (if a1 = (3 : Int32) then (0 : Int32) else (100000 : Int32)) then (0 : Int32) else (1 : Int32))] by
      refine g_icmp_eq X 47 dX4_goForget_40 (by decide) (fun c5 => ?_) (fun c5 => ?_)
      · (try simp only [if_pos c5] at K)
        refine g_iconst (v := (0 : Int32)) X dX4_goForget_47 (by decide) ?_
        first | exact K | (simp only [if_pos c5]; exact K)
      · (try simp only [if_neg c5] at K)
        refine g_iconst (v := (1 : Int32)) X dX4_goForget_43 (by decide) ?_
        refine g_goto X 48 dX4_goForget_44 (by decide) ?_
        first | exact K | (simp only [if_neg c5]; exact K)
    refine g_istore (L' := [some (va_rf (some this)), none, none, some (.int (((0 : Int32) + ((4 : Int32) * a1)) + a2)), some (.int (if a1 = (3 : Int32) then (0 : Int32) else (100000 : Int32))), some (.int (if v4 = (if a1 = (3 : Int32) then (0 : Int32) else (100000 : Int32)) then (0 : Int32) else (1 : Int32)))]) X dX4_goForget_48 (Nat.le_of_ble_eq_true rfl) (by first | rfl | simp [stL, rm1, clr2, cat_rf, cat_i, cat_j, cat_f, cat_d]) ?_
    refine g_aload_n X dX4_goForget_50 rfl rfl ?_
    obtain ⟨v6, ev6, hF⟩ := bnd hF
    refine g_get (k := 0) X in_X4 rfl (by decide) q1763 (Or.inl rfl) (getR_V ev6) dX4_goForget_51 ?_
    refine g_iload_n X dX4_goForget_54 rfl rfl ?_
    refine g_iload X dX4_goForget_55 rfl ?_
    obtain ⟨h7, eh7, hF⟩ := bnd hF
    refine g_iast X eh7 dX4_goForget_57 ?_
    refine g_aload_n X dX4_goForget_58 rfl rfl ?_
    obtain ⟨ob8, eob8, hF⟩ := bnd hF
    obtain ⟨v10, h9, eh9, hF⟩ := b2_some hF
    refine g_callV X eob8 rfl rfl (w_X4_isTooLate l hl D dA h7 ob8  v10 h9 eh9) q1876 q1878 qs33 q103 q1879 okn_X4_isTooLate ⟨by rw [hRf]; exact Nat.le_of_ble_eq_true rfl, by rw [hRl]; exact Nat.le_of_ble_eq_true rfl⟩ (As := []) (rest := []) rfl (by first | exact Nat.le_of_ble_eq_true rfl | simp [cat_rf, cat_i, cat_j, cat_f, cat_d]) dX4_goForget_59 (ac_v ?_)
    suffices K : G p l e R s m args below meth c (RQ D dA h0 (.inr (some (.int rE)), hE) below s) D dA h0 6 h9 80 [none, none, none, none, none, none] [.int (if v10 = 0 then (if (if v4 = (if a1 = (3 : Int32) then (0 : Int32) else (100000 : Int32)) then (0 : Int32) else (1 : Int32)) = 0 then (0 : Int32) else (1 : Int32)) else (-12 : Int32))] by
      refine g_if_eq X 70 dX4_goForget_62 (by decide) (fun c11 => ?_) (fun c11 => ?_)
      · (try simp only [if_pos c11] at K)
        refine g_iload X dX4_goForget_70 rfl ?_
        refine g_if_eq X 79 dX4_goForget_72 (by decide) (fun c12 => ?_) (fun c12 => ?_)
        · (try simp only [if_pos c12] at K)
          refine g_iconst (v := (0 : Int32)) X dX4_goForget_79 (by decide) ?_
          refine G.drop [false, false, false, false, false, false] rfl ?_
          first | exact K | (simp only [if_pos c11, if_pos c12]; exact K)
        · (try simp only [if_neg c12] at K)
          refine g_iconst (v := (1 : Int32)) X dX4_goForget_75 (by decide) ?_
          refine g_goto X 80 dX4_goForget_76 (by decide) ?_
          refine G.drop [false, false, false, false, false, false] rfl ?_
          first | exact K | (simp only [if_pos c11, if_neg c12]; exact K)
      · (try simp only [if_neg c11] at K)
        refine g_bipush (v := (-12 : Int32)) X dX4_goForget_65 (by decide) ?_
        refine g_goto X 80 dX4_goForget_67 (by decide) ?_
        refine G.drop [false, false, false, false, false, false] rfl ?_
        first | exact K | (simp only [if_neg c11]; exact K)
    cases hF
    exact g_iret X hr dX4_goForget_80
  · have hF := (if_pos c1).symm.trans hF
    refine g_bipush (v := (-11 : Int32)) X dX4_goForget_8 (by decide) ?_
    cases hF
    exact g_iret X hr dX4_goForget_10
def F_X4_forget (this : Nat) (a1 : Int32) (a2 : Int32) (h0 : HH) : Option (Int32 × HH) :=
  Option.bind (isO h0 1 (some this)) fun ob1 =>
  Option.bind (F_X4_begins ob1 h0) fun h2 =>
  Option.bind (isO h2 1 (some this)) fun ob3 =>
  b2 (F_X4_goForget ob3 a1 a2 h2) fun v5 h4 =>
  Option.bind (isO h4 1 (some this)) fun ob6 =>
  b2 (F_X4_ends ob6 v5 h4) fun v8 h7 =>
  some ((if v8 = (1 : Int32) then (1 : Int32) else (0 : Int32)), h7)
set_option maxHeartbeats 4000000 in
theorem w_X4_forget (l : Launch) (hl : l.stackTraces = false) (D : va_G) (dA : Nat → ClassId) (h0 : HH) (this : Nat) (a1 : Int32) (a2 : Int32) (rE : Int32) (hE : HH) (hF : F_X4_forget this a1 a2 h0 = some (rE, hE)) : MC D dA l yX4_forget cX4_forget 3 (Option.some Jvm.ClassFile.FieldType.boolean) [] 5 114 [va_rf (some this), .int a1, .int a2] h0 (.inr (some (.int rE)), hE) := by
  refine mc_of hl (plainFor_of_name pn_X4) (by simp [lg_sl, cat_rf, cat_i, cat_j, cat_f, cat_d]) ?_
  intro p e s m args below meth c R hRf hRl X hr hnm
  unfold F_X4_forget at hF
  rw [show argL [va_rf (some this), .int a1, .int a2] = [some (va_rf (some this)), some (.int a1), some (.int a2)] from by simp [argL, cat_rf, cat_i, cat_j, cat_f, cat_d]]
  refine g_aload_n X dX4_forget_0 rfl rfl ?_
  obtain ⟨ob1, eob1, hF⟩ := bnd hF
  obtain ⟨h2, eh2, hF⟩ := bnd hF
  refine g_callV X eob1 rfl rfl (w_X4_begins l hl D dA h0 ob1  h2 eh2) q1859 q1861 qs31 q103 q1862 okn_X4_begins ⟨by rw [hRf]; exact Nat.le_of_ble_eq_true rfl, by rw [hRl]; exact Nat.le_of_ble_eq_true rfl⟩ (As := []) (rest := []) rfl (by first | exact Nat.le_of_ble_eq_true rfl | simp [cat_rf, cat_i, cat_j, cat_f, cat_d]) dX4_forget_1 (ac_0 ?_)
  refine g_aload_n X dX4_forget_4 rfl rfl ?_
  refine g_aload_n X dX4_forget_5 rfl rfl ?_
  refine g_iload_n X dX4_forget_6 rfl rfl ?_
  refine g_iload_n X dX4_forget_7 rfl rfl ?_
  obtain ⟨ob3, eob3, hF⟩ := bnd hF
  obtain ⟨v5, h4, eh4, hF⟩ := b2_some hF
  refine g_callV X eob3 rfl rfl (w_X4_goForget l hl D dA h2 ob3 a1 a2 v5 h4 eh4) q1912 q1914 qs38 q103 q1915 okn_X4_goForget ⟨by rw [hRf]; exact Nat.le_of_ble_eq_true rfl, by rw [hRl]; exact Nat.le_of_ble_eq_true rfl⟩ (As := [.int a1, .int a2]) (rest := [va_rf (some this)]) rfl (by first | exact Nat.le_of_ble_eq_true rfl | simp [cat_rf, cat_i, cat_j, cat_f, cat_d]) dX4_forget_8 (ac_v ?_)
  obtain ⟨ob6, eob6, hF⟩ := bnd hF
  obtain ⟨v8, h7, eh7, hF⟩ := b2_some hF
  refine g_callV X eob6 rfl rfl (w_X4_ends l hl D dA h4 ob6 v5 v8 h7 eh7) q1896 q1898 qs35 q103 q1899 okn_X4_ends ⟨by rw [hRf]; exact Nat.le_of_ble_eq_true rfl, by rw [hRl]; exact Nat.le_of_ble_eq_true rfl⟩ (As := [.int v5]) (rest := []) rfl (by first | exact Nat.le_of_ble_eq_true rfl | simp [cat_rf, cat_i, cat_j, cat_f, cat_d]) dX4_forget_11 (ac_v ?_)
  refine g_iconst (v := (1 : Int32)) X dX4_forget_14 (by decide) ?_
  suffices K : G p l e R s m args below meth c (RQ D dA h0 (.inr (some (.int rE)), hE) below s) D dA h0 3 h7 23 [none, none, none] [.int (if v8 = (1 : Int32) then (1 : Int32) else (0 : Int32))] by
    refine g_icmp_ne X 22 dX4_forget_15 (by decide) (fun c9 => ?_) (fun c9 => ?_)
    · (try simp only [if_neg c9] at K)
      refine g_iconst (v := (0 : Int32)) X dX4_forget_22 (by decide) ?_
      refine G.drop [false, false, false] rfl ?_
      first | exact K | (simp only [if_neg c9]; exact K)
    · (try simp only [if_pos c9] at K)
      refine g_iconst (v := (1 : Int32)) X dX4_forget_18 (by decide) ?_
      refine g_goto X 23 dX4_forget_19 (by decide) ?_
      refine G.drop [false, false, false] rfl ?_
      first | exact K | (simp only [if_pos c9]; exact K)
  cases hF
  exact g_zret X hr (by (repeat' split) <;> rfl) dX4_forget_23
def F_X4_changed_B4 (this : Nat) (x1_1 : Int32) (x2_1 : Int32) (h0 : HH) : Option ((Int32 × Int32) ⊕ Int32) :=
  if (16 : Int32) ≤ x2_1 then (
    some (.inr x1_1)
  ) else (
    Option.bind (getR h0 1 0 (some this)) fun v3 =>
    Option.bind (aldI h0 0 v3 ((0 : Int32) + x2_1)) fun v4 =>
    Option.bind (getR h0 1 1 (some this)) fun v5 =>
    Option.bind (aldI h0 0 v5 ((0 : Int32) + x2_1)) fun v6 =>
    some (.inl ((x1_1 + (if v4 = v6 then (0 : Int32) else (1 : Int32))), (x2_1 + (1 : Int32))))
  )
def F_X4_changed (this : Nat) (h0 : HH) : Option Int32 :=
  Option.bind (lp (fun z => F_X4_changed_B4 this z.1 z.2 h0) 100000 ((0 : Int32), (0 : Int32))) fun v8 =>
  some v8
set_option maxHeartbeats 4000000 in
theorem w_X4_changed (l : Launch) (hl : l.stackTraces = false) (D : va_G) (dA : Nat → ClassId) (h0 : HH) (this : Nat) (rE : Int32) (hF : F_X4_changed this h0 = some rE) : MC D dA l yX4_changed cX4_changed 3 (Option.some Jvm.ClassFile.FieldType.int) [] 0 0 [va_rf (some this)] h0 (.inr (some (.int rE)), h0) := by
  refine mc_of hl (plainFor_of_name pn_X4) (by simp [lg_sl, cat_rf, cat_i, cat_j, cat_f, cat_d]) ?_
  intro p e s m args below meth c R hRf hRl X hr hnm
  unfold F_X4_changed at hF
  rw [show argL [va_rf (some this)] = [some (va_rf (some this))] from by simp [argL, cat_rf, cat_i, cat_j, cat_f, cat_d]]
  refine G.pad 2 (L' := [some (va_rf (some this)), none, none]) rfl ?_
  refine g_iconst (v := (0 : Int32)) X dX4_changed_0 (by decide) ?_
  refine g_istore_n (L' := [some (va_rf (some this)), some (.int (0 : Int32)), none]) X dX4_changed_1 rfl (Nat.le_of_ble_eq_true rfl) (by first | rfl | simp [stL, rm1, clr2, cat_rf, cat_i, cat_j, cat_f, cat_d]) ?_
  refine g_iconst (v := (0 : Int32)) X dX4_changed_2 (by decide) ?_
  refine g_istore_n (L' := [some (va_rf (some this)), some (.int (0 : Int32)), some (.int (0 : Int32))]) X dX4_changed_3 rfl (Nat.le_of_ble_eq_true rfl) (by first | rfl | simp [stL, rm1, clr2, cat_rf, cat_i, cat_j, cat_f, cat_d]) ?_
  obtain ⟨v8, e9, hF⟩ := bnd hF
  refine lp_ind (Gs := (fun z => G p l e R s m args below meth c (RQ D dA h0 (.inr (some (.int rE)), h0) below s) D dA h0 3 h0 4 [some (va_rf (some this)), some (.int z.1), some (.int z.2)] [])) (Ge := (fun z => G p l e R s m args below meth c (RQ D dA h0 (.inr (some (.int rE)), h0) below s) D dA h0 3 h0 43 [none, some (.int z), none] [])) ?_ _ _ _ e9 ?_
  · rintro ⟨x1_1, x2_1⟩ o hF hgo hr
    change F_X4_changed_B4 this x1_1 x2_1 h0 = some o at hF
    unfold F_X4_changed_B4 at hF
    show G p l e R s m args below meth c (RQ D dA h0 (.inr (some (.int rE)), h0) below s) D dA h0 3 h0 4 [some (va_rf (some this)), some (.int x1_1), some (.int x2_1)] []
    refine g_iload_n X dX4_changed_4 rfl rfl ?_
    refine g_bipush (v := (16 : Int32)) X dX4_changed_5 (by decide) ?_
    refine g_icmp_ge X 43 dX4_changed_7 (by decide) (fun c2 => ?_) (fun c2 => ?_)
    · have hF := (if_pos c2).symm.trans hF
      refine G.drop [false, true, false] rfl ?_
      cases hF
      exact hr _ rfl
    · have hF := (if_neg c2).symm.trans hF
      refine g_iload_n X dX4_changed_10 rfl rfl ?_
      refine g_aload_n X dX4_changed_11 rfl rfl ?_
      obtain ⟨v3, ev3, hF⟩ := bnd hF
      refine g_get (k := 0) X in_X4 rfl (by decide) q1763 (Or.inl rfl) (getR_V ev3) dX4_changed_12 ?_
      refine g_iconst (v := (0 : Int32)) X dX4_changed_15 (by decide) ?_
      refine g_iload_n X dX4_changed_16 rfl rfl ?_
      refine g_iadd X dX4_changed_17 ?_
      obtain ⟨v4, ev4, hF⟩ := bnd hF
      refine g_iald X ev4 dX4_changed_18 ?_
      refine g_aload_n X dX4_changed_19 rfl rfl ?_
      obtain ⟨v5, ev5, hF⟩ := bnd hF
      refine g_get (k := 1) X in_X4 rfl (by decide) q1764 (Or.inl rfl) (getR_V ev5) dX4_changed_20 ?_
      refine g_iconst (v := (0 : Int32)) X dX4_changed_23 (by decide) ?_
      refine g_iload_n X dX4_changed_24 rfl rfl ?_
      refine g_iadd X dX4_changed_25 ?_
      obtain ⟨v6, ev6, hF⟩ := bnd hF
      refine g_iald X ev6 dX4_changed_26 ?_
      suffices K : G p l e R s m args below meth c (RQ D dA h0 (.inr (some (.int rE)), h0) below s) D dA h0 3 h0 35 [some (va_rf (some this)), none, some (.int x2_1)] [.int (if v4 = v6 then (0 : Int32) else (1 : Int32)), .int x1_1] by
        refine g_icmp_eq X 34 dX4_changed_27 (by decide) (fun c7 => ?_) (fun c7 => ?_)
        · (try simp only [if_pos c7] at K)
          refine g_iconst (v := (0 : Int32)) X dX4_changed_34 (by decide) ?_
          refine G.drop [true, false, true] rfl ?_
          first | exact K | (simp only [if_pos c7]; exact K)
        · (try simp only [if_neg c7] at K)
          refine g_iconst (v := (1 : Int32)) X dX4_changed_30 (by decide) ?_
          refine g_goto X 35 dX4_changed_31 (by decide) ?_
          refine G.drop [true, false, true] rfl ?_
          first | exact K | (simp only [if_neg c7]; exact K)
      refine g_iadd X dX4_changed_35 ?_
      refine g_istore_n (L' := [some (va_rf (some this)), some (.int (x1_1 + (if v4 = v6 then (0 : Int32) else (1 : Int32)))), some (.int x2_1)]) X dX4_changed_36 rfl (Nat.le_of_ble_eq_true rfl) (by first | rfl | simp [stL, rm1, clr2, cat_rf, cat_i, cat_j, cat_f, cat_d]) ?_
      refine g_iinc (v := (x2_1 + (1 : Int32))) (L' := [some (va_rf (some this)), some (.int (x1_1 + (if v4 = v6 then (0 : Int32) else (1 : Int32)))), some (.int (x2_1 + (1 : Int32)))]) X dX4_changed_37 (Nat.le_of_ble_eq_true rfl) rfl rfl (by first | rfl | simp [stL, rm1, clr2, cat_rf, cat_i, cat_j, cat_f, cat_d]) ?_
      refine g_goto X 4 dX4_changed_40 (by decide) ?_
      cases hF
      exact hgo _ rfl
  show G p l e R s m args below meth c (RQ D dA h0 (.inr (some (.int rE)), h0) below s) D dA h0 3 h0 43 [none, some (.int v8), none] []
  refine g_iload_n X dX4_changed_43 rfl rfl ?_
  cases hF
  exact g_iret X hr dX4_changed_44
def F_X4_forgetAll (this : Nat) (h0 : HH) : Option (Int32 × HH) :=
  Option.bind (isO h0 1 (some this)) fun ob1 =>
  Option.bind (F_X4_begins ob1 h0) fun h2 =>
  Option.bind (isO h2 1 (some this)) fun ob3 =>
  Option.bind (F_X4_frees ob3 h2) fun h4 =>
  Option.bind (isO h4 1 (some this)) fun ob5 =>
  Option.bind (F_X4_changed ob5 h4) fun v6 =>
  Option.bind (isO h4 1 (some this)) fun ob7 =>
  b2 (F_X4_ends ob7 v6 h4) fun v9 h8 =>
  some (v9, h8)
set_option maxHeartbeats 4000000 in
theorem w_X4_forgetAll (l : Launch) (hl : l.stackTraces = false) (D : va_G) (dA : Nat → ClassId) (h0 : HH) (this : Nat) (rE : Int32) (hE : HH) (hF : F_X4_forgetAll this h0 = some (rE, hE)) : MC D dA l yX4_forgetAll cX4_forgetAll 1 (Option.some Jvm.ClassFile.FieldType.int) [] 3 66 [va_rf (some this)] h0 (.inr (some (.int rE)), hE) := by
  refine mc_of hl (plainFor_of_name pn_X4) (by simp [lg_sl, cat_rf, cat_i, cat_j, cat_f, cat_d]) ?_
  intro p e s m args below meth c R hRf hRl X hr hnm
  unfold F_X4_forgetAll at hF
  rw [show argL [va_rf (some this)] = [some (va_rf (some this))] from by simp [argL, cat_rf, cat_i, cat_j, cat_f, cat_d]]
  refine g_aload_n X dX4_forgetAll_0 rfl rfl ?_
  obtain ⟨ob1, eob1, hF⟩ := bnd hF
  obtain ⟨h2, eh2, hF⟩ := bnd hF
  refine g_callV X eob1 rfl rfl (w_X4_begins l hl D dA h0 ob1  h2 eh2) q1859 q1861 qs31 q103 q1862 okn_X4_begins ⟨by rw [hRf]; exact Nat.le_of_ble_eq_true rfl, by rw [hRl]; exact Nat.le_of_ble_eq_true rfl⟩ (As := []) (rest := []) rfl (by first | exact Nat.le_of_ble_eq_true rfl | simp [cat_rf, cat_i, cat_j, cat_f, cat_d]) dX4_forgetAll_1 (ac_0 ?_)
  refine g_aload_n X dX4_forgetAll_4 rfl rfl ?_
  obtain ⟨ob3, eob3, hF⟩ := bnd hF
  obtain ⟨h4, eh4, hF⟩ := bnd hF
  refine g_callV X eob3 rfl rfl (w_X4_frees l hl D dA h2 ob3  h4 eh4) q1758 q1760 qs30 q103 q1761 okn_X4_frees ⟨by rw [hRf]; exact Nat.le_of_ble_eq_true rfl, by rw [hRl]; exact Nat.le_of_ble_eq_true rfl⟩ (As := []) (rest := []) rfl (by first | exact Nat.le_of_ble_eq_true rfl | simp [cat_rf, cat_i, cat_j, cat_f, cat_d]) dX4_forgetAll_5 (ac_0 ?_)
  refine g_aload_n X dX4_forgetAll_8 rfl rfl ?_
  refine g_aload_n X dX4_forgetAll_9 rfl rfl ?_
  obtain ⟨ob5, eob5, hF⟩ := bnd hF
  obtain ⟨v6, ev6, hF⟩ := bnd hF
  refine g_callV X eob5 rfl rfl (w_X4_changed l hl D dA h4 ob5  v6 ev6) q1920 q1922 qs39 q103 q1923 okn_X4_changed ⟨by rw [hRf]; exact Nat.le_of_ble_eq_true rfl, by rw [hRl]; exact Nat.le_of_ble_eq_true rfl⟩ (As := []) (rest := [va_rf (some this)]) rfl (by first | exact Nat.le_of_ble_eq_true rfl | simp [cat_rf, cat_i, cat_j, cat_f, cat_d]) dX4_forgetAll_10 (ac_v ?_)
  obtain ⟨ob7, eob7, hF⟩ := bnd hF
  obtain ⟨v9, h8, eh8, hF⟩ := b2_some hF
  refine g_callV X eob7 rfl rfl (w_X4_ends l hl D dA h4 ob7 v6 v9 h8 eh8) q1896 q1898 qs35 q103 q1899 okn_X4_ends ⟨by rw [hRf]; exact Nat.le_of_ble_eq_true rfl, by rw [hRl]; exact Nat.le_of_ble_eq_true rfl⟩ (As := [.int v6]) (rest := []) rfl (by first | exact Nat.le_of_ble_eq_true rfl | simp [cat_rf, cat_i, cat_j, cat_f, cat_d]) dX4_forgetAll_13 (ac_v ?_)
  cases hF
  exact g_iret X hr dX4_forgetAll_16
def F_X4_isTooFar_B4 (this : Nat) (x1_1 : Int32) (x2_1 : Int32) (h0 : HH) : Option ((Int32 × Int32) ⊕ Int32) :=
  if (16 : Int32) ≤ x2_1 then (
    some (.inr x1_1)
  ) else (
    if x1_1 = 0 then (
      Option.bind (getR h0 1 0 (some this)) fun v4 =>
      Option.bind (aldI h0 0 v4 ((0 : Int32) + x2_1)) fun v5 =>
      if v5 ≤ (999 : Int32) then (
        some (.inl ((0 : Int32), (x2_1 + (1 : Int32))))
      ) else (
        Option.bind (getR h0 1 0 (some this)) fun v7 =>
        Option.bind (aldI h0 0 v7 ((0 : Int32) + x2_1)) fun v8 =>
        some (.inl ((if v8 = (100000 : Int32) then (0 : Int32) else (1 : Int32)), (x2_1 + (1 : Int32))))
      )
    ) else (
      some (.inl ((1 : Int32), (x2_1 + (1 : Int32))))
    )
  )
def F_X4_isTooFar (this : Nat) (h0 : HH) : Option Int32 :=
  Option.bind (lp (fun z => F_X4_isTooFar_B4 this z.1 z.2 h0) 100000 ((0 : Int32), (0 : Int32))) fun v10 =>
  Option.bind (okZ v10) fun _ =>
  some v10
set_option maxHeartbeats 4000000 in
theorem w_X4_isTooFar (l : Launch) (hl : l.stackTraces = false) (D : va_G) (dA : Nat → ClassId) (h0 : HH) (this : Nat) (rE : Int32) (hF : F_X4_isTooFar this h0 = some rE) : MC D dA l yX4_isTooFar cX4_isTooFar 3 (Option.some Jvm.ClassFile.FieldType.boolean) [] 0 0 [va_rf (some this)] h0 (.inr (some (.int rE)), h0) := by
  refine mc_of hl (plainFor_of_name pn_X4) (by simp [lg_sl, cat_rf, cat_i, cat_j, cat_f, cat_d]) ?_
  intro p e s m args below meth c R hRf hRl X hr hnm
  unfold F_X4_isTooFar at hF
  rw [show argL [va_rf (some this)] = [some (va_rf (some this))] from by simp [argL, cat_rf, cat_i, cat_j, cat_f, cat_d]]
  refine G.pad 2 (L' := [some (va_rf (some this)), none, none]) rfl ?_
  refine g_iconst (v := (0 : Int32)) X dX4_isTooFar_0 (by decide) ?_
  refine g_istore_n (L' := [some (va_rf (some this)), some (.int (0 : Int32)), none]) X dX4_isTooFar_1 rfl (Nat.le_of_ble_eq_true rfl) (by first | rfl | simp [stL, rm1, clr2, cat_rf, cat_i, cat_j, cat_f, cat_d]) ?_
  refine g_iconst (v := (0 : Int32)) X dX4_isTooFar_2 (by decide) ?_
  refine g_istore_n (L' := [some (va_rf (some this)), some (.int (0 : Int32)), some (.int (0 : Int32))]) X dX4_isTooFar_3 rfl (Nat.le_of_ble_eq_true rfl) (by first | rfl | simp [stL, rm1, clr2, cat_rf, cat_i, cat_j, cat_f, cat_d]) ?_
  obtain ⟨v10, e12, hF⟩ := bnd hF
  refine lp_ind (Gs := (fun z => G p l e R s m args below meth c (RQ D dA h0 (.inr (some (.int rE)), h0) below s) D dA h0 3 h0 4 [some (va_rf (some this)), some (.int z.1), some (.int z.2)] [])) (Ge := (fun z => G p l e R s m args below meth c (RQ D dA h0 (.inr (some (.int rE)), h0) below s) D dA h0 3 h0 53 [none, some (.int z), none] [])) ?_ _ _ _ e12 ?_
  · rintro ⟨x1_1, x2_1⟩ o hF hgo hr
    change F_X4_isTooFar_B4 this x1_1 x2_1 h0 = some o at hF
    unfold F_X4_isTooFar_B4 at hF
    show G p l e R s m args below meth c (RQ D dA h0 (.inr (some (.int rE)), h0) below s) D dA h0 3 h0 4 [some (va_rf (some this)), some (.int x1_1), some (.int x2_1)] []
    refine g_iload_n X dX4_isTooFar_4 rfl rfl ?_
    refine g_bipush (v := (16 : Int32)) X dX4_isTooFar_5 (by decide) ?_
    refine g_icmp_ge X 53 dX4_isTooFar_7 (by decide) (fun c2 => ?_) (fun c2 => ?_)
    · have hF := (if_pos c2).symm.trans hF
      refine G.drop [false, true, false] rfl ?_
      cases hF
      exact hr _ rfl
    · have hF := (if_neg c2).symm.trans hF
      refine g_iload_n X dX4_isTooFar_10 rfl rfl ?_
      refine g_if_ne X 41 dX4_isTooFar_11 (by decide) (fun c3 => ?_) (fun c3 => ?_)
      · have hF := (if_neg c3).symm.trans hF
        refine g_iconst (v := (1 : Int32)) X dX4_isTooFar_41 (by decide) ?_
        refine g_goto X 46 dX4_isTooFar_42 (by decide) ?_
        refine g_istore_n (L' := [some (va_rf (some this)), some (.int (1 : Int32)), some (.int x2_1)]) X dX4_isTooFar_46 rfl (Nat.le_of_ble_eq_true rfl) (by first | rfl | simp [stL, rm1, clr2, cat_rf, cat_i, cat_j, cat_f, cat_d]) ?_
        refine g_iinc (v := (x2_1 + (1 : Int32))) (L' := [some (va_rf (some this)), some (.int (1 : Int32)), some (.int (x2_1 + (1 : Int32)))]) X dX4_isTooFar_47 (Nat.le_of_ble_eq_true rfl) rfl rfl (by first | rfl | simp [stL, rm1, clr2, cat_rf, cat_i, cat_j, cat_f, cat_d]) ?_
        refine g_goto X 4 dX4_isTooFar_50 (by decide) ?_
        cases hF
        exact hgo _ rfl
      · have hF := (if_pos c3).symm.trans hF
        refine g_aload_n X dX4_isTooFar_14 rfl rfl ?_
        obtain ⟨v4, ev4, hF⟩ := bnd hF
        refine g_get (k := 0) X in_X4 rfl (by decide) q1763 (Or.inl rfl) (getR_V ev4) dX4_isTooFar_15 ?_
        refine g_iconst (v := (0 : Int32)) X dX4_isTooFar_18 (by decide) ?_
        refine g_iload_n X dX4_isTooFar_19 rfl rfl ?_
        refine g_iadd X dX4_isTooFar_20 ?_
        obtain ⟨v5, ev5, hF⟩ := bnd hF
        refine g_iald X ev5 dX4_isTooFar_21 ?_
        refine g_sipush (v := (999 : Int32)) X dX4_isTooFar_22 (by decide) ?_
        refine g_icmp_le X 45 dX4_isTooFar_25 (by decide) (fun c6 => ?_) (fun c6 => ?_)
        · have hF := (if_pos c6).symm.trans hF
          refine g_iconst (v := (0 : Int32)) X dX4_isTooFar_45 (by decide) ?_
          refine g_istore_n (L' := [some (va_rf (some this)), some (.int (0 : Int32)), some (.int x2_1)]) X dX4_isTooFar_46 rfl (Nat.le_of_ble_eq_true rfl) (by first | rfl | simp [stL, rm1, clr2, cat_rf, cat_i, cat_j, cat_f, cat_d]) ?_
          refine g_iinc (v := (x2_1 + (1 : Int32))) (L' := [some (va_rf (some this)), some (.int (0 : Int32)), some (.int (x2_1 + (1 : Int32)))]) X dX4_isTooFar_47 (Nat.le_of_ble_eq_true rfl) rfl rfl (by first | rfl | simp [stL, rm1, clr2, cat_rf, cat_i, cat_j, cat_f, cat_d]) ?_
          refine g_goto X 4 dX4_isTooFar_50 (by decide) ?_
          cases hF
          exact hgo _ rfl
        · have hF := (if_neg c6).symm.trans hF
          refine g_aload_n X dX4_isTooFar_28 rfl rfl ?_
          obtain ⟨v7, ev7, hF⟩ := bnd hF
          refine g_get (k := 0) X in_X4 rfl (by decide) q1763 (Or.inl rfl) (getR_V ev7) dX4_isTooFar_29 ?_
          refine g_iconst (v := (0 : Int32)) X dX4_isTooFar_32 (by decide) ?_
          refine g_iload_n X dX4_isTooFar_33 rfl rfl ?_
          refine g_iadd X dX4_isTooFar_34 ?_
          obtain ⟨v8, ev8, hF⟩ := bnd hF
          refine g_iald X ev8 dX4_isTooFar_35 ?_
          refine g_ldc (v := (100000 : Int32)) X q1762 dX4_isTooFar_36 ?_
          suffices K : G p l e R s m args below meth c (RQ D dA h0 (.inr (some (.int rE)), h0) below s) D dA h0 3 h0 46 [some (va_rf (some this)), none, some (.int x2_1)] [.int (if v8 = (100000 : Int32) then (0 : Int32) else (1 : Int32))] by
            refine g_icmp_eq X 45 dX4_isTooFar_38 (by decide) (fun c9 => ?_) (fun c9 => ?_)
            · (try simp only [if_pos c9] at K)
              refine g_iconst (v := (0 : Int32)) X dX4_isTooFar_45 (by decide) ?_
              refine G.drop [true, false, true] rfl ?_
              first | exact K | (simp only [if_pos c9]; exact K)
            · (try simp only [if_neg c9] at K)
              refine g_iconst (v := (1 : Int32)) X dX4_isTooFar_41 (by decide) ?_
              refine g_goto X 46 dX4_isTooFar_42 (by decide) ?_
              refine G.drop [true, false, true] rfl ?_
              first | exact K | (simp only [if_neg c9]; exact K)
          refine g_istore_n (L' := [some (va_rf (some this)), some (.int (if v8 = (100000 : Int32) then (0 : Int32) else (1 : Int32))), some (.int x2_1)]) X dX4_isTooFar_46 rfl (Nat.le_of_ble_eq_true rfl) (by first | rfl | simp [stL, rm1, clr2, cat_rf, cat_i, cat_j, cat_f, cat_d]) ?_
          refine g_iinc (v := (x2_1 + (1 : Int32))) (L' := [some (va_rf (some this)), some (.int (if v8 = (100000 : Int32) then (0 : Int32) else (1 : Int32))), some (.int (x2_1 + (1 : Int32)))]) X dX4_isTooFar_47 (Nat.le_of_ble_eq_true rfl) rfl rfl (by first | rfl | simp [stL, rm1, clr2, cat_rf, cat_i, cat_j, cat_f, cat_d]) ?_
          refine g_goto X 4 dX4_isTooFar_50 (by decide) ?_
          cases hF
          exact hgo _ rfl
  show G p l e R s m args below meth c (RQ D dA h0 (.inr (some (.int rE)), h0) below s) D dA h0 3 h0 53 [none, some (.int v10), none] []
  refine g_iload_n X dX4_isTooFar_53 rfl rfl ?_
  obtain ⟨_, z11, hF⟩ := bnd hF
  cases hF
  exact g_zret X hr (narZ z11) dX4_isTooFar_54
def F_X4_goTighten (this : Nat) (h0 : HH) : Option (Int32 × HH) :=
  Option.bind (isO h0 1 (some this)) fun ob1 =>
  b2 (F_X4_looks ob1 h0) fun v3 h2 =>
  if v3 = 0 then (
    some ((-12 : Int32), h2)
  ) else (
    Option.bind (getR h2 1 9 (some this)) fun v5 =>
    Option.bind (getR h2 1 0 (some this)) fun v6 =>
    Option.bind (F_X4_carries v5 (0 : Int32) v6 (0 : Int32) h2) fun h7 =>
    Option.bind (isO h7 1 (some this)) fun ob8 =>
    Option.bind (F_X4_isTooFar ob8 h7) fun v9 =>
    if v9 = 0 then (
      Option.bind (isO h7 1 (some this)) fun ob11 =>
      Option.bind (F_X4_changed ob11 h7) fun v12 =>
      some (v12, h7)
    ) else (
      some ((-12 : Int32), h7)
    )
  )
set_option maxHeartbeats 4000000 in
theorem w_X4_goTighten (l : Launch) (hl : l.stackTraces = false) (D : va_G) (dA : Nat → ClassId) (h0 : HH) (this : Nat) (rE : Int32) (hE : HH) (hF : F_X4_goTighten this h0 = some (rE, hE)) : MC D dA l yX4_goTighten cX4_goTighten 1 (Option.some Jvm.ClassFile.FieldType.int) [] 3 66 [va_rf (some this)] h0 (.inr (some (.int rE)), hE) := by
  refine mc_of hl (plainFor_of_name pn_X4) (by simp [lg_sl, cat_rf, cat_i, cat_j, cat_f, cat_d]) ?_
  intro p e s m args below meth c R hRf hRl X hr hnm
  unfold F_X4_goTighten at hF
  rw [show argL [va_rf (some this)] = [some (va_rf (some this))] from by simp [argL, cat_rf, cat_i, cat_j, cat_f, cat_d]]
  refine g_aload_n X dX4_goTighten_0 rfl rfl ?_
  obtain ⟨ob1, eob1, hF⟩ := bnd hF
  obtain ⟨v3, h2, eh2, hF⟩ := b2_some hF
  refine g_callV X eob1 rfl rfl (w_X4_looks l hl D dA h0 ob1  v3 h2 eh2) q1880 q1882 qs34 q103 q1883 okn_X4_looks ⟨by rw [hRf]; exact Nat.le_of_ble_eq_true rfl, by rw [hRl]; exact Nat.le_of_ble_eq_true rfl⟩ (As := []) (rest := []) rfl (by first | exact Nat.le_of_ble_eq_true rfl | simp [cat_rf, cat_i, cat_j, cat_f, cat_d]) dX4_goTighten_1 (ac_v ?_)
  refine g_if_ne X 10 dX4_goTighten_4 (by decide) (fun c4 => ?_) (fun c4 => ?_)
  · have hF := (if_neg c4).symm.trans hF
    refine g_aload_n X dX4_goTighten_10 rfl rfl ?_
    obtain ⟨v5, ev5, hF⟩ := bnd hF
    refine g_get (k := 9) X in_X4 rfl (by decide) q1772 (Or.inl rfl) (getR_V ev5) dX4_goTighten_11 ?_
    refine g_iconst (v := (0 : Int32)) X dX4_goTighten_14 (by decide) ?_
    refine g_aload_n X dX4_goTighten_15 rfl rfl ?_
    obtain ⟨v6, ev6, hF⟩ := bnd hF
    refine g_get (k := 0) X in_X4 rfl (by decide) q1763 (Or.inl rfl) (getR_V ev6) dX4_goTighten_16 ?_
    refine g_iconst (v := (0 : Int32)) X dX4_goTighten_19 (by decide) ?_
    obtain ⟨h7, eh7, hF⟩ := bnd hF
    refine g_callS X (w_X4_carries l hl D dA h2 v5 (0 : Int32) v6 (0 : Int32) h7 eh7) q1884 q1885 q103 q1886 okn_X4_carries ⟨by rw [hRf]; exact Nat.le_of_ble_eq_true rfl, by rw [hRl]; exact Nat.le_of_ble_eq_true rfl⟩ (As := [va_rf v5, .int (0 : Int32), va_rf v6, .int (0 : Int32)]) (rest := []) rfl (by first | exact Nat.le_of_ble_eq_true rfl | simp [cat_rf, cat_i, cat_j, cat_f, cat_d]) dX4_goTighten_20 (ac_0 ?_)
    refine g_aload_n X dX4_goTighten_23 rfl rfl ?_
    obtain ⟨ob8, eob8, hF⟩ := bnd hF
    obtain ⟨v9, ev9, hF⟩ := bnd hF
    refine g_callV X eob8 rfl rfl (w_X4_isTooFar l hl D dA h7 ob8  v9 ev9) q1932 q1934 qs41 q103 q1935 okn_X4_isTooFar ⟨by rw [hRf]; exact Nat.le_of_ble_eq_true rfl, by rw [hRl]; exact Nat.le_of_ble_eq_true rfl⟩ (As := []) (rest := []) rfl (by first | exact Nat.le_of_ble_eq_true rfl | simp [cat_rf, cat_i, cat_j, cat_f, cat_d]) dX4_goTighten_24 (ac_v ?_)
    refine g_if_eq X 35 dX4_goTighten_27 (by decide) (fun c10 => ?_) (fun c10 => ?_)
    · have hF := (if_pos c10).symm.trans hF
      refine g_aload_n X dX4_goTighten_35 rfl rfl ?_
      obtain ⟨ob11, eob11, hF⟩ := bnd hF
      obtain ⟨v12, ev12, hF⟩ := bnd hF
      refine g_callV X eob11 rfl rfl (w_X4_changed l hl D dA h7 ob11  v12 ev12) q1920 q1922 qs39 q103 q1923 okn_X4_changed ⟨by rw [hRf]; exact Nat.le_of_ble_eq_true rfl, by rw [hRl]; exact Nat.le_of_ble_eq_true rfl⟩ (As := []) (rest := []) rfl (by first | exact Nat.le_of_ble_eq_true rfl | simp [cat_rf, cat_i, cat_j, cat_f, cat_d]) dX4_goTighten_36 (ac_v ?_)
      cases hF
      exact g_iret X hr dX4_goTighten_39
    · have hF := (if_neg c10).symm.trans hF
      refine g_bipush (v := (-12 : Int32)) X dX4_goTighten_30 (by decide) ?_
      refine g_goto X 39 dX4_goTighten_32 (by decide) ?_
      cases hF
      exact g_iret X hr dX4_goTighten_39
  · have hF := (if_pos c4).symm.trans hF
    refine g_bipush (v := (-12 : Int32)) X dX4_goTighten_7 (by decide) ?_
    cases hF
    exact g_iret X hr dX4_goTighten_9
def F_X4_only (this : Nat) (a1 : Int32) (h0 : HH) : Option (Int32 × HH) :=
  Option.bind (isO h0 1 (some this)) fun ob1 =>
  b2 (F_X4_ends ob1 a1 h0) fun v3 h2 =>
  Option.bind (getI h2 1 8 (some this)) fun v4 =>
  Option.bind (putV h2 1 8 (some this) (.int (if v4 ≤ 0 then (0 : Int32) else (1 : Int32)))) fun h6 =>
  some (v3, h6)
set_option maxHeartbeats 4000000 in
theorem w_X4_only (l : Launch) (hl : l.stackTraces = false) (D : va_G) (dA : Nat → ClassId) (h0 : HH) (this : Nat) (a1 : Int32) (rE : Int32) (hE : HH) (hF : F_X4_only this a1 h0 = some (rE, hE)) : MC D dA l yX4_only cX4_only 3 (Option.some Jvm.ClassFile.FieldType.int) [] 3 66 [va_rf (some this), .int a1] h0 (.inr (some (.int rE)), hE) := by
  refine mc_of hl (plainFor_of_name pn_X4) (by simp [lg_sl, cat_rf, cat_i, cat_j, cat_f, cat_d]) ?_
  intro p e s m args below meth c R hRf hRl X hr hnm
  unfold F_X4_only at hF
  rw [show argL [va_rf (some this), .int a1] = [some (va_rf (some this)), some (.int a1)] from by simp [argL, cat_rf, cat_i, cat_j, cat_f, cat_d]]
  refine G.pad 1 (L' := [some (va_rf (some this)), some (.int a1), none]) rfl ?_
  refine g_aload_n X dX4_only_0 rfl rfl ?_
  refine g_iload_n X dX4_only_1 rfl rfl ?_
  obtain ⟨ob1, eob1, hF⟩ := bnd hF
  obtain ⟨v3, h2, eh2, hF⟩ := b2_some hF
  refine g_callV X eob1 rfl rfl (w_X4_ends l hl D dA h0 ob1 a1 v3 h2 eh2) q1896 q1898 qs35 q103 q1899 okn_X4_ends ⟨by rw [hRf]; exact Nat.le_of_ble_eq_true rfl, by rw [hRl]; exact Nat.le_of_ble_eq_true rfl⟩ (As := [.int a1]) (rest := []) rfl (by first | exact Nat.le_of_ble_eq_true rfl | simp [cat_rf, cat_i, cat_j, cat_f, cat_d]) dX4_only_2 (ac_v ?_)
  refine g_istore_n (L' := [some (va_rf (some this)), some (.int a1), some (.int v3)]) X dX4_only_5 rfl (Nat.le_of_ble_eq_true rfl) (by first | rfl | simp [stL, rm1, clr2, cat_rf, cat_i, cat_j, cat_f, cat_d]) ?_
  refine g_aload_n X dX4_only_6 rfl rfl ?_
  refine g_aload_n X dX4_only_7 rfl rfl ?_
  obtain ⟨v4, ev4, hF⟩ := bnd hF
  refine g_get (k := 8) X in_X4 rfl (by decide) q1771 (Or.inl rfl) (getI_V ev4) dX4_only_8 ?_
  suffices K : G p l e R s m args below meth c (RQ D dA h0 (.inr (some (.int rE)), hE) below s) D dA h0 3 h2 19 [none, none, some (.int v3)] [.int (if v4 ≤ 0 then (0 : Int32) else (1 : Int32)), va_rf (some this)] by
    refine g_if_le X 18 dX4_only_11 (by decide) (fun c5 => ?_) (fun c5 => ?_)
    · (try simp only [if_pos c5] at K)
      refine g_iconst (v := (0 : Int32)) X dX4_only_18 (by decide) ?_
      refine G.drop [false, false, true] rfl ?_
      first | exact K | (simp only [if_pos c5]; exact K)
    · (try simp only [if_neg c5] at K)
      refine g_iconst (v := (1 : Int32)) X dX4_only_14 (by decide) ?_
      refine g_goto X 19 dX4_only_15 (by decide) ?_
      refine G.drop [false, false, true] rfl ?_
      first | exact K | (simp only [if_neg c5]; exact K)
  obtain ⟨h6, eh6, hF⟩ := bnd hF
  refine g_put (k := 8) X in_X4 tyX4 tyX4_ok nmX4 rfl (by decide) q1771 (Or.inl rfl) rfl (tyX4_ok 8 (by decide)) rfl rfl eh6 dX4_only_19 ?_
  refine g_iload_n X dX4_only_22 rfl rfl ?_
  cases hF
  exact g_iret X hr dX4_only_23
def F_X4_tighten (this : Nat) (h0 : HH) : Option (Int32 × HH) :=
  Option.bind (isO h0 1 (some this)) fun ob1 =>
  Option.bind (F_X4_begins ob1 h0) fun h2 =>
  Option.bind (isO h2 1 (some this)) fun ob3 =>
  b2 (F_X4_goTighten ob3 h2) fun v5 h4 =>
  Option.bind (isO h4 1 (some this)) fun ob6 =>
  b2 (F_X4_only ob6 v5 h4) fun v8 h7 =>
  some (v8, h7)
set_option maxHeartbeats 4000000 in
theorem w_X4_tighten (l : Launch) (hl : l.stackTraces = false) (D : va_G) (dA : Nat → ClassId) (h0 : HH) (this : Nat) (rE : Int32) (hE : HH) (hF : F_X4_tighten this h0 = some (rE, hE)) : MC D dA l yX4_tighten cX4_tighten 1 (Option.some Jvm.ClassFile.FieldType.int) [] 4 88 [va_rf (some this)] h0 (.inr (some (.int rE)), hE) := by
  refine mc_of hl (plainFor_of_name pn_X4) (by simp [lg_sl, cat_rf, cat_i, cat_j, cat_f, cat_d]) ?_
  intro p e s m args below meth c R hRf hRl X hr hnm
  unfold F_X4_tighten at hF
  rw [show argL [va_rf (some this)] = [some (va_rf (some this))] from by simp [argL, cat_rf, cat_i, cat_j, cat_f, cat_d]]
  refine g_aload_n X dX4_tighten_0 rfl rfl ?_
  obtain ⟨ob1, eob1, hF⟩ := bnd hF
  obtain ⟨h2, eh2, hF⟩ := bnd hF
  refine g_callV X eob1 rfl rfl (w_X4_begins l hl D dA h0 ob1  h2 eh2) q1859 q1861 qs31 q103 q1862 okn_X4_begins ⟨by rw [hRf]; exact Nat.le_of_ble_eq_true rfl, by rw [hRl]; exact Nat.le_of_ble_eq_true rfl⟩ (As := []) (rest := []) rfl (by first | exact Nat.le_of_ble_eq_true rfl | simp [cat_rf, cat_i, cat_j, cat_f, cat_d]) dX4_tighten_1 (ac_0 ?_)
  refine g_aload_n X dX4_tighten_4 rfl rfl ?_
  refine g_aload_n X dX4_tighten_5 rfl rfl ?_
  obtain ⟨ob3, eob3, hF⟩ := bnd hF
  obtain ⟨v5, h4, eh4, hF⟩ := b2_some hF
  refine g_callV X eob3 rfl rfl (w_X4_goTighten l hl D dA h2 ob3  v5 h4 eh4) q1928 q1930 qs40 q103 q1931 okn_X4_goTighten ⟨by rw [hRf]; exact Nat.le_of_ble_eq_true rfl, by rw [hRl]; exact Nat.le_of_ble_eq_true rfl⟩ (As := []) (rest := [va_rf (some this)]) rfl (by first | exact Nat.le_of_ble_eq_true rfl | simp [cat_rf, cat_i, cat_j, cat_f, cat_d]) dX4_tighten_6 (ac_v ?_)
  obtain ⟨ob6, eob6, hF⟩ := bnd hF
  obtain ⟨v8, h7, eh7, hF⟩ := b2_some hF
  refine g_callV X eob6 rfl rfl (w_X4_only l hl D dA h4 ob6 v5 v8 h7 eh7) q1936 q1938 qs42 q103 q1939 okn_X4_only ⟨by rw [hRf]; exact Nat.le_of_ble_eq_true rfl, by rw [hRl]; exact Nat.le_of_ble_eq_true rfl⟩ (As := [.int v5]) (rest := []) rfl (by first | exact Nat.le_of_ble_eq_true rfl | simp [cat_rf, cat_i, cat_j, cat_f, cat_d]) dX4_tighten_9 (ac_v ?_)
  cases hF
  exact g_iret X hr dX4_tighten_12
def F_X4_isClock (a1 : Int32) : Int32 :=
  (F_X4_in a1 (0 : Int32) (2 : Int32))
set_option maxHeartbeats 4000000 in
theorem w_X4_isClock (l : Launch) (hl : l.stackTraces = false) (D : va_G) (dA : Nat → ClassId) (h0 : HH) (a1 : Int32) : MC D dA l yX4_isClock cX4_isClock 1 (Option.some Jvm.ClassFile.FieldType.boolean) [] 1 22 [.int a1] h0 (.inr (some (.int (F_X4_isClock a1))), h0) := by
  refine mc_of hl (plainFor_of_name pn_X4) (by simp [lg_sl, cat_rf, cat_i, cat_j, cat_f, cat_d]) ?_
  intro p e s m args below meth c R hRf hRl X hr hnm
  generalize hF : F_X4_isClock a1 = rE
  unfold F_X4_isClock at hF
  rw [show argL [.int a1] = [some (.int a1)] from by simp [argL, cat_rf, cat_i, cat_j, cat_f, cat_d]]
  refine g_iload_n X dX4_isClock_0 rfl rfl ?_
  refine g_iconst (v := (0 : Int32)) X dX4_isClock_1 (by decide) ?_
  refine g_iconst (v := (2 : Int32)) X dX4_isClock_2 (by decide) ?_
  refine g_callS X (w_X4_in l hl D dA h0 a1 (0 : Int32) (2 : Int32)) q1873 q1874 q103 q1875 okn_X4_in ⟨by rw [hRf]; exact Nat.le_of_ble_eq_true rfl, by rw [hRl]; exact Nat.le_of_ble_eq_true rfl⟩ (As := [.int a1, .int (0 : Int32), .int (2 : Int32)]) (rest := []) rfl (by first | exact Nat.le_of_ble_eq_true rfl | simp [cat_rf, cat_i, cat_j, cat_f, cat_d]) dX4_isClock_3 (ac_v ?_)
  cases hF
  exact g_zret X hr (by simp only [F_X4_in]; (repeat' split) <;> rfl) dX4_isClock_6
def F_X4_most (this : Nat) (a1 : Int32) (h0 : HH) : Option Int32 :=
  Option.bind (getR h0 1 9 (some this)) fun v1 =>
  Option.bind (aldI h0 0 v1 (((4 : Int32) * a1) + (3 : Int32))) fun v2 =>
  some v2
set_option maxHeartbeats 4000000 in
theorem w_X4_most (l : Launch) (hl : l.stackTraces = false) (D : va_G) (dA : Nat → ClassId) (h0 : HH) (this : Nat) (a1 : Int32) (rE : Int32) (hF : F_X4_most this a1 h0 = some rE) : MC D dA l yX4_most cX4_most 2 (Option.some Jvm.ClassFile.FieldType.int) [] 0 0 [va_rf (some this), .int a1] h0 (.inr (some (.int rE)), h0) := by
  refine mc_of hl (plainFor_of_name pn_X4) (by simp [lg_sl, cat_rf, cat_i, cat_j, cat_f, cat_d]) ?_
  intro p e s m args below meth c R hRf hRl X hr hnm
  unfold F_X4_most at hF
  rw [show argL [va_rf (some this), .int a1] = [some (va_rf (some this)), some (.int a1)] from by simp [argL, cat_rf, cat_i, cat_j, cat_f, cat_d]]
  refine g_aload_n X dX4_most_0 rfl rfl ?_
  obtain ⟨v1, ev1, hF⟩ := bnd hF
  refine g_get (k := 9) X in_X4 rfl (by decide) q1772 (Or.inl rfl) (getR_V ev1) dX4_most_1 ?_
  refine g_iconst (v := (4 : Int32)) X dX4_most_4 (by decide) ?_
  refine g_iload_n X dX4_most_5 rfl rfl ?_
  refine g_imul X dX4_most_6 ?_
  refine g_iconst (v := (3 : Int32)) X dX4_most_7 (by decide) ?_
  refine g_iadd X dX4_most_8 ?_
  obtain ⟨v2, ev2, hF⟩ := bnd hF
  refine g_iald X ev2 dX4_most_9 ?_
  cases hF
  exact g_iret X hr dX4_most_10
def F_X4_resets_B2 (this : Nat) (a1 : Int32) (a2 : Int32) (x3_1 : Int32) (h_1 : HH) : Option ((Int32 × HH) ⊕ HH) :=
  if (4 : Int32) ≤ x3_1 then (
    some (.inr h_1)
  ) else (
    if x3_1 = a1 then (
      some (.inl ((x3_1 + (1 : Int32)), h_1))
    ) else (
      Option.bind (getR h_1 1 9 (some this)) fun v4 =>
      Option.bind (getR h_1 1 9 (some this)) fun v5 =>
      Option.bind (aldI h_1 0 v5 ((12 : Int32) + x3_1)) fun v6 =>
      Option.bind (astI h_1 v4 (((4 : Int32) * a1) + x3_1) (a2 + v6)) fun h7 =>
      Option.bind (getR h7 1 9 (some this)) fun v8 =>
      Option.bind (getR h7 1 9 (some this)) fun v9 =>
      Option.bind (aldI h7 0 v9 (((4 : Int32) * x3_1) + (3 : Int32))) fun v10 =>
      Option.bind (astI h7 v8 (((4 : Int32) * x3_1) + a1) (F_X4_sum v10 (-a2))) fun h11 =>
      some (.inl ((x3_1 + (1 : Int32)), h11))
    )
  )
def F_X4_resets (this : Nat) (a1 : Int32) (a2 : Int32) (h0 : HH) : Option HH :=
  Option.bind (lp (fun z => F_X4_resets_B2 this a1 a2 z.1 z.2) 100000 ((0 : Int32), h0)) fun h12 =>
  Option.bind (getR h12 1 9 (some this)) fun v13 =>
  Option.bind (astI h12 v13 (((4 : Int32) * a1) + (3 : Int32)) a2) fun h14 =>
  Option.bind (getR h14 1 9 (some this)) fun v15 =>
  Option.bind (astI h14 v15 ((12 : Int32) + a1) (-a2)) fun h16 =>
  some h16
set_option maxHeartbeats 4000000 in
theorem w_X4_resets (l : Launch) (hl : l.stackTraces = false) (D : va_G) (dA : Nat → ClassId) (h0 : HH) (this : Nat) (a1 : Int32) (a2 : Int32) (hE : HH) (hF : F_X4_resets this a1 a2 h0 = some hE) : MC D dA l yX4_resets cX4_resets 4 (Option.none : Option Jvm.ClassFile.FieldType) [] 1 21 [va_rf (some this), .int a1, .int a2] h0 (.inr none, hE) := by
  refine mc_of hl (plainFor_of_name pn_X4) (by simp [lg_sl, cat_rf, cat_i, cat_j, cat_f, cat_d]) ?_
  intro p e s m args below meth c R hRf hRl X hr hnm
  unfold F_X4_resets at hF
  rw [show argL [va_rf (some this), .int a1, .int a2] = [some (va_rf (some this)), some (.int a1), some (.int a2)] from by simp [argL, cat_rf, cat_i, cat_j, cat_f, cat_d]]
  refine G.pad 1 (L' := [some (va_rf (some this)), some (.int a1), some (.int a2), none]) rfl ?_
  refine g_iconst (v := (0 : Int32)) X dX4_resets_0 (by decide) ?_
  refine g_istore_n (L' := [some (va_rf (some this)), some (.int a1), some (.int a2), some (.int (0 : Int32))]) X dX4_resets_1 rfl (Nat.le_of_ble_eq_true rfl) (by first | rfl | simp [stL, rm1, clr2, cat_rf, cat_i, cat_j, cat_f, cat_d]) ?_
  obtain ⟨h12, e17, hF⟩ := bnd hF
  refine lp_ind (Gs := (fun z => G p l e R s m args below meth c (RQ D dA h0 (.inr none, hE) below s) D dA h0 4 z.2 2 [some (va_rf (some this)), some (.int a1), some (.int a2), some (.int z.1)] [])) (Ge := (fun z => G p l e R s m args below meth c (RQ D dA h0 (.inr none, hE) below s) D dA h0 4 z 64 [some (va_rf (some this)), some (.int a1), some (.int a2), none] [])) ?_ _ _ _ e17 ?_
  · rintro ⟨x3_1, h_1⟩ o hF hgo hr
    change F_X4_resets_B2 this a1 a2 x3_1 h_1 = some o at hF
    unfold F_X4_resets_B2 at hF
    show G p l e R s m args below meth c (RQ D dA h0 (.inr none, hE) below s) D dA h0 4 h_1 2 [some (va_rf (some this)), some (.int a1), some (.int a2), some (.int x3_1)] []
    refine g_iload_n X dX4_resets_2 rfl rfl ?_
    refine g_iconst (v := (4 : Int32)) X dX4_resets_3 (by decide) ?_
    refine g_icmp_ge X 64 dX4_resets_4 (by decide) (fun c2 => ?_) (fun c2 => ?_)
    · have hF := (if_pos c2).symm.trans hF
      refine G.drop [true, true, true, false] rfl ?_
      cases hF
      exact hr _ rfl
    · have hF := (if_neg c2).symm.trans hF
      refine g_iload_n X dX4_resets_7 rfl rfl ?_
      refine g_iload_n X dX4_resets_8 rfl rfl ?_
      refine g_icmp_eq X 58 dX4_resets_9 (by decide) (fun c3 => ?_) (fun c3 => ?_)
      · have hF := (if_pos c3).symm.trans hF
        refine g_iinc (v := (x3_1 + (1 : Int32))) (L' := [some (va_rf (some this)), some (.int a1), some (.int a2), some (.int (x3_1 + (1 : Int32)))]) X dX4_resets_58 (Nat.le_of_ble_eq_true rfl) rfl rfl (by first | rfl | simp [stL, rm1, clr2, cat_rf, cat_i, cat_j, cat_f, cat_d]) ?_
        refine g_goto X 2 dX4_resets_61 (by decide) ?_
        cases hF
        exact hgo _ rfl
      · have hF := (if_neg c3).symm.trans hF
        refine g_aload_n X dX4_resets_12 rfl rfl ?_
        obtain ⟨v4, ev4, hF⟩ := bnd hF
        refine g_get (k := 9) X in_X4 rfl (by decide) q1772 (Or.inl rfl) (getR_V ev4) dX4_resets_13 ?_
        refine g_iconst (v := (4 : Int32)) X dX4_resets_16 (by decide) ?_
        refine g_iload_n X dX4_resets_17 rfl rfl ?_
        refine g_imul X dX4_resets_18 ?_
        refine g_iload_n X dX4_resets_19 rfl rfl ?_
        refine g_iadd X dX4_resets_20 ?_
        refine g_iload_n X dX4_resets_21 rfl rfl ?_
        refine g_aload_n X dX4_resets_22 rfl rfl ?_
        obtain ⟨v5, ev5, hF⟩ := bnd hF
        refine g_get (k := 9) X in_X4 rfl (by decide) q1772 (Or.inl rfl) (getR_V ev5) dX4_resets_23 ?_
        refine g_bipush (v := (12 : Int32)) X dX4_resets_26 (by decide) ?_
        refine g_iload_n X dX4_resets_28 rfl rfl ?_
        refine g_iadd X dX4_resets_29 ?_
        obtain ⟨v6, ev6, hF⟩ := bnd hF
        refine g_iald X ev6 dX4_resets_30 ?_
        refine g_iadd X dX4_resets_31 ?_
        obtain ⟨h7, eh7, hF⟩ := bnd hF
        refine g_iast X eh7 dX4_resets_32 ?_
        refine g_aload_n X dX4_resets_33 rfl rfl ?_
        obtain ⟨v8, ev8, hF⟩ := bnd hF
        refine g_get (k := 9) X in_X4 rfl (by decide) q1772 (Or.inl rfl) (getR_V ev8) dX4_resets_34 ?_
        refine g_iconst (v := (4 : Int32)) X dX4_resets_37 (by decide) ?_
        refine g_iload_n X dX4_resets_38 rfl rfl ?_
        refine g_imul X dX4_resets_39 ?_
        refine g_iload_n X dX4_resets_40 rfl rfl ?_
        refine g_iadd X dX4_resets_41 ?_
        refine g_aload_n X dX4_resets_42 rfl rfl ?_
        obtain ⟨v9, ev9, hF⟩ := bnd hF
        refine g_get (k := 9) X in_X4 rfl (by decide) q1772 (Or.inl rfl) (getR_V ev9) dX4_resets_43 ?_
        refine g_iconst (v := (4 : Int32)) X dX4_resets_46 (by decide) ?_
        refine g_iload_n X dX4_resets_47 rfl rfl ?_
        refine g_imul X dX4_resets_48 ?_
        refine g_iconst (v := (3 : Int32)) X dX4_resets_49 (by decide) ?_
        refine g_iadd X dX4_resets_50 ?_
        obtain ⟨v10, ev10, hF⟩ := bnd hF
        refine g_iald X ev10 dX4_resets_51 ?_
        refine g_iload_n X dX4_resets_52 rfl rfl ?_
        refine g_ineg X dX4_resets_53 ?_
        refine g_callS X (w_X4_sum l hl D dA h7 v10 (-a2)) q1890 q1891 q103 q1892 okn_X4_sum ⟨by rw [hRf]; exact Nat.le_of_ble_eq_true rfl, by rw [hRl]; exact Nat.le_of_ble_eq_true rfl⟩ (As := [.int v10, .int (-a2)]) (rest := [.int (((4 : Int32) * x3_1) + a1), va_rf v8]) rfl (by first | exact Nat.le_of_ble_eq_true rfl | simp [cat_rf, cat_i, cat_j, cat_f, cat_d]) dX4_resets_54 (ac_v ?_)
        obtain ⟨h11, eh11, hF⟩ := bnd hF
        refine g_iast X eh11 dX4_resets_57 ?_
        refine g_iinc (v := (x3_1 + (1 : Int32))) (L' := [some (va_rf (some this)), some (.int a1), some (.int a2), some (.int (x3_1 + (1 : Int32)))]) X dX4_resets_58 (Nat.le_of_ble_eq_true rfl) rfl rfl (by first | rfl | simp [stL, rm1, clr2, cat_rf, cat_i, cat_j, cat_f, cat_d]) ?_
        refine g_goto X 2 dX4_resets_61 (by decide) ?_
        cases hF
        exact hgo _ rfl
  show G p l e R s m args below meth c (RQ D dA h0 (.inr none, hE) below s) D dA h0 4 h12 64 [some (va_rf (some this)), some (.int a1), some (.int a2), none] []
  refine g_aload_n X dX4_resets_64 rfl rfl ?_
  obtain ⟨v13, ev13, hF⟩ := bnd hF
  refine g_get (k := 9) X in_X4 rfl (by decide) q1772 (Or.inl rfl) (getR_V ev13) dX4_resets_65 ?_
  refine g_iconst (v := (4 : Int32)) X dX4_resets_68 (by decide) ?_
  refine g_iload_n X dX4_resets_69 rfl rfl ?_
  refine g_imul X dX4_resets_70 ?_
  refine g_iconst (v := (3 : Int32)) X dX4_resets_71 (by decide) ?_
  refine g_iadd X dX4_resets_72 ?_
  refine g_iload_n X dX4_resets_73 rfl rfl ?_
  obtain ⟨h14, eh14, hF⟩ := bnd hF
  refine g_iast X eh14 dX4_resets_74 ?_
  refine g_aload_n X dX4_resets_75 rfl rfl ?_
  obtain ⟨v15, ev15, hF⟩ := bnd hF
  refine g_get (k := 9) X in_X4 rfl (by decide) q1772 (Or.inl rfl) (getR_V ev15) dX4_resets_76 ?_
  refine g_bipush (v := (12 : Int32)) X dX4_resets_79 (by decide) ?_
  refine g_iload_n X dX4_resets_81 rfl rfl ?_
  refine g_iadd X dX4_resets_82 ?_
  refine g_iload_n X dX4_resets_83 rfl rfl ?_
  refine g_ineg X dX4_resets_84 ?_
  obtain ⟨h16, eh16, hF⟩ := bnd hF
  refine g_iast X eh16 dX4_resets_85 ?_
  cases hF
  exact g_vret X hr dX4_resets_86
def F_X4_tells (this : Nat) (a1 : Int32) (h0 : HH) : Option (Int32 × HH) :=
  Option.bind (getR h0 1 9 (some this)) fun v1 =>
  b2 (F_X4_tightens v1 (0 : Int32) h0) fun v3 h2 =>
  Option.bind (getR h2 1 9 (some this)) fun v4 =>
  Option.bind (getR h2 1 0 (some this)) fun v5 =>
  Option.bind (F_X4_carries v4 (0 : Int32) v5 (0 : Int32) h2) fun h6 =>
  Option.bind (getR h6 1 0 (some this)) fun v7 =>
  Option.bind (aldI h6 0 v7 (193 : Int32)) fun v8 =>
  Option.bind (astI h6 v7 (193 : Int32) (v8 + (1 : Int32))) fun h9 =>
  Option.bind (isO h9 1 (some this)) fun ob10 =>
  b2 (F_X4_isTooLate ob10 h9) fun v12 h11 =>
  if v12 = 0 then (
    Option.bind (isO h11 1 (some this)) fun ob14 =>
    Option.bind (F_X4_isTooFar ob14 h11) fun v15 =>
    some ((if v15 = 0 then a1 else (-12 : Int32)), h11)
  ) else (
    some ((-12 : Int32), h11)
  )
set_option maxHeartbeats 4000000 in
theorem w_X4_tells (l : Launch) (hl : l.stackTraces = false) (D : va_G) (dA : Nat → ClassId) (h0 : HH) (this : Nat) (a1 : Int32) (rE : Int32) (hE : HH) (hF : F_X4_tells this a1 h0 = some (rE, hE)) : MC D dA l yX4_tells cX4_tells 2 (Option.some Jvm.ClassFile.FieldType.int) [] 4 89 [va_rf (some this), .int a1] h0 (.inr (some (.int rE)), hE) := by
  refine mc_of hl (plainFor_of_name pn_X4) (by simp [lg_sl, cat_rf, cat_i, cat_j, cat_f, cat_d]) ?_
  intro p e s m args below meth c R hRf hRl X hr hnm
  unfold F_X4_tells at hF
  rw [show argL [va_rf (some this), .int a1] = [some (va_rf (some this)), some (.int a1)] from by simp [argL, cat_rf, cat_i, cat_j, cat_f, cat_d]]
  refine g_aload_n X dX4_tells_0 rfl rfl ?_
  obtain ⟨v1, ev1, hF⟩ := bnd hF
  refine g_get (k := 9) X in_X4 rfl (by decide) q1772 (Or.inl rfl) (getR_V ev1) dX4_tells_1 ?_
  refine g_iconst (v := (0 : Int32)) X dX4_tells_4 (by decide) ?_
  obtain ⟨v3, h2, eh2, hF⟩ := b2_some hF
  refine g_callS X (w_X4_tightens l hl D dA h0 v1 (0 : Int32) v3 h2 eh2) q1887 q1888 q103 q1889 okn_X4_tightens ⟨by rw [hRf]; exact Nat.le_of_ble_eq_true rfl, by rw [hRl]; exact Nat.le_of_ble_eq_true rfl⟩ (As := [va_rf v1, .int (0 : Int32)]) (rest := []) rfl (by first | exact Nat.le_of_ble_eq_true rfl | simp [cat_rf, cat_i, cat_j, cat_f, cat_d]) dX4_tells_5 (ac_v ?_)
  refine g_pop X dX4_tells_8 rfl ?_
  refine g_aload_n X dX4_tells_9 rfl rfl ?_
  obtain ⟨v4, ev4, hF⟩ := bnd hF
  refine g_get (k := 9) X in_X4 rfl (by decide) q1772 (Or.inl rfl) (getR_V ev4) dX4_tells_10 ?_
  refine g_iconst (v := (0 : Int32)) X dX4_tells_13 (by decide) ?_
  refine g_aload_n X dX4_tells_14 rfl rfl ?_
  obtain ⟨v5, ev5, hF⟩ := bnd hF
  refine g_get (k := 0) X in_X4 rfl (by decide) q1763 (Or.inl rfl) (getR_V ev5) dX4_tells_15 ?_
  refine g_iconst (v := (0 : Int32)) X dX4_tells_18 (by decide) ?_
  obtain ⟨h6, eh6, hF⟩ := bnd hF
  refine g_callS X (w_X4_carries l hl D dA h2 v4 (0 : Int32) v5 (0 : Int32) h6 eh6) q1884 q1885 q103 q1886 okn_X4_carries ⟨by rw [hRf]; exact Nat.le_of_ble_eq_true rfl, by rw [hRl]; exact Nat.le_of_ble_eq_true rfl⟩ (As := [va_rf v4, .int (0 : Int32), va_rf v5, .int (0 : Int32)]) (rest := []) rfl (by first | exact Nat.le_of_ble_eq_true rfl | simp [cat_rf, cat_i, cat_j, cat_f, cat_d]) dX4_tells_19 (ac_0 ?_)
  refine g_aload_n X dX4_tells_22 rfl rfl ?_
  obtain ⟨v7, ev7, hF⟩ := bnd hF
  refine g_get (k := 0) X in_X4 rfl (by decide) q1763 (Or.inl rfl) (getR_V ev7) dX4_tells_23 ?_
  refine g_sipush (v := (193 : Int32)) X dX4_tells_26 (by decide) ?_
  refine g_dup2_11 X dX4_tells_29 rfl (cat_rf _) ?_
  obtain ⟨v8, ev8, hF⟩ := bnd hF
  refine g_iald X ev8 dX4_tells_30 ?_
  refine g_iconst (v := (1 : Int32)) X dX4_tells_31 (by decide) ?_
  refine g_iadd X dX4_tells_32 ?_
  obtain ⟨h9, eh9, hF⟩ := bnd hF
  refine g_iast X eh9 dX4_tells_33 ?_
  refine g_aload_n X dX4_tells_34 rfl rfl ?_
  obtain ⟨ob10, eob10, hF⟩ := bnd hF
  obtain ⟨v12, h11, eh11, hF⟩ := b2_some hF
  refine g_callV X eob10 rfl rfl (w_X4_isTooLate l hl D dA h9 ob10  v12 h11 eh11) q1876 q1878 qs33 q103 q1879 okn_X4_isTooLate ⟨by rw [hRf]; exact Nat.le_of_ble_eq_true rfl, by rw [hRl]; exact Nat.le_of_ble_eq_true rfl⟩ (As := []) (rest := []) rfl (by first | exact Nat.le_of_ble_eq_true rfl | simp [cat_rf, cat_i, cat_j, cat_f, cat_d]) dX4_tells_35 (ac_v ?_)
  refine g_if_ne X 48 dX4_tells_38 (by decide) (fun c13 => ?_) (fun c13 => ?_)
  · have hF := (if_neg c13).symm.trans hF
    refine g_bipush (v := (-12 : Int32)) X dX4_tells_48 (by decide) ?_
    refine g_goto X 54 dX4_tells_50 (by decide) ?_
    cases hF
    exact g_iret X hr dX4_tells_54
  · have hF := (if_pos c13).symm.trans hF
    refine g_aload_n X dX4_tells_41 rfl rfl ?_
    obtain ⟨ob14, eob14, hF⟩ := bnd hF
    obtain ⟨v15, ev15, hF⟩ := bnd hF
    refine g_callV X eob14 rfl rfl (w_X4_isTooFar l hl D dA h11 ob14  v15 ev15) q1932 q1934 qs41 q103 q1935 okn_X4_isTooFar ⟨by rw [hRf]; exact Nat.le_of_ble_eq_true rfl, by rw [hRl]; exact Nat.le_of_ble_eq_true rfl⟩ (As := []) (rest := []) rfl (by first | exact Nat.le_of_ble_eq_true rfl | simp [cat_rf, cat_i, cat_j, cat_f, cat_d]) dX4_tells_42 (ac_v ?_)
    suffices K : G p l e R s m args below meth c (RQ D dA h0 (.inr (some (.int rE)), hE) below s) D dA h0 2 h11 54 [none, none] [.int (if v15 = 0 then a1 else (-12 : Int32))] by
      refine g_if_eq X 53 dX4_tells_45 (by decide) (fun c16 => ?_) (fun c16 => ?_)
      · (try simp only [if_pos c16] at K)
        refine g_iload_n X dX4_tells_53 rfl rfl ?_
        refine G.drop [false, false] rfl ?_
        first | exact K | (simp only [if_pos c16]; exact K)
      · (try simp only [if_neg c16] at K)
        refine g_bipush (v := (-12 : Int32)) X dX4_tells_48 (by decide) ?_
        refine g_goto X 54 dX4_tells_50 (by decide) ?_
        refine G.drop [false, false] rfl ?_
        first | exact K | (simp only [if_neg c16]; exact K)
    cases hF
    exact g_iret X hr dX4_tells_54
def F_X4_goReset (this : Nat) (a1 : Int32) (a2 : Int32) (h0 : HH) : Option (Int32 × HH) :=
  if (F_X4_isClock a1) = 0 then (
    some ((-11 : Int32), h0)
  ) else (
    if (F_X4_in a2 (0 : Int32) (9 : Int32)) = 0 then (
      some ((-11 : Int32), h0)
    ) else (
      Option.bind (isO h0 1 (some this)) fun ob3 =>
      b2 (F_X4_looks ob3 h0) fun v5 h4 =>
      if v5 = 0 then (
        some ((-12 : Int32), h4)
      ) else (
        Option.bind (isO h4 1 (some this)) fun ob7 =>
        Option.bind (F_X4_most ob7 a1 h4) fun v8 =>
        Option.bind (isO h4 1 (some this)) fun ob9 =>
        Option.bind (F_X4_resets ob9 a1 a2 h4) fun h10 =>
        Option.bind (isO h10 1 (some this)) fun ob12 =>
        b2 (F_X4_tells ob12 (if v8 = (100000 : Int32) then (31 : Int32) else v8) h10) fun v14 h13 =>
        some (v14, h13)
      )
    )
  )
set_option maxHeartbeats 4000000 in
theorem w_X4_goReset (l : Launch) (hl : l.stackTraces = false) (D : va_G) (dA : Nat → ClassId) (h0 : HH) (this : Nat) (a1 : Int32) (a2 : Int32) (rE : Int32) (hE : HH) (hF : F_X4_goReset this a1 a2 h0 = some (rE, hE)) : MC D dA l yX4_goReset cX4_goReset 4 (Option.some Jvm.ClassFile.FieldType.int) [] 5 110 [va_rf (some this), .int a1, .int a2] h0 (.inr (some (.int rE)), hE) := by
  refine mc_of hl (plainFor_of_name pn_X4) (by simp [lg_sl, cat_rf, cat_i, cat_j, cat_f, cat_d]) ?_
  intro p e s m args below meth c R hRf hRl X hr hnm
  unfold F_X4_goReset at hF
  rw [show argL [va_rf (some this), .int a1, .int a2] = [some (va_rf (some this)), some (.int a1), some (.int a2)] from by simp [argL, cat_rf, cat_i, cat_j, cat_f, cat_d]]
  refine G.pad 1 (L' := [some (va_rf (some this)), some (.int a1), some (.int a2), none]) rfl ?_
  refine g_iload_n X dX4_goReset_0 rfl rfl ?_
  refine g_callS X (w_X4_isClock l hl D dA h0 a1) q1948 q1949 q103 q1950 okn_X4_isClock ⟨by rw [hRf]; exact Nat.le_of_ble_eq_true rfl, by rw [hRl]; exact Nat.le_of_ble_eq_true rfl⟩ (As := [.int a1]) (rest := []) rfl (by first | exact Nat.le_of_ble_eq_true rfl | simp [cat_rf, cat_i, cat_j, cat_f, cat_d]) dX4_goReset_1 (ac_v ?_)
  refine g_if_eq X 17 dX4_goReset_4 (by decide) (fun c1 => ?_) (fun c1 => ?_)
  · have hF := (if_pos c1).symm.trans hF
    refine g_bipush (v := (-11 : Int32)) X dX4_goReset_17 (by decide) ?_
    cases hF
    exact g_iret X hr dX4_goReset_19
  · have hF := (if_neg c1).symm.trans hF
    refine g_iload_n X dX4_goReset_7 rfl rfl ?_
    refine g_iconst (v := (0 : Int32)) X dX4_goReset_8 (by decide) ?_
    refine g_bipush (v := (9 : Int32)) X dX4_goReset_9 (by decide) ?_
    refine g_callS X (w_X4_in l hl D dA h0 a2 (0 : Int32) (9 : Int32)) q1873 q1874 q103 q1875 okn_X4_in ⟨by rw [hRf]; exact Nat.le_of_ble_eq_true rfl, by rw [hRl]; exact Nat.le_of_ble_eq_true rfl⟩ (As := [.int a2, .int (0 : Int32), .int (9 : Int32)]) (rest := []) rfl (by first | exact Nat.le_of_ble_eq_true rfl | simp [cat_rf, cat_i, cat_j, cat_f, cat_d]) dX4_goReset_11 (ac_v ?_)
    refine g_if_ne X 20 dX4_goReset_14 (by decide) (fun c2 => ?_) (fun c2 => ?_)
    · have hF := (if_neg c2).symm.trans hF
      refine g_aload_n X dX4_goReset_20 rfl rfl ?_
      obtain ⟨ob3, eob3, hF⟩ := bnd hF
      obtain ⟨v5, h4, eh4, hF⟩ := b2_some hF
      refine g_callV X eob3 rfl rfl (w_X4_looks l hl D dA h0 ob3  v5 h4 eh4) q1880 q1882 qs34 q103 q1883 okn_X4_looks ⟨by rw [hRf]; exact Nat.le_of_ble_eq_true rfl, by rw [hRl]; exact Nat.le_of_ble_eq_true rfl⟩ (As := []) (rest := []) rfl (by first | exact Nat.le_of_ble_eq_true rfl | simp [cat_rf, cat_i, cat_j, cat_f, cat_d]) dX4_goReset_21 (ac_v ?_)
      refine g_if_ne X 30 dX4_goReset_24 (by decide) (fun c6 => ?_) (fun c6 => ?_)
      · have hF := (if_neg c6).symm.trans hF
        refine g_aload_n X dX4_goReset_30 rfl rfl ?_
        refine g_iload_n X dX4_goReset_31 rfl rfl ?_
        obtain ⟨ob7, eob7, hF⟩ := bnd hF
        obtain ⟨v8, ev8, hF⟩ := bnd hF
        refine g_callV X eob7 rfl rfl (w_X4_most l hl D dA h4 ob7 a1 v8 ev8) q1951 q1953 qs44 q103 q1954 okn_X4_most ⟨by rw [hRf]; exact Nat.le_of_ble_eq_true rfl, by rw [hRl]; exact Nat.le_of_ble_eq_true rfl⟩ (As := [.int a1]) (rest := []) rfl (by first | exact Nat.le_of_ble_eq_true rfl | simp [cat_rf, cat_i, cat_j, cat_f, cat_d]) dX4_goReset_32 (ac_v ?_)
        refine g_istore_n (L' := [some (va_rf (some this)), some (.int a1), some (.int a2), some (.int v8)]) X dX4_goReset_35 rfl (Nat.le_of_ble_eq_true rfl) (by first | rfl | simp [stL, rm1, clr2, cat_rf, cat_i, cat_j, cat_f, cat_d]) ?_
        refine g_aload_n X dX4_goReset_36 rfl rfl ?_
        refine g_iload_n X dX4_goReset_37 rfl rfl ?_
        refine g_iload_n X dX4_goReset_38 rfl rfl ?_
        obtain ⟨ob9, eob9, hF⟩ := bnd hF
        obtain ⟨h10, eh10, hF⟩ := bnd hF
        refine g_callV X eob9 rfl rfl (w_X4_resets l hl D dA h4 ob9 a1 a2 h10 eh10) q1955 q1957 qs45 q103 q1958 okn_X4_resets ⟨by rw [hRf]; exact Nat.le_of_ble_eq_true rfl, by rw [hRl]; exact Nat.le_of_ble_eq_true rfl⟩ (As := [.int a1, .int a2]) (rest := []) rfl (by first | exact Nat.le_of_ble_eq_true rfl | simp [cat_rf, cat_i, cat_j, cat_f, cat_d]) dX4_goReset_39 (ac_0 ?_)
        refine g_aload_n X dX4_goReset_42 rfl rfl ?_
        refine g_iload_n X dX4_goReset_43 rfl rfl ?_
        refine g_ldc (v := (100000 : Int32)) X q1762 dX4_goReset_44 ?_
        suffices K : G p l e R s m args below meth c (RQ D dA h0 (.inr (some (.int rE)), hE) below s) D dA h0 4 h10 55 [none, none, none, none] [.int (if v8 = (100000 : Int32) then (31 : Int32) else v8), va_rf (some this)] by
          refine g_icmp_ne X 54 dX4_goReset_46 (by decide) (fun c11 => ?_) (fun c11 => ?_)
          · (try simp only [if_neg c11] at K)
            refine g_iload_n X dX4_goReset_54 rfl rfl ?_
            refine G.drop [false, false, false, false] rfl ?_
            first | exact K | (simp only [if_neg c11]; exact K)
          · (try simp only [if_pos c11] at K)
            refine g_bipush (v := (31 : Int32)) X dX4_goReset_49 (by decide) ?_
            refine g_goto X 55 dX4_goReset_51 (by decide) ?_
            refine G.drop [false, false, false, false] rfl ?_
            first | exact K | (simp only [if_pos c11]; exact K)
        obtain ⟨ob12, eob12, hF⟩ := bnd hF
        obtain ⟨v14, h13, eh13, hF⟩ := b2_some hF
        refine g_callV X eob12 rfl rfl (w_X4_tells l hl D dA h10 ob12 (if v8 = (100000 : Int32) then (31 : Int32) else v8) v14 h13 eh13) q1959 q1961 qs46 q103 q1962 okn_X4_tells ⟨by rw [hRf]; exact Nat.le_of_ble_eq_true rfl, by rw [hRl]; exact Nat.le_of_ble_eq_true rfl⟩ (As := [.int (if v8 = (100000 : Int32) then (31 : Int32) else v8)]) (rest := []) rfl (by first | exact Nat.le_of_ble_eq_true rfl | simp [cat_rf, cat_i, cat_j, cat_f, cat_d]) dX4_goReset_55 (ac_v ?_)
        cases hF
        exact g_iret X hr dX4_goReset_58
      · have hF := (if_pos c6).symm.trans hF
        refine g_bipush (v := (-12 : Int32)) X dX4_goReset_27 (by decide) ?_
        cases hF
        exact g_iret X hr dX4_goReset_29
    · have hF := (if_pos c2).symm.trans hF
      refine g_bipush (v := (-11 : Int32)) X dX4_goReset_17 (by decide) ?_
      cases hF
      exact g_iret X hr dX4_goReset_19
def F_X4_reset (this : Nat) (a1 : Int32) (a2 : Int32) (h0 : HH) : Option (Int32 × HH) :=
  Option.bind (isO h0 1 (some this)) fun ob1 =>
  Option.bind (F_X4_begins ob1 h0) fun h2 =>
  Option.bind (isO h2 1 (some this)) fun ob3 =>
  b2 (F_X4_goReset ob3 a1 a2 h2) fun v5 h4 =>
  Option.bind (isO h4 1 (some this)) fun ob6 =>
  b2 (F_X4_ends ob6 v5 h4) fun v8 h7 =>
  some (v8, h7)
set_option maxHeartbeats 4000000 in
theorem w_X4_reset (l : Launch) (hl : l.stackTraces = false) (D : va_G) (dA : Nat → ClassId) (h0 : HH) (this : Nat) (a1 : Int32) (a2 : Int32) (rE : Int32) (hE : HH) (hF : F_X4_reset this a1 a2 h0 = some (rE, hE)) : MC D dA l yX4_reset cX4_reset 3 (Option.some Jvm.ClassFile.FieldType.int) [] 6 133 [va_rf (some this), .int a1, .int a2] h0 (.inr (some (.int rE)), hE) := by
  refine mc_of hl (plainFor_of_name pn_X4) (by simp [lg_sl, cat_rf, cat_i, cat_j, cat_f, cat_d]) ?_
  intro p e s m args below meth c R hRf hRl X hr hnm
  unfold F_X4_reset at hF
  rw [show argL [va_rf (some this), .int a1, .int a2] = [some (va_rf (some this)), some (.int a1), some (.int a2)] from by simp [argL, cat_rf, cat_i, cat_j, cat_f, cat_d]]
  refine g_aload_n X dX4_reset_0 rfl rfl ?_
  obtain ⟨ob1, eob1, hF⟩ := bnd hF
  obtain ⟨h2, eh2, hF⟩ := bnd hF
  refine g_callV X eob1 rfl rfl (w_X4_begins l hl D dA h0 ob1  h2 eh2) q1859 q1861 qs31 q103 q1862 okn_X4_begins ⟨by rw [hRf]; exact Nat.le_of_ble_eq_true rfl, by rw [hRl]; exact Nat.le_of_ble_eq_true rfl⟩ (As := []) (rest := []) rfl (by first | exact Nat.le_of_ble_eq_true rfl | simp [cat_rf, cat_i, cat_j, cat_f, cat_d]) dX4_reset_1 (ac_0 ?_)
  refine g_aload_n X dX4_reset_4 rfl rfl ?_
  refine g_aload_n X dX4_reset_5 rfl rfl ?_
  refine g_iload_n X dX4_reset_6 rfl rfl ?_
  refine g_iload_n X dX4_reset_7 rfl rfl ?_
  obtain ⟨ob3, eob3, hF⟩ := bnd hF
  obtain ⟨v5, h4, eh4, hF⟩ := b2_some hF
  refine g_callV X eob3 rfl rfl (w_X4_goReset l hl D dA h2 ob3 a1 a2 v5 h4 eh4) q1944 q1946 qs43 q103 q1947 okn_X4_goReset ⟨by rw [hRf]; exact Nat.le_of_ble_eq_true rfl, by rw [hRl]; exact Nat.le_of_ble_eq_true rfl⟩ (As := [.int a1, .int a2]) (rest := [va_rf (some this)]) rfl (by first | exact Nat.le_of_ble_eq_true rfl | simp [cat_rf, cat_i, cat_j, cat_f, cat_d]) dX4_reset_8 (ac_v ?_)
  obtain ⟨ob6, eob6, hF⟩ := bnd hF
  obtain ⟨v8, h7, eh7, hF⟩ := b2_some hF
  refine g_callV X eob6 rfl rfl (w_X4_ends l hl D dA h4 ob6 v5 v8 h7 eh7) q1896 q1898 qs35 q103 q1899 okn_X4_ends ⟨by rw [hRf]; exact Nat.le_of_ble_eq_true rfl, by rw [hRl]; exact Nat.le_of_ble_eq_true rfl⟩ (As := [.int v5]) (rest := []) rfl (by first | exact Nat.le_of_ble_eq_true rfl | simp [cat_rf, cat_i, cat_j, cat_f, cat_d]) dX4_reset_11 (ac_v ?_)
  cases hF
  exact g_iret X hr dX4_reset_14
def F_X4_delays_B4 (this : Nat) (x1_1 : Int32) (x2_1 : Int32) (h_1 : HH) : Option ((Int32 × Int32 × HH) ⊕ (Int32 × HH)) :=
  if (3 : Int32) ≤ x2_1 then (
    some (.inr (x1_1, h_1))
  ) else (
    Option.bind (isO h_1 1 (some this)) fun ob3 =>
    Option.bind (F_X4_most ob3 x2_1 h_1) fun v4 =>
    Option.bind (getR h_1 1 9 (some this)) fun v6 =>
    Option.bind (astI h_1 v6 (((4 : Int32) * x2_1) + (3 : Int32)) (100000 : Int32)) fun h7 =>
    some (.inl ((x1_1 + (if v4 = (100000 : Int32) then (0 : Int32) else (1 : Int32))), (x2_1 + (1 : Int32)), h7))
  )
def F_X4_delays (this : Nat) (h0 : HH) : Option (Int32 × HH) :=
  Option.bind (lp (fun z => F_X4_delays_B4 this z.1 z.2.1 z.2.2) 100000 ((0 : Int32), (0 : Int32), h0)) fun (v8, h9) =>
  some (v8, h9)
set_option maxHeartbeats 4000000 in
theorem w_X4_delays (l : Launch) (hl : l.stackTraces = false) (D : va_G) (dA : Nat → ClassId) (h0 : HH) (this : Nat) (rE : Int32) (hE : HH) (hF : F_X4_delays this h0 = some (rE, hE)) : MC D dA l yX4_delays cX4_delays 3 (Option.some Jvm.ClassFile.FieldType.int) [] 1 21 [va_rf (some this)] h0 (.inr (some (.int rE)), hE) := by
  refine mc_of hl (plainFor_of_name pn_X4) (by simp [lg_sl, cat_rf, cat_i, cat_j, cat_f, cat_d]) ?_
  intro p e s m args below meth c R hRf hRl X hr hnm
  unfold F_X4_delays at hF
  rw [show argL [va_rf (some this)] = [some (va_rf (some this))] from by simp [argL, cat_rf, cat_i, cat_j, cat_f, cat_d]]
  refine G.pad 2 (L' := [some (va_rf (some this)), none, none]) rfl ?_
  refine g_iconst (v := (0 : Int32)) X dX4_delays_0 (by decide) ?_
  refine g_istore_n (L' := [some (va_rf (some this)), some (.int (0 : Int32)), none]) X dX4_delays_1 rfl (Nat.le_of_ble_eq_true rfl) (by first | rfl | simp [stL, rm1, clr2, cat_rf, cat_i, cat_j, cat_f, cat_d]) ?_
  refine g_iconst (v := (0 : Int32)) X dX4_delays_2 (by decide) ?_
  refine g_istore_n (L' := [some (va_rf (some this)), some (.int (0 : Int32)), some (.int (0 : Int32))]) X dX4_delays_3 rfl (Nat.le_of_ble_eq_true rfl) (by first | rfl | simp [stL, rm1, clr2, cat_rf, cat_i, cat_j, cat_f, cat_d]) ?_
  obtain ⟨⟨v8, h9⟩, e10, hF⟩ := bnd hF
  dsimp only at hF
  refine lp_ind (Gs := (fun z => G p l e R s m args below meth c (RQ D dA h0 (.inr (some (.int rE)), hE) below s) D dA h0 3 z.2.2 4 [some (va_rf (some this)), some (.int z.1), some (.int z.2.1)] [])) (Ge := (fun z => G p l e R s m args below meth c (RQ D dA h0 (.inr (some (.int rE)), hE) below s) D dA h0 3 z.2 45 [none, some (.int z.1), none] [])) ?_ _ _ _ e10 ?_
  · rintro ⟨x1_1, x2_1, h_1⟩ o hF hgo hr
    change F_X4_delays_B4 this x1_1 x2_1 h_1 = some o at hF
    unfold F_X4_delays_B4 at hF
    show G p l e R s m args below meth c (RQ D dA h0 (.inr (some (.int rE)), hE) below s) D dA h0 3 h_1 4 [some (va_rf (some this)), some (.int x1_1), some (.int x2_1)] []
    refine g_iload_n X dX4_delays_4 rfl rfl ?_
    refine g_iconst (v := (3 : Int32)) X dX4_delays_5 (by decide) ?_
    refine g_icmp_ge X 45 dX4_delays_6 (by decide) (fun c2 => ?_) (fun c2 => ?_)
    · have hF := (if_pos c2).symm.trans hF
      refine G.drop [false, true, false] rfl ?_
      cases hF
      exact hr _ rfl
    · have hF := (if_neg c2).symm.trans hF
      refine g_iload_n X dX4_delays_9 rfl rfl ?_
      refine g_aload_n X dX4_delays_10 rfl rfl ?_
      refine g_iload_n X dX4_delays_11 rfl rfl ?_
      obtain ⟨ob3, eob3, hF⟩ := bnd hF
      obtain ⟨v4, ev4, hF⟩ := bnd hF
      refine g_callV X eob3 rfl rfl (w_X4_most l hl D dA h_1 ob3 x2_1 v4 ev4) q1951 q1953 qs44 q103 q1954 okn_X4_most ⟨by rw [hRf]; exact Nat.le_of_ble_eq_true rfl, by rw [hRl]; exact Nat.le_of_ble_eq_true rfl⟩ (As := [.int x2_1]) (rest := [.int x1_1]) rfl (by first | exact Nat.le_of_ble_eq_true rfl | simp [cat_rf, cat_i, cat_j, cat_f, cat_d]) dX4_delays_12 (ac_v ?_)
      refine g_ldc (v := (100000 : Int32)) X q1762 dX4_delays_15 ?_
      suffices K : G p l e R s m args below meth c (RQ D dA h0 (.inr (some (.int rE)), hE) below s) D dA h0 3 h_1 25 [some (va_rf (some this)), none, some (.int x2_1)] [.int (if v4 = (100000 : Int32) then (0 : Int32) else (1 : Int32)), .int x1_1] by
        refine g_icmp_eq X 24 dX4_delays_17 (by decide) (fun c5 => ?_) (fun c5 => ?_)
        · (try simp only [if_pos c5] at K)
          refine g_iconst (v := (0 : Int32)) X dX4_delays_24 (by decide) ?_
          refine G.drop [true, false, true] rfl ?_
          first | exact K | (simp only [if_pos c5]; exact K)
        · (try simp only [if_neg c5] at K)
          refine g_iconst (v := (1 : Int32)) X dX4_delays_20 (by decide) ?_
          refine g_goto X 25 dX4_delays_21 (by decide) ?_
          refine G.drop [true, false, true] rfl ?_
          first | exact K | (simp only [if_neg c5]; exact K)
      refine g_iadd X dX4_delays_25 ?_
      refine g_istore_n (L' := [some (va_rf (some this)), some (.int (x1_1 + (if v4 = (100000 : Int32) then (0 : Int32) else (1 : Int32)))), some (.int x2_1)]) X dX4_delays_26 rfl (Nat.le_of_ble_eq_true rfl) (by first | rfl | simp [stL, rm1, clr2, cat_rf, cat_i, cat_j, cat_f, cat_d]) ?_
      refine g_aload_n X dX4_delays_27 rfl rfl ?_
      obtain ⟨v6, ev6, hF⟩ := bnd hF
      refine g_get (k := 9) X in_X4 rfl (by decide) q1772 (Or.inl rfl) (getR_V ev6) dX4_delays_28 ?_
      refine g_iconst (v := (4 : Int32)) X dX4_delays_31 (by decide) ?_
      refine g_iload_n X dX4_delays_32 rfl rfl ?_
      refine g_imul X dX4_delays_33 ?_
      refine g_iconst (v := (3 : Int32)) X dX4_delays_34 (by decide) ?_
      refine g_iadd X dX4_delays_35 ?_
      refine g_ldc (v := (100000 : Int32)) X q1762 dX4_delays_36 ?_
      obtain ⟨h7, eh7, hF⟩ := bnd hF
      refine g_iast X eh7 dX4_delays_38 ?_
      refine g_iinc (v := (x2_1 + (1 : Int32))) (L' := [some (va_rf (some this)), some (.int (x1_1 + (if v4 = (100000 : Int32) then (0 : Int32) else (1 : Int32)))), some (.int (x2_1 + (1 : Int32)))]) X dX4_delays_39 (Nat.le_of_ble_eq_true rfl) rfl rfl (by first | rfl | simp [stL, rm1, clr2, cat_rf, cat_i, cat_j, cat_f, cat_d]) ?_
      refine g_goto X 4 dX4_delays_42 (by decide) ?_
      cases hF
      exact hgo _ rfl
  show G p l e R s m args below meth c (RQ D dA h0 (.inr (some (.int rE)), hE) below s) D dA h0 3 h9 45 [none, some (.int v8), none] []
  refine g_iload_n X dX4_delays_45 rfl rfl ?_
  cases hF
  exact g_iret X hr dX4_delays_46
def F_X4_goDelay (this : Nat) (h0 : HH) : Option (Int32 × HH) :=
  Option.bind (isO h0 1 (some this)) fun ob1 =>
  b2 (F_X4_looks ob1 h0) fun v3 h2 =>
  if v3 = 0 then (
    some ((-12 : Int32), h2)
  ) else (
    Option.bind (isO h2 1 (some this)) fun ob5 =>
    b2 (F_X4_delays ob5 h2) fun v7 h6 =>
    Option.bind (isO h6 1 (some this)) fun ob8 =>
    b2 (F_X4_tells ob8 v7 h6) fun v10 h9 =>
    some (v10, h9)
  )
set_option maxHeartbeats 4000000 in
theorem w_X4_goDelay (l : Launch) (hl : l.stackTraces = false) (D : va_G) (dA : Nat → ClassId) (h0 : HH) (this : Nat) (rE : Int32) (hE : HH) (hF : F_X4_goDelay this h0 = some (rE, hE)) : MC D dA l yX4_goDelay cX4_goDelay 1 (Option.some Jvm.ClassFile.FieldType.int) [] 5 110 [va_rf (some this)] h0 (.inr (some (.int rE)), hE) := by
  refine mc_of hl (plainFor_of_name pn_X4) (by simp [lg_sl, cat_rf, cat_i, cat_j, cat_f, cat_d]) ?_
  intro p e s m args below meth c R hRf hRl X hr hnm
  unfold F_X4_goDelay at hF
  rw [show argL [va_rf (some this)] = [some (va_rf (some this))] from by simp [argL, cat_rf, cat_i, cat_j, cat_f, cat_d]]
  refine g_aload_n X dX4_goDelay_0 rfl rfl ?_
  obtain ⟨ob1, eob1, hF⟩ := bnd hF
  obtain ⟨v3, h2, eh2, hF⟩ := b2_some hF
  refine g_callV X eob1 rfl rfl (w_X4_looks l hl D dA h0 ob1  v3 h2 eh2) q1880 q1882 qs34 q103 q1883 okn_X4_looks ⟨by rw [hRf]; exact Nat.le_of_ble_eq_true rfl, by rw [hRl]; exact Nat.le_of_ble_eq_true rfl⟩ (As := []) (rest := []) rfl (by first | exact Nat.le_of_ble_eq_true rfl | simp [cat_rf, cat_i, cat_j, cat_f, cat_d]) dX4_goDelay_1 (ac_v ?_)
  refine g_if_ne X 10 dX4_goDelay_4 (by decide) (fun c4 => ?_) (fun c4 => ?_)
  · have hF := (if_neg c4).symm.trans hF
    refine g_aload_n X dX4_goDelay_10 rfl rfl ?_
    refine g_aload_n X dX4_goDelay_11 rfl rfl ?_
    obtain ⟨ob5, eob5, hF⟩ := bnd hF
    obtain ⟨v7, h6, eh6, hF⟩ := b2_some hF
    refine g_callV X eob5 rfl rfl (w_X4_delays l hl D dA h2 ob5  v7 h6 eh6) q1971 q1973 qs48 q103 q1974 okn_X4_delays ⟨by rw [hRf]; exact Nat.le_of_ble_eq_true rfl, by rw [hRl]; exact Nat.le_of_ble_eq_true rfl⟩ (As := []) (rest := [va_rf (some this)]) rfl (by first | exact Nat.le_of_ble_eq_true rfl | simp [cat_rf, cat_i, cat_j, cat_f, cat_d]) dX4_goDelay_12 (ac_v ?_)
    obtain ⟨ob8, eob8, hF⟩ := bnd hF
    obtain ⟨v10, h9, eh9, hF⟩ := b2_some hF
    refine g_callV X eob8 rfl rfl (w_X4_tells l hl D dA h6 ob8 v7 v10 h9 eh9) q1959 q1961 qs46 q103 q1962 okn_X4_tells ⟨by rw [hRf]; exact Nat.le_of_ble_eq_true rfl, by rw [hRl]; exact Nat.le_of_ble_eq_true rfl⟩ (As := [.int v7]) (rest := []) rfl (by first | exact Nat.le_of_ble_eq_true rfl | simp [cat_rf, cat_i, cat_j, cat_f, cat_d]) dX4_goDelay_15 (ac_v ?_)
    cases hF
    exact g_iret X hr dX4_goDelay_18
  · have hF := (if_pos c4).symm.trans hF
    refine g_bipush (v := (-12 : Int32)) X dX4_goDelay_7 (by decide) ?_
    cases hF
    exact g_iret X hr dX4_goDelay_9
def F_X4_delay (this : Nat) (h0 : HH) : Option (Int32 × HH) :=
  Option.bind (isO h0 1 (some this)) fun ob1 =>
  Option.bind (F_X4_begins ob1 h0) fun h2 =>
  Option.bind (isO h2 1 (some this)) fun ob3 =>
  b2 (F_X4_goDelay ob3 h2) fun v5 h4 =>
  Option.bind (isO h4 1 (some this)) fun ob6 =>
  b2 (F_X4_only ob6 v5 h4) fun v8 h7 =>
  some (v8, h7)
set_option maxHeartbeats 4000000 in
theorem w_X4_delay (l : Launch) (hl : l.stackTraces = false) (D : va_G) (dA : Nat → ClassId) (h0 : HH) (this : Nat) (rE : Int32) (hE : HH) (hF : F_X4_delay this h0 = some (rE, hE)) : MC D dA l yX4_delay cX4_delay 1 (Option.some Jvm.ClassFile.FieldType.int) [] 6 130 [va_rf (some this)] h0 (.inr (some (.int rE)), hE) := by
  refine mc_of hl (plainFor_of_name pn_X4) (by simp [lg_sl, cat_rf, cat_i, cat_j, cat_f, cat_d]) ?_
  intro p e s m args below meth c R hRf hRl X hr hnm
  unfold F_X4_delay at hF
  rw [show argL [va_rf (some this)] = [some (va_rf (some this))] from by simp [argL, cat_rf, cat_i, cat_j, cat_f, cat_d]]
  refine g_aload_n X dX4_delay_0 rfl rfl ?_
  obtain ⟨ob1, eob1, hF⟩ := bnd hF
  obtain ⟨h2, eh2, hF⟩ := bnd hF
  refine g_callV X eob1 rfl rfl (w_X4_begins l hl D dA h0 ob1  h2 eh2) q1859 q1861 qs31 q103 q1862 okn_X4_begins ⟨by rw [hRf]; exact Nat.le_of_ble_eq_true rfl, by rw [hRl]; exact Nat.le_of_ble_eq_true rfl⟩ (As := []) (rest := []) rfl (by first | exact Nat.le_of_ble_eq_true rfl | simp [cat_rf, cat_i, cat_j, cat_f, cat_d]) dX4_delay_1 (ac_0 ?_)
  refine g_aload_n X dX4_delay_4 rfl rfl ?_
  refine g_aload_n X dX4_delay_5 rfl rfl ?_
  obtain ⟨ob3, eob3, hF⟩ := bnd hF
  obtain ⟨v5, h4, eh4, hF⟩ := b2_some hF
  refine g_callV X eob3 rfl rfl (w_X4_goDelay l hl D dA h2 ob3  v5 h4 eh4) q1967 q1969 qs47 q103 q1970 okn_X4_goDelay ⟨by rw [hRf]; exact Nat.le_of_ble_eq_true rfl, by rw [hRl]; exact Nat.le_of_ble_eq_true rfl⟩ (As := []) (rest := [va_rf (some this)]) rfl (by first | exact Nat.le_of_ble_eq_true rfl | simp [cat_rf, cat_i, cat_j, cat_f, cat_d]) dX4_delay_6 (ac_v ?_)
  obtain ⟨ob6, eob6, hF⟩ := bnd hF
  obtain ⟨v8, h7, eh7, hF⟩ := b2_some hF
  refine g_callV X eob6 rfl rfl (w_X4_only l hl D dA h4 ob6 v5 v8 h7 eh7) q1936 q1938 qs42 q103 q1939 okn_X4_only ⟨by rw [hRf]; exact Nat.le_of_ble_eq_true rfl, by rw [hRl]; exact Nat.le_of_ble_eq_true rfl⟩ (As := [.int v5]) (rest := []) rfl (by first | exact Nat.le_of_ble_eq_true rfl | simp [cat_rf, cat_i, cat_j, cat_f, cat_d]) dX4_delay_9 (ac_v ?_)
  cases hF
  exact g_iret X hr dX4_delay_12
def F_X4_toldBounds (this : Nat) (h0 : HH) : Option (Int32 × HH) :=
  Option.bind (isO h0 1 (some this)) fun ob1 =>
  b2 (F_X4_tells ob1 (0 : Int32) h0) fun v3 h2 =>
  if v3 = (-12 : Int32) then (
    some ((-12 : Int32), h2)
  ) else (
    Option.bind (isO h2 1 (some this)) fun ob5 =>
    Option.bind (F_X4_changed ob5 h2) fun v6 =>
    some (v6, h2)
  )
set_option maxHeartbeats 4000000 in
theorem w_X4_toldBounds (l : Launch) (hl : l.stackTraces = false) (D : va_G) (dA : Nat → ClassId) (h0 : HH) (this : Nat) (rE : Int32) (hE : HH) (hF : F_X4_toldBounds this h0 = some (rE, hE)) : MC D dA l yX4_toldBounds cX4_toldBounds 2 (Option.some Jvm.ClassFile.FieldType.int) [] 5 110 [va_rf (some this)] h0 (.inr (some (.int rE)), hE) := by
  refine mc_of hl (plainFor_of_name pn_X4) (by simp [lg_sl, cat_rf, cat_i, cat_j, cat_f, cat_d]) ?_
  intro p e s m args below meth c R hRf hRl X hr hnm
  unfold F_X4_toldBounds at hF
  rw [show argL [va_rf (some this)] = [some (va_rf (some this))] from by simp [argL, cat_rf, cat_i, cat_j, cat_f, cat_d]]
  refine G.pad 1 (L' := [some (va_rf (some this)), none]) rfl ?_
  refine g_aload_n X dX4_toldBounds_0 rfl rfl ?_
  refine g_iconst (v := (0 : Int32)) X dX4_toldBounds_1 (by decide) ?_
  obtain ⟨ob1, eob1, hF⟩ := bnd hF
  obtain ⟨v3, h2, eh2, hF⟩ := b2_some hF
  refine g_callV X eob1 rfl rfl (w_X4_tells l hl D dA h0 ob1 (0 : Int32) v3 h2 eh2) q1959 q1961 qs46 q103 q1962 okn_X4_tells ⟨by rw [hRf]; exact Nat.le_of_ble_eq_true rfl, by rw [hRl]; exact Nat.le_of_ble_eq_true rfl⟩ (As := [.int (0 : Int32)]) (rest := []) rfl (by first | exact Nat.le_of_ble_eq_true rfl | simp [cat_rf, cat_i, cat_j, cat_f, cat_d]) dX4_toldBounds_2 (ac_v ?_)
  refine g_istore_n (L' := [some (va_rf (some this)), some (.int v3)]) X dX4_toldBounds_5 rfl (Nat.le_of_ble_eq_true rfl) (by first | rfl | simp [stL, rm1, clr2, cat_rf, cat_i, cat_j, cat_f, cat_d]) ?_
  refine g_iload_n X dX4_toldBounds_6 rfl rfl ?_
  refine g_bipush (v := (-12 : Int32)) X dX4_toldBounds_7 (by decide) ?_
  refine g_icmp_ne X 17 dX4_toldBounds_9 (by decide) (fun c4 => ?_) (fun c4 => ?_)
  · have hF := (if_neg c4).symm.trans hF
    refine g_aload_n X dX4_toldBounds_17 rfl rfl ?_
    obtain ⟨ob5, eob5, hF⟩ := bnd hF
    obtain ⟨v6, ev6, hF⟩ := bnd hF
    refine g_callV X eob5 rfl rfl (w_X4_changed l hl D dA h2 ob5  v6 ev6) q1920 q1922 qs39 q103 q1923 okn_X4_changed ⟨by rw [hRf]; exact Nat.le_of_ble_eq_true rfl, by rw [hRl]; exact Nat.le_of_ble_eq_true rfl⟩ (As := []) (rest := []) rfl (by first | exact Nat.le_of_ble_eq_true rfl | simp [cat_rf, cat_i, cat_j, cat_f, cat_d]) dX4_toldBounds_18 (ac_v ?_)
    cases hF
    exact g_iret X hr dX4_toldBounds_21
  · have hF := (if_pos c4).symm.trans hF
    refine g_bipush (v := (-12 : Int32)) X dX4_toldBounds_12 (by decide) ?_
    refine g_goto X 21 dX4_toldBounds_14 (by decide) ?_
    cases hF
    exact g_iret X hr dX4_toldBounds_21
def F_X4_goWayBack_B21 (this : Nat) (x1_5 : Int32) (x2_7 : Int32) (x3_7 : Int32) (h_5 : HH) : Option ((Int32 × Int32) ⊕ Int32) :=
  if (3 : Int32) ≤ x3_7 then (
    some (.inr x2_7)
  ) else (
    if x3_7 = x1_5 then (
      some (.inl (x2_7, (x3_7 + (1 : Int32))))
    ) else (
      Option.bind (getR h_5 1 9 (some this)) fun v10 =>
      Option.bind (aldI h_5 0 v10 (((4 : Int32) * x3_7) + x1_5)) fun v11 =>
      some (.inl ((F_X4_less x2_7 v11), (x3_7 + (1 : Int32))))
    )
  )
def F_X4_goWayBack_B12 (this : Nat) (x1_5 : Int32) (h_5 : HH) : Option ((Int32 × HH) ⊕ HH) :=
  if (3 : Int32) ≤ x1_5 then (
    some (.inr h_5)
  ) else (
    Option.bind (lp (fun z => F_X4_goWayBack_B21 this x1_5 z.1 z.2 h_5) 100000 ((0 : Int32), (0 : Int32))) fun v12 =>
    Option.bind (getR h_5 1 9 (some this)) fun v13 =>
    Option.bind (astI h_5 v13 ((12 : Int32) + x1_5) v12) fun h14 =>
    some (.inl ((x1_5 + (1 : Int32)), h14))
  )
def F_X4_goWayBack (this : Nat) (h0 : HH) : Option (Int32 × HH) :=
  Option.bind (isO h0 1 (some this)) fun ob1 =>
  b2 (F_X4_looks ob1 h0) fun v3 h2 =>
  if v3 = 0 then (
    some ((-12 : Int32), h2)
  ) else (
    Option.bind (lp (fun z => F_X4_goWayBack_B12 this z.1 z.2) 100000 ((0 : Int32), h2)) fun h17 =>
    Option.bind (isO h17 1 (some this)) fun ob18 =>
    b2 (F_X4_toldBounds ob18 h17) fun v20 h19 =>
    some (v20, h19)
  )
set_option maxHeartbeats 4000000 in
theorem w_X4_goWayBack (l : Launch) (hl : l.stackTraces = false) (D : va_G) (dA : Nat → ClassId) (h0 : HH) (this : Nat) (rE : Int32) (hE : HH) (hF : F_X4_goWayBack this h0 = some (rE, hE)) : MC D dA l yX4_goWayBack cX4_goWayBack 4 (Option.some Jvm.ClassFile.FieldType.int) [] 6 131 [va_rf (some this)] h0 (.inr (some (.int rE)), hE) := by
  refine mc_of hl (plainFor_of_name pn_X4) (by simp [lg_sl, cat_rf, cat_i, cat_j, cat_f, cat_d]) ?_
  intro p e s m args below meth c R hRf hRl X hr hnm
  unfold F_X4_goWayBack at hF
  rw [show argL [va_rf (some this)] = [some (va_rf (some this))] from by simp [argL, cat_rf, cat_i, cat_j, cat_f, cat_d]]
  refine G.pad 3 (L' := [some (va_rf (some this)), none, none, none]) rfl ?_
  refine g_aload_n X dX4_goWayBack_0 rfl rfl ?_
  obtain ⟨ob1, eob1, hF⟩ := bnd hF
  obtain ⟨v3, h2, eh2, hF⟩ := b2_some hF
  refine g_callV X eob1 rfl rfl (w_X4_looks l hl D dA h0 ob1  v3 h2 eh2) q1880 q1882 qs34 q103 q1883 okn_X4_looks ⟨by rw [hRf]; exact Nat.le_of_ble_eq_true rfl, by rw [hRl]; exact Nat.le_of_ble_eq_true rfl⟩ (As := []) (rest := []) rfl (by first | exact Nat.le_of_ble_eq_true rfl | simp [cat_rf, cat_i, cat_j, cat_f, cat_d]) dX4_goWayBack_1 (ac_v ?_)
  refine g_if_ne X 10 dX4_goWayBack_4 (by decide) (fun c4 => ?_) (fun c4 => ?_)
  · have hF := (if_neg c4).symm.trans hF
    refine g_iconst (v := (0 : Int32)) X dX4_goWayBack_10 (by decide) ?_
    refine g_istore_n (L' := [some (va_rf (some this)), some (.int (0 : Int32)), none, none]) X dX4_goWayBack_11 rfl (Nat.le_of_ble_eq_true rfl) (by first | rfl | simp [stL, rm1, clr2, cat_rf, cat_i, cat_j, cat_f, cat_d]) ?_
    obtain ⟨h17, e21, hF⟩ := bnd hF
    refine lp_ind (Gs := (fun z => G p l e R s m args below meth c (RQ D dA h0 (.inr (some (.int rE)), hE) below s) D dA h0 4 z.2 12 [some (va_rf (some this)), some (.int z.1), none, none] [])) (Ge := (fun z => G p l e R s m args below meth c (RQ D dA h0 (.inr (some (.int rE)), hE) below s) D dA h0 4 z 72 [some (va_rf (some this)), none, none, none] [])) ?_ _ _ _ e21 ?_
    · rintro ⟨x1_5, h_5⟩ o hF hgo hr
      change F_X4_goWayBack_B12 this x1_5 h_5 = some o at hF
      unfold F_X4_goWayBack_B12 at hF
      show G p l e R s m args below meth c (RQ D dA h0 (.inr (some (.int rE)), hE) below s) D dA h0 4 h_5 12 [some (va_rf (some this)), some (.int x1_5), none, none] []
      refine g_iload_n X dX4_goWayBack_12 rfl rfl ?_
      refine g_iconst (v := (3 : Int32)) X dX4_goWayBack_13 (by decide) ?_
      refine g_icmp_ge X 72 dX4_goWayBack_14 (by decide) (fun c6 => ?_) (fun c6 => ?_)
      · have hF := (if_pos c6).symm.trans hF
        refine G.drop [true, false, false, false] rfl ?_
        cases hF
        exact hr _ rfl
      · have hF := (if_neg c6).symm.trans hF
        refine g_iconst (v := (0 : Int32)) X dX4_goWayBack_17 (by decide) ?_
        refine g_istore_n (L' := [some (va_rf (some this)), some (.int x1_5), some (.int (0 : Int32)), none]) X dX4_goWayBack_18 rfl (Nat.le_of_ble_eq_true rfl) (by first | rfl | simp [stL, rm1, clr2, cat_rf, cat_i, cat_j, cat_f, cat_d]) ?_
        refine g_iconst (v := (0 : Int32)) X dX4_goWayBack_19 (by decide) ?_
        refine g_istore_n (L' := [some (va_rf (some this)), some (.int x1_5), some (.int (0 : Int32)), some (.int (0 : Int32))]) X dX4_goWayBack_20 rfl (Nat.le_of_ble_eq_true rfl) (by first | rfl | simp [stL, rm1, clr2, cat_rf, cat_i, cat_j, cat_f, cat_d]) ?_
        obtain ⟨v12, e15, hF⟩ := bnd hF
        refine lp_ind (Gs := (fun z => G p l e R s m args below meth c (RQ D dA h0 (.inr (some (.int rE)), hE) below s) D dA h0 4 h_5 21 [some (va_rf (some this)), some (.int x1_5), some (.int z.1), some (.int z.2)] [])) (Ge := (fun z => G p l e R s m args below meth c (RQ D dA h0 (.inr (some (.int rE)), hE) below s) D dA h0 4 h_5 56 [some (va_rf (some this)), some (.int x1_5), some (.int z), none] [])) ?_ _ _ _ e15 ?_
        · rintro ⟨x2_7, x3_7⟩ o hF hgo hr
          change F_X4_goWayBack_B21 this x1_5 x2_7 x3_7 h_5 = some o at hF
          unfold F_X4_goWayBack_B21 at hF
          show G p l e R s m args below meth c (RQ D dA h0 (.inr (some (.int rE)), hE) below s) D dA h0 4 h_5 21 [some (va_rf (some this)), some (.int x1_5), some (.int x2_7), some (.int x3_7)] []
          refine g_iload_n X dX4_goWayBack_21 rfl rfl ?_
          refine g_iconst (v := (3 : Int32)) X dX4_goWayBack_22 (by decide) ?_
          refine g_icmp_ge X 56 dX4_goWayBack_23 (by decide) (fun c8 => ?_) (fun c8 => ?_)
          · have hF := (if_pos c8).symm.trans hF
            refine G.drop [true, true, true, false] rfl ?_
            cases hF
            exact hr _ rfl
          · have hF := (if_neg c8).symm.trans hF
            refine g_iload_n X dX4_goWayBack_26 rfl rfl ?_
            refine g_iload_n X dX4_goWayBack_27 rfl rfl ?_
            refine g_icmp_ne X 35 dX4_goWayBack_28 (by decide) (fun c9 => ?_) (fun c9 => ?_)
            · have hF := (if_neg c9).symm.trans hF
              refine g_iload_n X dX4_goWayBack_35 rfl rfl ?_
              refine g_aload_n X dX4_goWayBack_36 rfl rfl ?_
              obtain ⟨v10, ev10, hF⟩ := bnd hF
              refine g_get (k := 9) X in_X4 rfl (by decide) q1772 (Or.inl rfl) (getR_V ev10) dX4_goWayBack_37 ?_
              refine g_iconst (v := (4 : Int32)) X dX4_goWayBack_40 (by decide) ?_
              refine g_iload_n X dX4_goWayBack_41 rfl rfl ?_
              refine g_imul X dX4_goWayBack_42 ?_
              refine g_iload_n X dX4_goWayBack_43 rfl rfl ?_
              refine g_iadd X dX4_goWayBack_44 ?_
              obtain ⟨v11, ev11, hF⟩ := bnd hF
              refine g_iald X ev11 dX4_goWayBack_45 ?_
              refine g_callS X (w_X4_less l hl D dA h_5 x2_7 v11) q1893 q1894 q103 q1895 okn_X4_less ⟨by rw [hRf]; exact Nat.le_of_ble_eq_true rfl, by rw [hRl]; exact Nat.le_of_ble_eq_true rfl⟩ (As := [.int x2_7, .int v11]) (rest := []) rfl (by first | exact Nat.le_of_ble_eq_true rfl | simp [cat_rf, cat_i, cat_j, cat_f, cat_d]) dX4_goWayBack_46 (ac_v ?_)
              refine g_istore_n (L' := [some (va_rf (some this)), some (.int x1_5), some (.int (F_X4_less x2_7 v11)), some (.int x3_7)]) X dX4_goWayBack_49 rfl (Nat.le_of_ble_eq_true rfl) (by first | rfl | simp [stL, rm1, clr2, cat_rf, cat_i, cat_j, cat_f, cat_d]) ?_
              refine g_iinc (v := (x3_7 + (1 : Int32))) (L' := [some (va_rf (some this)), some (.int x1_5), some (.int (F_X4_less x2_7 v11)), some (.int (x3_7 + (1 : Int32)))]) X dX4_goWayBack_50 (Nat.le_of_ble_eq_true rfl) rfl rfl (by first | rfl | simp [stL, rm1, clr2, cat_rf, cat_i, cat_j, cat_f, cat_d]) ?_
              refine g_goto X 21 dX4_goWayBack_53 (by decide) ?_
              cases hF
              exact hgo _ rfl
            · have hF := (if_pos c9).symm.trans hF
              refine g_iload_n X dX4_goWayBack_31 rfl rfl ?_
              refine g_goto X 49 dX4_goWayBack_32 (by decide) ?_
              refine g_istore_n (L' := [some (va_rf (some this)), some (.int x1_5), some (.int x2_7), some (.int x3_7)]) X dX4_goWayBack_49 rfl (Nat.le_of_ble_eq_true rfl) (by first | rfl | simp [stL, rm1, clr2, cat_rf, cat_i, cat_j, cat_f, cat_d]) ?_
              refine g_iinc (v := (x3_7 + (1 : Int32))) (L' := [some (va_rf (some this)), some (.int x1_5), some (.int x2_7), some (.int (x3_7 + (1 : Int32)))]) X dX4_goWayBack_50 (Nat.le_of_ble_eq_true rfl) rfl rfl (by first | rfl | simp [stL, rm1, clr2, cat_rf, cat_i, cat_j, cat_f, cat_d]) ?_
              refine g_goto X 21 dX4_goWayBack_53 (by decide) ?_
              cases hF
              exact hgo _ rfl
        show G p l e R s m args below meth c (RQ D dA h0 (.inr (some (.int rE)), hE) below s) D dA h0 4 h_5 56 [some (va_rf (some this)), some (.int x1_5), some (.int v12), none] []
        refine g_aload_n X dX4_goWayBack_56 rfl rfl ?_
        obtain ⟨v13, ev13, hF⟩ := bnd hF
        refine g_get (k := 9) X in_X4 rfl (by decide) q1772 (Or.inl rfl) (getR_V ev13) dX4_goWayBack_57 ?_
        refine g_bipush (v := (12 : Int32)) X dX4_goWayBack_60 (by decide) ?_
        refine g_iload_n X dX4_goWayBack_62 rfl rfl ?_
        refine g_iadd X dX4_goWayBack_63 ?_
        refine g_iload_n X dX4_goWayBack_64 rfl rfl ?_
        obtain ⟨h14, eh14, hF⟩ := bnd hF
        refine g_iast X eh14 dX4_goWayBack_65 ?_
        refine g_iinc (v := (x1_5 + (1 : Int32))) (L' := [some (va_rf (some this)), some (.int (x1_5 + (1 : Int32))), some (.int v12), none]) X dX4_goWayBack_66 (Nat.le_of_ble_eq_true rfl) rfl rfl (by first | rfl | simp [stL, rm1, clr2, cat_rf, cat_i, cat_j, cat_f, cat_d]) ?_
        refine g_goto X 12 dX4_goWayBack_69 (by decide) ?_
        refine G.drop [true, true, false, false] rfl ?_
        cases hF
        exact hgo _ rfl
    show G p l e R s m args below meth c (RQ D dA h0 (.inr (some (.int rE)), hE) below s) D dA h0 4 h17 72 [some (va_rf (some this)), none, none, none] []
    refine g_aload_n X dX4_goWayBack_72 rfl rfl ?_
    obtain ⟨ob18, eob18, hF⟩ := bnd hF
    obtain ⟨v20, h19, eh19, hF⟩ := b2_some hF
    refine g_callV X eob18 rfl rfl (w_X4_toldBounds l hl D dA h17 ob18  v20 h19 eh19) q1983 q1985 qs50 q103 q1986 okn_X4_toldBounds ⟨by rw [hRf]; exact Nat.le_of_ble_eq_true rfl, by rw [hRl]; exact Nat.le_of_ble_eq_true rfl⟩ (As := []) (rest := []) rfl (by first | exact Nat.le_of_ble_eq_true rfl | simp [cat_rf, cat_i, cat_j, cat_f, cat_d]) dX4_goWayBack_73 (ac_v ?_)
    cases hF
    exact g_iret X hr dX4_goWayBack_76
  · have hF := (if_pos c4).symm.trans hF
    refine g_bipush (v := (-12 : Int32)) X dX4_goWayBack_7 (by decide) ?_
    cases hF
    exact g_iret X hr dX4_goWayBack_9
def F_X4_goBackInTime (this : Nat) (h0 : HH) : Option (Int32 × HH) :=
  Option.bind (isO h0 1 (some this)) fun ob1 =>
  Option.bind (F_X4_begins ob1 h0) fun h2 =>
  Option.bind (isO h2 1 (some this)) fun ob3 =>
  b2 (F_X4_goWayBack ob3 h2) fun v5 h4 =>
  Option.bind (isO h4 1 (some this)) fun ob6 =>
  b2 (F_X4_only ob6 v5 h4) fun v8 h7 =>
  some (v8, h7)
set_option maxHeartbeats 4000000 in
theorem w_X4_goBackInTime (l : Launch) (hl : l.stackTraces = false) (D : va_G) (dA : Nat → ClassId) (h0 : HH) (this : Nat) (rE : Int32) (hE : HH) (hF : F_X4_goBackInTime this h0 = some (rE, hE)) : MC D dA l yX4_goBackInTime cX4_goBackInTime 1 (Option.some Jvm.ClassFile.FieldType.int) [] 7 154 [va_rf (some this)] h0 (.inr (some (.int rE)), hE) := by
  refine mc_of hl (plainFor_of_name pn_X4) (by simp [lg_sl, cat_rf, cat_i, cat_j, cat_f, cat_d]) ?_
  intro p e s m args below meth c R hRf hRl X hr hnm
  unfold F_X4_goBackInTime at hF
  rw [show argL [va_rf (some this)] = [some (va_rf (some this))] from by simp [argL, cat_rf, cat_i, cat_j, cat_f, cat_d]]
  refine g_aload_n X dX4_goBackInTime_0 rfl rfl ?_
  obtain ⟨ob1, eob1, hF⟩ := bnd hF
  obtain ⟨h2, eh2, hF⟩ := bnd hF
  refine g_callV X eob1 rfl rfl (w_X4_begins l hl D dA h0 ob1  h2 eh2) q1859 q1861 qs31 q103 q1862 okn_X4_begins ⟨by rw [hRf]; exact Nat.le_of_ble_eq_true rfl, by rw [hRl]; exact Nat.le_of_ble_eq_true rfl⟩ (As := []) (rest := []) rfl (by first | exact Nat.le_of_ble_eq_true rfl | simp [cat_rf, cat_i, cat_j, cat_f, cat_d]) dX4_goBackInTime_1 (ac_0 ?_)
  refine g_aload_n X dX4_goBackInTime_4 rfl rfl ?_
  refine g_aload_n X dX4_goBackInTime_5 rfl rfl ?_
  obtain ⟨ob3, eob3, hF⟩ := bnd hF
  obtain ⟨v5, h4, eh4, hF⟩ := b2_some hF
  refine g_callV X eob3 rfl rfl (w_X4_goWayBack l hl D dA h2 ob3  v5 h4 eh4) q1979 q1981 qs49 q103 q1982 okn_X4_goWayBack ⟨by rw [hRf]; exact Nat.le_of_ble_eq_true rfl, by rw [hRl]; exact Nat.le_of_ble_eq_true rfl⟩ (As := []) (rest := [va_rf (some this)]) rfl (by first | exact Nat.le_of_ble_eq_true rfl | simp [cat_rf, cat_i, cat_j, cat_f, cat_d]) dX4_goBackInTime_6 (ac_v ?_)
  obtain ⟨ob6, eob6, hF⟩ := bnd hF
  obtain ⟨v8, h7, eh7, hF⟩ := b2_some hF
  refine g_callV X eob6 rfl rfl (w_X4_only l hl D dA h4 ob6 v5 v8 h7 eh7) q1936 q1938 qs42 q103 q1939 okn_X4_only ⟨by rw [hRf]; exact Nat.le_of_ble_eq_true rfl, by rw [hRl]; exact Nat.le_of_ble_eq_true rfl⟩ (As := [.int v5]) (rest := []) rfl (by first | exact Nat.le_of_ble_eq_true rfl | simp [cat_rf, cat_i, cat_j, cat_f, cat_d]) dX4_goBackInTime_9 (ac_v ?_)
  cases hF
  exact g_iret X hr dX4_goBackInTime_12
