def F_X3_plain (a1 : Int32) : Int32 :=
  (if a1 = (3 : Int32) then (0 : Int32) else (9999 : Int32))
set_option maxHeartbeats 4000000 in
theorem w_X3_plain (l : Launch) (hl : l.stackTraces = false) (D : va_G) (dA : Nat → ClassId) (h0 : HH) (a1 : Int32) : MC D dA l yX3_plain cX3_plain 1 (Option.some Jvm.ClassFile.FieldType.int) [] 0 0 [.int a1] h0 (.inr (some (.int (F_X3_plain a1))), h0) := by
  refine mc_of hl (plainFor_of_name pn_X3) (by simp [lg_sl, cat_rf, cat_i, cat_j, cat_f, cat_d]) ?_
  intro p e s m args below meth c R hRf hRl X hr hnm
  generalize hF : F_X3_plain a1 = rE
  unfold F_X3_plain at hF
  rw [show argL [.int a1] = [some (.int a1)] from by simp [argL, cat_rf, cat_i, cat_j, cat_f, cat_d]]
  refine g_iload_n X dX3_plain_0 rfl rfl ?_
  refine g_iconst (v := (3 : Int32)) X dX3_plain_1 (by decide) ?_
  suffices K : G p l e R s m args below meth c (RQ D dA h0 (.inr (some (.int rE)), h0) below s) D dA h0 1 h0 12 [none] [.int (if a1 = (3 : Int32) then (0 : Int32) else (9999 : Int32))] by
    refine g_icmp_ne X 9 dX3_plain_2 (by decide) (fun c1 => ?_) (fun c1 => ?_)
    · (try simp only [if_neg c1] at K)
      refine g_sipush (v := (9999 : Int32)) X dX3_plain_9 (by decide) ?_
      refine G.drop [false] rfl ?_
      first | exact K | (simp only [if_neg c1]; exact K)
    · (try simp only [if_pos c1] at K)
      refine g_iconst (v := (0 : Int32)) X dX3_plain_5 (by decide) ?_
      refine g_goto X 12 dX3_plain_6 (by decide) ?_
      refine G.drop [false] rfl ?_
      first | exact K | (simp only [if_pos c1]; exact K)
  cases hF
  exact g_iret X hr dX3_plain_12
def F_X3_init_B21 (this : Nat) (x1_4 : Int32) (x2_6 : Int32) (h_6 : HH) : Option ((Int32 × HH) ⊕ HH) :=
  if (4 : Int32) ≤ x2_6 then (
    some (.inr h_6)
  ) else (
    Option.bind (getR h_6 3 0 (some this)) fun v8 =>
    Option.bind (astI h_6 v8 (((4 : Int32) * x1_4) + x2_6) (if x1_4 = x2_6 then (0 : Int32) else (F_X3_plain x1_4))) fun h10 =>
    some (.inl ((x2_6 + (1 : Int32)), h10))
  )
def F_X3_init_B14 (this : Nat) (x1_4 : Int32) (h_4 : HH) : Option ((Int32 × HH) ⊕ HH) :=
  if (4 : Int32) ≤ x1_4 then (
    some (.inr h_4)
  ) else (
    Option.bind (lp (fun z => F_X3_init_B21 this x1_4 z.1 z.2) 100000 ((0 : Int32), h_4)) fun h11 =>
    some (.inl ((x1_4 + (1 : Int32)), h11))
  )
def F_X3_init (this : Nat) (h0 : HH) : Option HH :=
  Option.bind (nnl (some this)) fun ob1 =>
  Option.bind (newA h0 0 (16 : Int32)) fun h2 =>
  Option.bind (putV h2 3 0 (some this) (va_rf (some (hSz h0)))) fun h3 =>
  Option.bind (lp (fun z => F_X3_init_B14 this z.1 z.2) 100000 ((0 : Int32), h3)) fun h14 =>
  some h14
set_option maxHeartbeats 4000000 in
theorem w_X3_init (l : Launch) (hl : l.stackTraces = false) (D : va_G) (dA : Nat → ClassId) (h0 : HH) (this : Nat) (hE : HH) (hF : F_X3_init this h0 = some hE) : MC D dA l yX3_init cX3_init 3 (Option.none : Option Jvm.ClassFile.FieldType) [] 1 20 [va_rf (some this)] h0 (.inr none, hE) := by
  refine mc_of hl (plainFor_of_name pn_X3) (by simp [lg_sl, cat_rf, cat_i, cat_j, cat_f, cat_d]) ?_
  intro p e s m args below meth c R hRf hRl X hr hnm
  unfold F_X3_init at hF
  rw [show argL [va_rf (some this)] = [some (va_rf (some this))] from by simp [argL, cat_rf, cat_i, cat_j, cat_f, cat_d]]
  refine G.pad 2 (L' := [some (va_rf (some this)), none, none]) rfl ?_
  refine g_aload_n X dX3_init_0 rfl rfl ?_
  obtain ⟨ob1, eob1, hF⟩ := bnd hF
  refine g_objInit X ob1 eob1 q172 q132 q133 ⟨by rw [hRf]; exact Nat.le_of_ble_eq_true rfl, by rw [hRl]; exact Nat.le_of_ble_eq_true rfl⟩ (by first | exact Nat.le_of_ble_eq_true rfl | simp [cat_rf, cat_i, cat_j, cat_f, cat_d]) dX3_init_1 ?_
  refine g_aload_n X dX3_init_4 rfl rfl ?_
  refine g_bipush (v := (16 : Int32)) X dX3_init_5 (by decide) ?_
  obtain ⟨h2, eh2, hF⟩ := bnd hF
  refine g_newa (atype := .int) (t := 0) X q182 rfl (funext fun _ => rfl) (by decide) eh2 dX3_init_7 ?_
  obtain ⟨h3, eh3, hF⟩ := bnd hF
  refine g_putF (k := 0) X in_X3 tyX3 tyX3_ok nmX3 rfl (by decide) q176 rfl rfl hnm rfl (tyX3_ok 0 (by decide)) (narrow_rfA _ _) (fits_rfA _ _) eh3 dX3_init_9 ?_
  refine g_iconst (v := (0 : Int32)) X dX3_init_12 (by decide) ?_
  refine g_istore_n (L' := [some (va_rf (some this)), some (.int (0 : Int32)), none]) X dX3_init_13 rfl (Nat.le_of_ble_eq_true rfl) (by first | rfl | simp [stL, rm1, clr2, cat_rf, cat_i, cat_j, cat_f, cat_d]) ?_
  obtain ⟨h14, e15, hF⟩ := bnd hF
  refine lp_ind (Gs := (fun z => G p l e R s m args below meth c (RQ D dA h0 (.inr none, hE) below s) D dA h0 3 z.2 14 [some (va_rf (some this)), some (.int z.1), none] [])) (Ge := (fun z => G p l e R s m args below meth c (RQ D dA h0 (.inr none, hE) below s) D dA h0 3 z 61 [none, none, none] [])) ?_ _ _ _ e15 ?_
  · rintro ⟨x1_4, h_4⟩ o hF hgo hr
    change F_X3_init_B14 this x1_4 h_4 = some o at hF
    unfold F_X3_init_B14 at hF
    show G p l e R s m args below meth c (RQ D dA h0 (.inr none, hE) below s) D dA h0 3 h_4 14 [some (va_rf (some this)), some (.int x1_4), none] []
    refine g_iload_n X dX3_init_14 rfl rfl ?_
    refine g_iconst (v := (4 : Int32)) X dX3_init_15 (by decide) ?_
    refine g_icmp_ge X 61 dX3_init_16 (by decide) (fun c5 => ?_) (fun c5 => ?_)
    · have hF := (if_pos c5).symm.trans hF
      refine G.drop [false, false, false] rfl ?_
      cases hF
      exact hr _ rfl
    · have hF := (if_neg c5).symm.trans hF
      refine g_iconst (v := (0 : Int32)) X dX3_init_19 (by decide) ?_
      refine g_istore_n (L' := [some (va_rf (some this)), some (.int x1_4), some (.int (0 : Int32))]) X dX3_init_20 rfl (Nat.le_of_ble_eq_true rfl) (by first | rfl | simp [stL, rm1, clr2, cat_rf, cat_i, cat_j, cat_f, cat_d]) ?_
      obtain ⟨h11, e12, hF⟩ := bnd hF
      refine lp_ind (Gs := (fun z => G p l e R s m args below meth c (RQ D dA h0 (.inr none, hE) below s) D dA h0 3 z.2 21 [some (va_rf (some this)), some (.int x1_4), some (.int z.1)] [])) (Ge := (fun z => G p l e R s m args below meth c (RQ D dA h0 (.inr none, hE) below s) D dA h0 3 z 55 [some (va_rf (some this)), some (.int x1_4), none] [])) ?_ _ _ _ e12 ?_
      · rintro ⟨x2_6, h_6⟩ o hF hgo hr
        change F_X3_init_B21 this x1_4 x2_6 h_6 = some o at hF
        unfold F_X3_init_B21 at hF
        show G p l e R s m args below meth c (RQ D dA h0 (.inr none, hE) below s) D dA h0 3 h_6 21 [some (va_rf (some this)), some (.int x1_4), some (.int x2_6)] []
        refine g_iload_n X dX3_init_21 rfl rfl ?_
        refine g_iconst (v := (4 : Int32)) X dX3_init_22 (by decide) ?_
        refine g_icmp_ge X 55 dX3_init_23 (by decide) (fun c7 => ?_) (fun c7 => ?_)
        · have hF := (if_pos c7).symm.trans hF
          refine G.drop [true, true, false] rfl ?_
          cases hF
          exact hr _ rfl
        · have hF := (if_neg c7).symm.trans hF
          refine g_aload_n X dX3_init_26 rfl rfl ?_
          obtain ⟨v8, ev8, hF⟩ := bnd hF
          refine g_get (k := 0) X in_X3 rfl (by decide) q176 (Or.inl rfl) (getR_V ev8) dX3_init_27 ?_
          refine g_iconst (v := (4 : Int32)) X dX3_init_30 (by decide) ?_
          refine g_iload_n X dX3_init_31 rfl rfl ?_
          refine g_imul X dX3_init_32 ?_
          refine g_iload_n X dX3_init_33 rfl rfl ?_
          refine g_iadd X dX3_init_34 ?_
          refine g_iload_n X dX3_init_35 rfl rfl ?_
          refine g_iload_n X dX3_init_36 rfl rfl ?_
          suffices K : G p l e R s m args below meth c (RQ D dA h0 (.inr none, hE) below s) D dA h0 3 h_6 48 [some (va_rf (some this)), some (.int x1_4), some (.int x2_6)] [.int (if x1_4 = x2_6 then (0 : Int32) else (F_X3_plain x1_4)), .int (((4 : Int32) * x1_4) + x2_6), va_rf v8] by
            refine g_icmp_ne X 44 dX3_init_37 (by decide) (fun c9 => ?_) (fun c9 => ?_)
            · (try simp only [if_neg c9] at K)
              refine g_iload_n X dX3_init_44 rfl rfl ?_
              refine g_callS X (w_X3_plain l hl D dA h_6 x1_4) q173 q174 q97 q175 okn_X3_plain ⟨by rw [hRf]; exact Nat.le_of_ble_eq_true rfl, by rw [hRl]; exact Nat.le_of_ble_eq_true rfl⟩ (As := [.int x1_4]) (rest := [.int (((4 : Int32) * x1_4) + x2_6), va_rf v8]) rfl (by first | exact Nat.le_of_ble_eq_true rfl | simp [cat_rf, cat_i, cat_j, cat_f, cat_d]) dX3_init_45 (ac_v ?_)
              first | exact K | (simp only [if_neg c9]; exact K)
            · (try simp only [if_pos c9] at K)
              refine g_iconst (v := (0 : Int32)) X dX3_init_40 (by decide) ?_
              refine g_goto X 48 dX3_init_41 (by decide) ?_
              first | exact K | (simp only [if_pos c9]; exact K)
          obtain ⟨h10, eh10, hF⟩ := bnd hF
          refine g_iast X eh10 dX3_init_48 ?_
          refine g_iinc (v := (x2_6 + (1 : Int32))) (L' := [some (va_rf (some this)), some (.int x1_4), some (.int (x2_6 + (1 : Int32)))]) X dX3_init_49 (Nat.le_of_ble_eq_true rfl) rfl rfl (by first | rfl | simp [stL, rm1, clr2, cat_rf, cat_i, cat_j, cat_f, cat_d]) ?_
          refine g_goto X 21 dX3_init_52 (by decide) ?_
          cases hF
          exact hgo _ rfl
      show G p l e R s m args below meth c (RQ D dA h0 (.inr none, hE) below s) D dA h0 3 h11 55 [some (va_rf (some this)), some (.int x1_4), none] []
      refine g_iinc (v := (x1_4 + (1 : Int32))) (L' := [some (va_rf (some this)), some (.int (x1_4 + (1 : Int32))), none]) X dX3_init_55 (Nat.le_of_ble_eq_true rfl) rfl rfl (by first | rfl | simp [stL, rm1, clr2, cat_rf, cat_i, cat_j, cat_f, cat_d]) ?_
      refine g_goto X 14 dX3_init_58 (by decide) ?_
      cases hF
      exact hgo _ rfl
  show G p l e R s m args below meth c (RQ D dA h0 (.inr none, hE) below s) D dA h0 3 h14 61 [none, none, none] []
  cases hF
  exact g_vret X hr dX3_init_61
def F_X3_init_2 (this : Nat) (a1 : Option Nat) (h0 : HH) : Option HH :=
  Option.bind (nnl (some this)) fun ob1 =>
  Option.bind (getR h0 3 0 a1) fun v2 =>
  Option.bind (cloneA h0 0 v2) fun h3 =>
  Option.bind (castA h3 0 (some (hSz h0))) fun _ =>
  Option.bind (putV h3 3 0 (some this) (va_rf (some (hSz h0)))) fun h5 =>
  some h5
set_option maxHeartbeats 4000000 in
theorem w_X3_init_2 (l : Launch) (hl : l.stackTraces = false) (D : va_G) (dA : Nat → ClassId) (h0 : HH) (this : Nat) (a1 : Option Nat) (hE : HH) (hF : F_X3_init_2 this a1 h0 = some hE) : MC D dA l yX3_init_2 cX3_init_2 2 (Option.none : Option Jvm.ClassFile.FieldType) [] 1 24 [va_rf (some this), va_rf a1] h0 (.inr none, hE) := by
  refine mc_of hl (plainFor_of_name pn_X3) (by simp [lg_sl, cat_rf, cat_i, cat_j, cat_f, cat_d]) ?_
  intro p e s m args below meth c R hRf hRl X hr hnm
  unfold F_X3_init_2 at hF
  rw [show argL [va_rf (some this), va_rf a1] = [some (va_rf (some this)), some (va_rf a1)] from by simp [argL, cat_rf, cat_i, cat_j, cat_f, cat_d]]
  refine g_aload_n X dX3_init_2_0 rfl rfl ?_
  obtain ⟨ob1, eob1, hF⟩ := bnd hF
  refine g_objInit X ob1 eob1 q172 q132 q133 ⟨by rw [hRf]; exact Nat.le_of_ble_eq_true rfl, by rw [hRl]; exact Nat.le_of_ble_eq_true rfl⟩ (by first | exact Nat.le_of_ble_eq_true rfl | simp [cat_rf, cat_i, cat_j, cat_f, cat_d]) dX3_init_2_1 ?_
  refine g_aload_n X dX3_init_2_4 rfl rfl ?_
  refine g_aload_n X dX3_init_2_5 rfl rfl ?_
  obtain ⟨v2, ev2, hF⟩ := bnd hF
  refine g_get (k := 0) X in_X3 rfl (by decide) q176 (Or.inl rfl) (getR_V ev2) dX3_init_2_6 ?_
  obtain ⟨h3, eh3, hF⟩ := bnd hF
  refine g_cloneI X q401 ⟨by rw [hRf]; exact Nat.le_of_ble_eq_true rfl, by rw [hRl]; exact Nat.le_of_ble_eq_true rfl⟩ (by first | exact Nat.le_of_ble_eq_true rfl | simp [cat_rf, cat_i, cat_j, cat_f, cat_d]) eh3 dX3_init_2_9 ?_
  obtain ⟨_, z4, hF⟩ := bnd hF
  refine g_castA X q402 rfl rfl z4 dX3_init_2_12 ?_
  obtain ⟨h5, eh5, hF⟩ := bnd hF
  refine g_putF (k := 0) X in_X3 tyX3 tyX3_ok nmX3 rfl (by decide) q176 rfl rfl hnm rfl (tyX3_ok 0 (by decide)) (narrow_rfA _ _) (fits_rfA _ _) eh5 dX3_init_2_15 ?_
  cases hF
  exact g_vret X hr dX3_init_2_18
def F_X3_at (this : Nat) (a1 : Int32) (a2 : Int32) (h0 : HH) : Option Int32 :=
  Option.bind (getR h0 3 0 (some this)) fun v1 =>
  Option.bind (aldI h0 0 v1 (((4 : Int32) * a1) + a2)) fun v2 =>
  some v2
set_option maxHeartbeats 4000000 in
theorem w_X3_at (l : Launch) (hl : l.stackTraces = false) (D : va_G) (dA : Nat → ClassId) (h0 : HH) (this : Nat) (a1 : Int32) (a2 : Int32) (rE : Int32) (hF : F_X3_at this a1 a2 h0 = some rE) : MC D dA l yX3_at cX3_at 3 (Option.some Jvm.ClassFile.FieldType.int) [] 0 0 [va_rf (some this), .int a1, .int a2] h0 (.inr (some (.int rE)), h0) := by
  refine mc_of hl (plainFor_of_name pn_X3) (by simp [lg_sl, cat_rf, cat_i, cat_j, cat_f, cat_d]) ?_
  intro p e s m args below meth c R hRf hRl X hr hnm
  unfold F_X3_at at hF
  rw [show argL [va_rf (some this), .int a1, .int a2] = [some (va_rf (some this)), some (.int a1), some (.int a2)] from by simp [argL, cat_rf, cat_i, cat_j, cat_f, cat_d]]
  refine g_aload_n X dX3_at_0 rfl rfl ?_
  obtain ⟨v1, ev1, hF⟩ := bnd hF
  refine g_get (k := 0) X in_X3 rfl (by decide) q176 (Or.inl rfl) (getR_V ev1) dX3_at_1 ?_
  refine g_iconst (v := (4 : Int32)) X dX3_at_4 (by decide) ?_
  refine g_iload_n X dX3_at_5 rfl rfl ?_
  refine g_imul X dX3_at_6 ?_
  refine g_iload_n X dX3_at_7 rfl rfl ?_
  refine g_iadd X dX3_at_8 ?_
  obtain ⟨v2, ev2, hF⟩ := bnd hF
  refine g_iald X ev2 dX3_at_9 ?_
  cases hF
  exact g_iret X hr dX3_at_10
def F_X3_sets (this : Nat) (a1 : Int32) (a2 : Int32) (a3 : Int32) (h0 : HH) : Option HH :=
  Option.bind (getR h0 3 0 (some this)) fun v1 =>
  Option.bind (astI h0 v1 (((4 : Int32) * a1) + a2) a3) fun h2 =>
  some h2
set_option maxHeartbeats 4000000 in
theorem w_X3_sets (l : Launch) (hl : l.stackTraces = false) (D : va_G) (dA : Nat → ClassId) (h0 : HH) (this : Nat) (a1 : Int32) (a2 : Int32) (a3 : Int32) (hE : HH) (hF : F_X3_sets this a1 a2 a3 h0 = some hE) : MC D dA l yX3_sets cX3_sets 4 (Option.none : Option Jvm.ClassFile.FieldType) [] 0 0 [va_rf (some this), .int a1, .int a2, .int a3] h0 (.inr none, hE) := by
  refine mc_of hl (plainFor_of_name pn_X3) (by simp [lg_sl, cat_rf, cat_i, cat_j, cat_f, cat_d]) ?_
  intro p e s m args below meth c R hRf hRl X hr hnm
  unfold F_X3_sets at hF
  rw [show argL [va_rf (some this), .int a1, .int a2, .int a3] = [some (va_rf (some this)), some (.int a1), some (.int a2), some (.int a3)] from by simp [argL, cat_rf, cat_i, cat_j, cat_f, cat_d]]
  refine g_aload_n X dX3_sets_0 rfl rfl ?_
  obtain ⟨v1, ev1, hF⟩ := bnd hF
  refine g_get (k := 0) X in_X3 rfl (by decide) q176 (Or.inl rfl) (getR_V ev1) dX3_sets_1 ?_
  refine g_iconst (v := (4 : Int32)) X dX3_sets_4 (by decide) ?_
  refine g_iload_n X dX3_sets_5 rfl rfl ?_
  refine g_imul X dX3_sets_6 ?_
  refine g_iload_n X dX3_sets_7 rfl rfl ?_
  refine g_iadd X dX3_sets_8 ?_
  refine g_iload_n X dX3_sets_9 rfl rfl ?_
  obtain ⟨h2, eh2, hF⟩ := bnd hF
  refine g_iast X eh2 dX3_sets_10 ?_
  cases hF
  exact g_vret X hr dX3_sets_11
def F_J11_min (a1 : Int32) (a2 : Int32) : Int32 :=
  (if a2 < a1 then a2 else a1)
set_option maxHeartbeats 4000000 in
theorem w_J11_min (l : Launch) (hl : l.stackTraces = false) (D : va_G) (dA : Nat → ClassId) (h0 : HH) (a1 : Int32) (a2 : Int32) : MC D dA l yJ11_min cJ11_min 2 (Option.some Jvm.ClassFile.FieldType.int) [] 0 0 [.int a1, .int a2] h0 (.inr (some (.int (F_J11_min a1 a2))), h0) := by
  refine mc_of hl pf_J11_min (by simp [lg_sl, cat_rf, cat_i, cat_j, cat_f, cat_d]) ?_
  intro p e s m args below meth c R hRf hRl X hr hnm
  generalize hF : F_J11_min a1 a2 = rE
  unfold F_J11_min at hF
  rw [show argL [.int a1, .int a2] = [some (.int a1), some (.int a2)] from by simp [argL, cat_rf, cat_i, cat_j, cat_f, cat_d]]
  refine g_iload_n X dJ11_min_0 rfl rfl ?_
  refine g_iload_n X dJ11_min_1 rfl rfl ?_
  suffices K : G p l e R s m args below meth c (RQ D dA h0 (.inr (some (.int rE)), h0) below s) D dA h0 2 h0 10 [none, none] [.int (if a2 < a1 then a2 else a1)] by
    refine g_icmp_gt X 9 dJ11_min_2 (by decide) (fun c1 => ?_) (fun c1 => ?_)
    · (try simp only [if_pos c1] at K)
      refine g_iload_n X dJ11_min_9 rfl rfl ?_
      refine G.drop [false, false] rfl ?_
      first | exact K | (simp only [if_pos c1]; exact K)
    · (try simp only [if_neg c1] at K)
      refine g_iload_n X dJ11_min_5 rfl rfl ?_
      refine g_goto X 10 dJ11_min_6 (by decide) ?_
      refine G.drop [false, false] rfl ?_
      first | exact K | (simp only [if_neg c1]; exact K)
  cases hF
  exact g_iret X hr dJ11_min_10
def F_X3_tells (this : Nat) (a1 : Int32) (a2 : Int32) (a3 : Int32) (h0 : HH) : Option HH :=
  Option.bind (isO h0 3 (some this)) fun ob1 =>
  Option.bind (F_X3_at ob1 a1 a2 h0) fun v2 =>
  Option.bind (isO h0 3 (some this)) fun ob3 =>
  Option.bind (F_X3_sets ob3 a1 a2 (F_J11_min v2 a3) h0) fun h4 =>
  some h4
set_option maxHeartbeats 4000000 in
theorem w_X3_tells (l : Launch) (hl : l.stackTraces = false) (D : va_G) (dA : Nat → ClassId) (h0 : HH) (this : Nat) (a1 : Int32) (a2 : Int32) (a3 : Int32) (hE : HH) (hF : F_X3_tells this a1 a2 a3 h0 = some hE) : MC D dA l yX3_tells cX3_tells 4 (Option.none : Option Jvm.ClassFile.FieldType) [] 1 23 [va_rf (some this), .int a1, .int a2, .int a3] h0 (.inr none, hE) := by
  refine mc_of hl (plainFor_of_name pn_X3) (by simp [lg_sl, cat_rf, cat_i, cat_j, cat_f, cat_d]) ?_
  intro p e s m args below meth c R hRf hRl X hr hnm
  unfold F_X3_tells at hF
  rw [show argL [va_rf (some this), .int a1, .int a2, .int a3] = [some (va_rf (some this)), some (.int a1), some (.int a2), some (.int a3)] from by simp [argL, cat_rf, cat_i, cat_j, cat_f, cat_d]]
  refine g_aload_n X dX3_tells_0 rfl rfl ?_
  refine g_iload_n X dX3_tells_1 rfl rfl ?_
  refine g_iload_n X dX3_tells_2 rfl rfl ?_
  refine g_aload_n X dX3_tells_3 rfl rfl ?_
  refine g_iload_n X dX3_tells_4 rfl rfl ?_
  refine g_iload_n X dX3_tells_5 rfl rfl ?_
  obtain ⟨ob1, eob1, hF⟩ := bnd hF
  obtain ⟨v2, ev2, hF⟩ := bnd hF
  refine g_callV X eob1 rfl rfl (w_X3_at l hl D dA h0 ob1 a1 a2 v2 ev2) q494 q495 q496 q97 q497 okn_X3_at ⟨by rw [hRf]; exact Nat.le_of_ble_eq_true rfl, by rw [hRl]; exact Nat.le_of_ble_eq_true rfl⟩ (As := [.int a1, .int a2]) (rest := [.int a2, .int a1, va_rf (some this)]) rfl (by first | exact Nat.le_of_ble_eq_true rfl | simp [cat_rf, cat_i, cat_j, cat_f, cat_d]) dX3_tells_6 (ac_v ?_)
  refine g_iload_n X dX3_tells_9 rfl rfl ?_
  refine g_callS X (w_J11_min l hl D dA h0 v2 a3) q498 q391 q108 q392 okn_J11_min ⟨by rw [hRf]; exact Nat.le_of_ble_eq_true rfl, by rw [hRl]; exact Nat.le_of_ble_eq_true rfl⟩ (As := [.int v2, .int a3]) (rest := [.int a2, .int a1, va_rf (some this)]) rfl (by first | exact Nat.le_of_ble_eq_true rfl | simp [cat_rf, cat_i, cat_j, cat_f, cat_d]) dX3_tells_10 (ac_v ?_)
  obtain ⟨ob3, eob3, hF⟩ := bnd hF
  obtain ⟨h4, eh4, hF⟩ := bnd hF
  refine g_callV X eob3 rfl rfl (w_X3_sets l hl D dA h0 ob3 a1 a2 (F_J11_min v2 a3) h4 eh4) q499 q500 q501 q97 q502 okn_X3_sets ⟨by rw [hRf]; exact Nat.le_of_ble_eq_true rfl, by rw [hRl]; exact Nat.le_of_ble_eq_true rfl⟩ (As := [.int a1, .int a2, .int (F_J11_min v2 a3)]) (rest := []) rfl (by first | exact Nat.le_of_ble_eq_true rfl | simp [cat_rf, cat_i, cat_j, cat_f, cat_d]) dX3_tells_13 (ac_0 ?_)
  cases hF
  exact g_vret X hr dX3_tells_16
def F_X3_sum (a1 : Int32) (a2 : Int32) : Int32 :=
  (if a1 = (9999 : Int32) then (9999 : Int32) else (if a2 = (9999 : Int32) then (9999 : Int32) else (a1 + a2)))
set_option maxHeartbeats 4000000 in
theorem w_X3_sum (l : Launch) (hl : l.stackTraces = false) (D : va_G) (dA : Nat → ClassId) (h0 : HH) (a1 : Int32) (a2 : Int32) : MC D dA l yX3_sum cX3_sum 2 (Option.some Jvm.ClassFile.FieldType.int) [] 0 0 [.int a1, .int a2] h0 (.inr (some (.int (F_X3_sum a1 a2))), h0) := by
  refine mc_of hl (plainFor_of_name pn_X3) (by simp [lg_sl, cat_rf, cat_i, cat_j, cat_f, cat_d]) ?_
  intro p e s m args below meth c R hRf hRl X hr hnm
  generalize hF : F_X3_sum a1 a2 = rE
  unfold F_X3_sum at hF
  rw [show argL [.int a1, .int a2] = [some (.int a1), some (.int a2)] from by simp [argL, cat_rf, cat_i, cat_j, cat_f, cat_d]]
  refine g_iload_n X dX3_sum_0 rfl rfl ?_
  refine g_sipush (v := (9999 : Int32)) X dX3_sum_1 (by decide) ?_
  suffices K : G p l e R s m args below meth c (RQ D dA h0 (.inr (some (.int rE)), h0) below s) D dA h0 2 h0 23 [none, none] [.int (if a1 = (9999 : Int32) then (9999 : Int32) else (if a2 = (9999 : Int32) then (9999 : Int32) else (a1 + a2)))] by
    refine g_icmp_eq X 14 dX3_sum_4 (by decide) (fun c1 => ?_) (fun c1 => ?_)
    · (try simp only [if_pos c1] at K)
      refine g_sipush (v := (9999 : Int32)) X dX3_sum_14 (by decide) ?_
      refine g_goto X 23 dX3_sum_17 (by decide) ?_
      refine G.drop [false, false] rfl ?_
      first | exact K | (simp only [if_pos c1]; exact K)
    · (try simp only [if_neg c1] at K)
      refine g_iload_n X dX3_sum_7 rfl rfl ?_
      refine g_sipush (v := (9999 : Int32)) X dX3_sum_8 (by decide) ?_
      refine g_icmp_ne X 20 dX3_sum_11 (by decide) (fun c2 => ?_) (fun c2 => ?_)
      · (try simp only [if_neg c2] at K)
        refine g_iload_n X dX3_sum_20 rfl rfl ?_
        refine g_iload_n X dX3_sum_21 rfl rfl ?_
        refine g_iadd X dX3_sum_22 ?_
        refine G.drop [false, false] rfl ?_
        first | exact K | (simp only [if_neg c1, if_neg c2]; exact K)
      · (try simp only [if_pos c2] at K)
        refine g_sipush (v := (9999 : Int32)) X dX3_sum_14 (by decide) ?_
        refine g_goto X 23 dX3_sum_17 (by decide) ?_
        refine G.drop [false, false] rfl ?_
        first | exact K | (simp only [if_neg c1, if_pos c2]; exact K)
  cases hF
  exact g_iret X hr dX3_sum_23
def F_X3_tightens_B16 (this : Nat) (x1_1 : Int32) (x2_3 : Int32) (x3_5 : Int32) (h_5 : HH) : Option ((Int32 × HH) ⊕ HH) :=
  if (4 : Int32) ≤ x3_5 then (
    some (.inr h_5)
  ) else (
    Option.bind (isO h_5 3 (some this)) fun ob7 =>
    Option.bind (F_X3_at ob7 x2_3 x1_1 h_5) fun v8 =>
    Option.bind (isO h_5 3 (some this)) fun ob9 =>
    Option.bind (F_X3_at ob9 x1_1 x3_5 h_5) fun v10 =>
    Option.bind (isO h_5 3 (some this)) fun ob11 =>
    Option.bind (F_X3_tells ob11 x2_3 x3_5 (F_X3_sum v8 v10) h_5) fun h12 =>
    some (.inl ((x3_5 + (1 : Int32)), h12))
  )
def F_X3_tightens_B9 (this : Nat) (x1_1 : Int32) (x2_3 : Int32) (h_3 : HH) : Option ((Int32 × HH) ⊕ HH) :=
  if (4 : Int32) ≤ x2_3 then (
    some (.inr h_3)
  ) else (
    Option.bind (lp (fun z => F_X3_tightens_B16 this x1_1 x2_3 z.1 z.2) 100000 ((0 : Int32), h_3)) fun h13 =>
    some (.inl ((x2_3 + (1 : Int32)), h13))
  )
def F_X3_tightens_B2 (this : Nat) (x1_1 : Int32) (h_1 : HH) : Option ((Int32 × HH) ⊕ HH) :=
  if (4 : Int32) ≤ x1_1 then (
    some (.inr h_1)
  ) else (
    Option.bind (lp (fun z => F_X3_tightens_B9 this x1_1 z.1 z.2) 100000 ((0 : Int32), h_1)) fun h16 =>
    some (.inl ((x1_1 + (1 : Int32)), h16))
  )
def F_X3_tightens (this : Nat) (h0 : HH) : Option HH :=
  Option.bind (lp (fun z => F_X3_tightens_B2 this z.1 z.2) 100000 ((0 : Int32), h0)) fun h19 =>
  some h19
set_option maxHeartbeats 4000000 in
theorem w_X3_tightens (l : Launch) (hl : l.stackTraces = false) (D : va_G) (dA : Nat → ClassId) (h0 : HH) (this : Nat) (hE : HH) (hF : F_X3_tightens this h0 = some hE) : MC D dA l yX3_tightens cX3_tightens 4 (Option.none : Option Jvm.ClassFile.FieldType) [] 2 46 [va_rf (some this)] h0 (.inr none, hE) := by
  refine mc_of hl (plainFor_of_name pn_X3) (by simp [lg_sl, cat_rf, cat_i, cat_j, cat_f, cat_d]) ?_
  intro p e s m args below meth c R hRf hRl X hr hnm
  unfold F_X3_tightens at hF
  rw [show argL [va_rf (some this)] = [some (va_rf (some this))] from by simp [argL, cat_rf, cat_i, cat_j, cat_f, cat_d]]
  refine G.pad 3 (L' := [some (va_rf (some this)), none, none, none]) rfl ?_
  refine g_iconst (v := (0 : Int32)) X dX3_tightens_0 (by decide) ?_
  refine g_istore_n (L' := [some (va_rf (some this)), some (.int (0 : Int32)), none, none]) X dX3_tightens_1 rfl (Nat.le_of_ble_eq_true rfl) (by first | rfl | simp [stL, rm1, clr2, cat_rf, cat_i, cat_j, cat_f, cat_d]) ?_
  obtain ⟨h19, e20, hF⟩ := bnd hF
  refine lp_ind (Gs := (fun z => G p l e R s m args below meth c (RQ D dA h0 (.inr none, hE) below s) D dA h0 4 z.2 2 [some (va_rf (some this)), some (.int z.1), none, none] [])) (Ge := (fun z => G p l e R s m args below meth c (RQ D dA h0 (.inr none, hE) below s) D dA h0 4 z 60 [none, none, none, none] [])) ?_ _ _ _ e20 ?_
  · rintro ⟨x1_1, h_1⟩ o hF hgo hr
    change F_X3_tightens_B2 this x1_1 h_1 = some o at hF
    unfold F_X3_tightens_B2 at hF
    show G p l e R s m args below meth c (RQ D dA h0 (.inr none, hE) below s) D dA h0 4 h_1 2 [some (va_rf (some this)), some (.int x1_1), none, none] []
    refine g_iload_n X dX3_tightens_2 rfl rfl ?_
    refine g_iconst (v := (4 : Int32)) X dX3_tightens_3 (by decide) ?_
    refine g_icmp_ge X 60 dX3_tightens_4 (by decide) (fun c2 => ?_) (fun c2 => ?_)
    · have hF := (if_pos c2).symm.trans hF
      refine G.drop [false, false, false, false] rfl ?_
      cases hF
      exact hr _ rfl
    · have hF := (if_neg c2).symm.trans hF
      refine g_iconst (v := (0 : Int32)) X dX3_tightens_7 (by decide) ?_
      refine g_istore_n (L' := [some (va_rf (some this)), some (.int x1_1), some (.int (0 : Int32)), none]) X dX3_tightens_8 rfl (Nat.le_of_ble_eq_true rfl) (by first | rfl | simp [stL, rm1, clr2, cat_rf, cat_i, cat_j, cat_f, cat_d]) ?_
      obtain ⟨h16, e17, hF⟩ := bnd hF
      refine lp_ind (Gs := (fun z => G p l e R s m args below meth c (RQ D dA h0 (.inr none, hE) below s) D dA h0 4 z.2 9 [some (va_rf (some this)), some (.int x1_1), some (.int z.1), none] [])) (Ge := (fun z => G p l e R s m args below meth c (RQ D dA h0 (.inr none, hE) below s) D dA h0 4 z 54 [some (va_rf (some this)), some (.int x1_1), none, none] [])) ?_ _ _ _ e17 ?_
      · rintro ⟨x2_3, h_3⟩ o hF hgo hr
        change F_X3_tightens_B9 this x1_1 x2_3 h_3 = some o at hF
        unfold F_X3_tightens_B9 at hF
        show G p l e R s m args below meth c (RQ D dA h0 (.inr none, hE) below s) D dA h0 4 h_3 9 [some (va_rf (some this)), some (.int x1_1), some (.int x2_3), none] []
        refine g_iload_n X dX3_tightens_9 rfl rfl ?_
        refine g_iconst (v := (4 : Int32)) X dX3_tightens_10 (by decide) ?_
        refine g_icmp_ge X 54 dX3_tightens_11 (by decide) (fun c4 => ?_) (fun c4 => ?_)
        · have hF := (if_pos c4).symm.trans hF
          refine G.drop [true, true, false, false] rfl ?_
          cases hF
          exact hr _ rfl
        · have hF := (if_neg c4).symm.trans hF
          refine g_iconst (v := (0 : Int32)) X dX3_tightens_14 (by decide) ?_
          refine g_istore_n (L' := [some (va_rf (some this)), some (.int x1_1), some (.int x2_3), some (.int (0 : Int32))]) X dX3_tightens_15 rfl (Nat.le_of_ble_eq_true rfl) (by first | rfl | simp [stL, rm1, clr2, cat_rf, cat_i, cat_j, cat_f, cat_d]) ?_
          obtain ⟨h13, e14, hF⟩ := bnd hF
          refine lp_ind (Gs := (fun z => G p l e R s m args below meth c (RQ D dA h0 (.inr none, hE) below s) D dA h0 4 z.2 16 [some (va_rf (some this)), some (.int x1_1), some (.int x2_3), some (.int z.1)] [])) (Ge := (fun z => G p l e R s m args below meth c (RQ D dA h0 (.inr none, hE) below s) D dA h0 4 z 48 [some (va_rf (some this)), some (.int x1_1), some (.int x2_3), none] [])) ?_ _ _ _ e14 ?_
          · rintro ⟨x3_5, h_5⟩ o hF hgo hr
            change F_X3_tightens_B16 this x1_1 x2_3 x3_5 h_5 = some o at hF
            unfold F_X3_tightens_B16 at hF
            show G p l e R s m args below meth c (RQ D dA h0 (.inr none, hE) below s) D dA h0 4 h_5 16 [some (va_rf (some this)), some (.int x1_1), some (.int x2_3), some (.int x3_5)] []
            refine g_iload_n X dX3_tightens_16 rfl rfl ?_
            refine g_iconst (v := (4 : Int32)) X dX3_tightens_17 (by decide) ?_
            refine g_icmp_ge X 48 dX3_tightens_18 (by decide) (fun c6 => ?_) (fun c6 => ?_)
            · have hF := (if_pos c6).symm.trans hF
              refine G.drop [true, true, true, false] rfl ?_
              cases hF
              exact hr _ rfl
            · have hF := (if_neg c6).symm.trans hF
              refine g_aload_n X dX3_tightens_21 rfl rfl ?_
              refine g_iload_n X dX3_tightens_22 rfl rfl ?_
              refine g_iload_n X dX3_tightens_23 rfl rfl ?_
              refine g_aload_n X dX3_tightens_24 rfl rfl ?_
              refine g_iload_n X dX3_tightens_25 rfl rfl ?_
              refine g_iload_n X dX3_tightens_26 rfl rfl ?_
              obtain ⟨ob7, eob7, hF⟩ := bnd hF
              obtain ⟨v8, ev8, hF⟩ := bnd hF
              refine g_callV X eob7 rfl rfl (w_X3_at l hl D dA h_5 ob7 x2_3 x1_1 v8 ev8) q494 q495 q496 q97 q497 okn_X3_at ⟨by rw [hRf]; exact Nat.le_of_ble_eq_true rfl, by rw [hRl]; exact Nat.le_of_ble_eq_true rfl⟩ (As := [.int x2_3, .int x1_1]) (rest := [.int x3_5, .int x2_3, va_rf (some this)]) rfl (by first | exact Nat.le_of_ble_eq_true rfl | simp [cat_rf, cat_i, cat_j, cat_f, cat_d]) dX3_tightens_27 (ac_v ?_)
              refine g_aload_n X dX3_tightens_30 rfl rfl ?_
              refine g_iload_n X dX3_tightens_31 rfl rfl ?_
              refine g_iload_n X dX3_tightens_32 rfl rfl ?_
              obtain ⟨ob9, eob9, hF⟩ := bnd hF
              obtain ⟨v10, ev10, hF⟩ := bnd hF
              refine g_callV X eob9 rfl rfl (w_X3_at l hl D dA h_5 ob9 x1_1 x3_5 v10 ev10) q494 q495 q496 q97 q497 okn_X3_at ⟨by rw [hRf]; exact Nat.le_of_ble_eq_true rfl, by rw [hRl]; exact Nat.le_of_ble_eq_true rfl⟩ (As := [.int x1_1, .int x3_5]) (rest := [.int v8, .int x3_5, .int x2_3, va_rf (some this)]) rfl (by first | exact Nat.le_of_ble_eq_true rfl | simp [cat_rf, cat_i, cat_j, cat_f, cat_d]) dX3_tightens_33 (ac_v ?_)
              refine g_callS X (w_X3_sum l hl D dA h_5 v8 v10) q517 q518 q97 q519 okn_X3_sum ⟨by rw [hRf]; exact Nat.le_of_ble_eq_true rfl, by rw [hRl]; exact Nat.le_of_ble_eq_true rfl⟩ (As := [.int v8, .int v10]) (rest := [.int x3_5, .int x2_3, va_rf (some this)]) rfl (by first | exact Nat.le_of_ble_eq_true rfl | simp [cat_rf, cat_i, cat_j, cat_f, cat_d]) dX3_tightens_36 (ac_v ?_)
              obtain ⟨ob11, eob11, hF⟩ := bnd hF
              obtain ⟨h12, eh12, hF⟩ := bnd hF
              refine g_callV X eob11 rfl rfl (w_X3_tells l hl D dA h_5 ob11 x2_3 x3_5 (F_X3_sum v8 v10) h12 eh12) q520 q491 q492 q97 q493 okn_X3_tells ⟨by rw [hRf]; exact Nat.le_of_ble_eq_true rfl, by rw [hRl]; exact Nat.le_of_ble_eq_true rfl⟩ (As := [.int x2_3, .int x3_5, .int (F_X3_sum v8 v10)]) (rest := []) rfl (by first | exact Nat.le_of_ble_eq_true rfl | simp [cat_rf, cat_i, cat_j, cat_f, cat_d]) dX3_tightens_39 (ac_0 ?_)
              refine g_iinc (v := (x3_5 + (1 : Int32))) (L' := [some (va_rf (some this)), some (.int x1_1), some (.int x2_3), some (.int (x3_5 + (1 : Int32)))]) X dX3_tightens_42 (Nat.le_of_ble_eq_true rfl) rfl rfl (by first | rfl | simp [stL, rm1, clr2, cat_rf, cat_i, cat_j, cat_f, cat_d]) ?_
              refine g_goto X 16 dX3_tightens_45 (by decide) ?_
              cases hF
              exact hgo _ rfl
          show G p l e R s m args below meth c (RQ D dA h0 (.inr none, hE) below s) D dA h0 4 h13 48 [some (va_rf (some this)), some (.int x1_1), some (.int x2_3), none] []
          refine g_iinc (v := (x2_3 + (1 : Int32))) (L' := [some (va_rf (some this)), some (.int x1_1), some (.int (x2_3 + (1 : Int32))), none]) X dX3_tightens_48 (Nat.le_of_ble_eq_true rfl) rfl rfl (by first | rfl | simp [stL, rm1, clr2, cat_rf, cat_i, cat_j, cat_f, cat_d]) ?_
          refine g_goto X 9 dX3_tightens_51 (by decide) ?_
          cases hF
          exact hgo _ rfl
      show G p l e R s m args below meth c (RQ D dA h0 (.inr none, hE) below s) D dA h0 4 h16 54 [some (va_rf (some this)), some (.int x1_1), none, none] []
      refine g_iinc (v := (x1_1 + (1 : Int32))) (L' := [some (va_rf (some this)), some (.int (x1_1 + (1 : Int32))), none, none]) X dX3_tightens_54 (Nat.le_of_ble_eq_true rfl) rfl rfl (by first | rfl | simp [stL, rm1, clr2, cat_rf, cat_i, cat_j, cat_f, cat_d]) ?_
      refine g_goto X 2 dX3_tightens_57 (by decide) ?_
      cases hF
      exact hgo _ rfl
  show G p l e R s m args below meth c (RQ D dA h0 (.inr none, hE) below s) D dA h0 4 h19 60 [none, none, none, none] []
  cases hF
  exact g_vret X hr dX3_tightens_60
def F_X3_tight (this : Nat) (h0 : HH) : Option (Option Nat × HH) :=
  Option.bind (newO h0 3 1 [.null]) fun h1 =>
  Option.bind (nnl (some (hSz h0))) fun ob2 =>
  Option.bind (F_X3_init_2 ob2 (some this) h1) fun h3 =>
  Option.bind (isO h3 3 (some (hSz h0))) fun ob4 =>
  Option.bind (F_X3_tightens ob4 h3) fun h5 =>
  some ((some (hSz h0)), h5)
set_option maxHeartbeats 4000000 in
theorem w_X3_tight (l : Launch) (hl : l.stackTraces = false) (D : va_G) (dA : Nat → ClassId) (h0 : HH) (this : Nat) (rE : Option Nat) (hE : HH) (hF : F_X3_tight this h0 = some (rE, hE)) : MC D dA l yX3_tight cX3_tight 2 (Option.some (Jvm.ClassFile.FieldType.object "FerryClocks$Zone")) [] 3 69 [va_rf (some this)] h0 (.inr (some (va_rf rE)), hE) := by
  refine mc_of hl (plainFor_of_name pn_X3) (by simp [lg_sl, cat_rf, cat_i, cat_j, cat_f, cat_d]) ?_
  intro p e s m args below meth c R hRf hRl X hr hnm
  unfold F_X3_tight at hF
  rw [show argL [va_rf (some this)] = [some (va_rf (some this))] from by simp [argL, cat_rf, cat_i, cat_j, cat_f, cat_d]]
  refine G.pad 1 (L' := [some (va_rf (some this)), none]) rfl ?_
  obtain ⟨h1, eh1, hF⟩ := bnd hF
  refine g_new X in_X3 tyX3 tyX3_ok rfl q511 q168 q97 rfl dv_X3 eh1 dX3_tight_0 ?_
  refine g_dup X dX3_tight_3 (cat_rf _) ?_
  refine g_aload_n X dX3_tight_4 rfl rfl ?_
  obtain ⟨ob2, eob2, hF⟩ := bnd hF
  obtain ⟨h3, eh3, hF⟩ := bnd hF
  refine g_callI X (nnl_some eob2) (w_X3_init_2 l hl D dA h1 ob2 (some this) h3 eh3) rfl q512 q399 q97 q400 okn_X3_init_2 ⟨by rw [hRf]; exact Nat.le_of_ble_eq_true rfl, by rw [hRl]; exact Nat.le_of_ble_eq_true rfl⟩ (As := [va_rf (some this)]) (rest := [va_rf (some (hSz h0))]) rfl (by first | exact Nat.le_of_ble_eq_true rfl | simp [cat_rf, cat_i, cat_j, cat_f, cat_d]) dX3_tight_5 (ac_0 ?_)
  refine g_astore_n (L' := [some (va_rf (some this)), some (va_rf (some (hSz h0)))]) X dX3_tight_8 rfl (Nat.le_of_ble_eq_true rfl) (by first | rfl | simp [stL, rm1, clr2, cat_rf, cat_i, cat_j, cat_f, cat_d]) ?_
  refine g_aload_n X dX3_tight_9 rfl rfl ?_
  obtain ⟨ob4, eob4, hF⟩ := bnd hF
  obtain ⟨h5, eh5, hF⟩ := bnd hF
  refine g_callV X eob4 rfl rfl (w_X3_tightens l hl D dA h3 ob4  h5 eh5) q513 q514 q515 q97 q516 okn_X3_tightens ⟨by rw [hRf]; exact Nat.le_of_ble_eq_true rfl, by rw [hRl]; exact Nat.le_of_ble_eq_true rfl⟩ (As := []) (rest := []) rfl (by first | exact Nat.le_of_ble_eq_true rfl | simp [cat_rf, cat_i, cat_j, cat_f, cat_d]) dX3_tight_10 (ac_0 ?_)
  refine g_aload_n X dX3_tight_13 rfl rfl ?_
  cases hF
  exact g_aret X hr (Or.inl ⟨_, rfl⟩) dX3_tight_14
def F_X3_hasNone_B4 (this : Nat) (x1_1 : Int32) (x2_1 : Int32) (h0 : HH) : Option ((Int32 × Int32) ⊕ Int32) :=
  if (4 : Int32) ≤ x2_1 then (
    some (.inr x1_1)
  ) else (
    Option.bind (isO h0 3 (some this)) fun ob3 =>
    Option.bind (F_X3_at ob3 x2_1 x2_1 h0) fun v4 =>
    some (.inl ((x1_1 ||| (if 0 ≤ v4 then (0 : Int32) else (1 : Int32))), (x2_1 + (1 : Int32))))
  )
def F_X3_hasNone (this : Nat) (h0 : HH) : Option Int32 :=
  Option.bind (lp (fun z => F_X3_hasNone_B4 this z.1 z.2 h0) 100000 ((0 : Int32), (0 : Int32))) fun v6 =>
  Option.bind (okZ v6) fun _ =>
  some v6
set_option maxHeartbeats 4000000 in
theorem w_X3_hasNone (l : Launch) (hl : l.stackTraces = false) (D : va_G) (dA : Nat → ClassId) (h0 : HH) (this : Nat) (rE : Int32) (hF : F_X3_hasNone this h0 = some rE) : MC D dA l yX3_hasNone cX3_hasNone 3 (Option.some Jvm.ClassFile.FieldType.boolean) [] 1 22 [va_rf (some this)] h0 (.inr (some (.int rE)), h0) := by
  refine mc_of hl (plainFor_of_name pn_X3) (by simp [lg_sl, cat_rf, cat_i, cat_j, cat_f, cat_d]) ?_
  intro p e s m args below meth c R hRf hRl X hr hnm
  unfold F_X3_hasNone at hF
  rw [show argL [va_rf (some this)] = [some (va_rf (some this))] from by simp [argL, cat_rf, cat_i, cat_j, cat_f, cat_d]]
  refine G.pad 2 (L' := [some (va_rf (some this)), none, none]) rfl ?_
  refine g_iconst (v := (0 : Int32)) X dX3_hasNone_0 (by decide) ?_
  refine g_istore_n (L' := [some (va_rf (some this)), some (.int (0 : Int32)), none]) X dX3_hasNone_1 rfl (Nat.le_of_ble_eq_true rfl) (by first | rfl | simp [stL, rm1, clr2, cat_rf, cat_i, cat_j, cat_f, cat_d]) ?_
  refine g_iconst (v := (0 : Int32)) X dX3_hasNone_2 (by decide) ?_
  refine g_istore_n (L' := [some (va_rf (some this)), some (.int (0 : Int32)), some (.int (0 : Int32))]) X dX3_hasNone_3 rfl (Nat.le_of_ble_eq_true rfl) (by first | rfl | simp [stL, rm1, clr2, cat_rf, cat_i, cat_j, cat_f, cat_d]) ?_
  obtain ⟨v6, e8, hF⟩ := bnd hF
  refine lp_ind (Gs := (fun z => G p l e R s m args below meth c (RQ D dA h0 (.inr (some (.int rE)), h0) below s) D dA h0 3 h0 4 [some (va_rf (some this)), some (.int z.1), some (.int z.2)] [])) (Ge := (fun z => G p l e R s m args below meth c (RQ D dA h0 (.inr (some (.int rE)), h0) below s) D dA h0 3 h0 32 [none, some (.int z), none] [])) ?_ _ _ _ e8 ?_
  · rintro ⟨x1_1, x2_1⟩ o hF hgo hr
    change F_X3_hasNone_B4 this x1_1 x2_1 h0 = some o at hF
    unfold F_X3_hasNone_B4 at hF
    show G p l e R s m args below meth c (RQ D dA h0 (.inr (some (.int rE)), h0) below s) D dA h0 3 h0 4 [some (va_rf (some this)), some (.int x1_1), some (.int x2_1)] []
    refine g_iload_n X dX3_hasNone_4 rfl rfl ?_
    refine g_iconst (v := (4 : Int32)) X dX3_hasNone_5 (by decide) ?_
    refine g_icmp_ge X 32 dX3_hasNone_6 (by decide) (fun c2 => ?_) (fun c2 => ?_)
    · have hF := (if_pos c2).symm.trans hF
      refine G.drop [false, true, false] rfl ?_
      cases hF
      exact hr _ rfl
    · have hF := (if_neg c2).symm.trans hF
      refine g_iload_n X dX3_hasNone_9 rfl rfl ?_
      refine g_aload_n X dX3_hasNone_10 rfl rfl ?_
      refine g_iload_n X dX3_hasNone_11 rfl rfl ?_
      refine g_iload_n X dX3_hasNone_12 rfl rfl ?_
      obtain ⟨ob3, eob3, hF⟩ := bnd hF
      obtain ⟨v4, ev4, hF⟩ := bnd hF
      refine g_callV X eob3 rfl rfl (w_X3_at l hl D dA h0 ob3 x2_1 x2_1 v4 ev4) q494 q495 q496 q97 q497 okn_X3_at ⟨by rw [hRf]; exact Nat.le_of_ble_eq_true rfl, by rw [hRl]; exact Nat.le_of_ble_eq_true rfl⟩ (As := [.int x2_1, .int x2_1]) (rest := [.int x1_1]) rfl (by first | exact Nat.le_of_ble_eq_true rfl | simp [cat_rf, cat_i, cat_j, cat_f, cat_d]) dX3_hasNone_13 (ac_v ?_)
      suffices K : G p l e R s m args below meth c (RQ D dA h0 (.inr (some (.int rE)), h0) below s) D dA h0 3 h0 24 [some (va_rf (some this)), none, some (.int x2_1)] [.int (if 0 ≤ v4 then (0 : Int32) else (1 : Int32)), .int x1_1] by
        refine g_if_ge X 23 dX3_hasNone_16 (by decide) (fun c5 => ?_) (fun c5 => ?_)
        · (try simp only [if_pos c5] at K)
          refine g_iconst (v := (0 : Int32)) X dX3_hasNone_23 (by decide) ?_
          refine G.drop [true, false, true] rfl ?_
          first | exact K | (simp only [if_pos c5]; exact K)
        · (try simp only [if_neg c5] at K)
          refine g_iconst (v := (1 : Int32)) X dX3_hasNone_19 (by decide) ?_
          refine g_goto X 24 dX3_hasNone_20 (by decide) ?_
          refine G.drop [true, false, true] rfl ?_
          first | exact K | (simp only [if_neg c5]; exact K)
      refine g_ior X dX3_hasNone_24 ?_
      refine g_istore_n (L' := [some (va_rf (some this)), some (.int (x1_1 ||| (if 0 ≤ v4 then (0 : Int32) else (1 : Int32)))), some (.int x2_1)]) X dX3_hasNone_25 rfl (Nat.le_of_ble_eq_true rfl) (by first | rfl | simp [stL, rm1, clr2, cat_rf, cat_i, cat_j, cat_f, cat_d]) ?_
      refine g_iinc (v := (x2_1 + (1 : Int32))) (L' := [some (va_rf (some this)), some (.int (x1_1 ||| (if 0 ≤ v4 then (0 : Int32) else (1 : Int32)))), some (.int (x2_1 + (1 : Int32)))]) X dX3_hasNone_26 (Nat.le_of_ble_eq_true rfl) rfl rfl (by first | rfl | simp [stL, rm1, clr2, cat_rf, cat_i, cat_j, cat_f, cat_d]) ?_
      refine g_goto X 4 dX3_hasNone_29 (by decide) ?_
      cases hF
      exact hgo _ rfl
  show G p l e R s m args below meth c (RQ D dA h0 (.inr (some (.int rE)), h0) below s) D dA h0 3 h0 32 [none, some (.int v6), none] []
  refine g_iload_n X dX3_hasNone_32 rfl rfl ?_
  obtain ⟨_, z7, hF⟩ := bnd hF
  cases hF
  exact g_zret X hr (narZ z7) dX3_hasNone_33
def F_X3_isTooFar_B4 (this : Nat) (x1_1 : Int32) (x2_1 : Int32) (h0 : HH) : Option ((Int32 × Int32) ⊕ Int32) :=
  if (3 : Int32) ≤ x2_1 then (
    some (.inr x1_1)
  ) else (
    Option.bind (isO h0 3 (some this)) fun ob3 =>
    Option.bind (F_X3_at ob3 (3 : Int32) x2_1 h0) fun v4 =>
    some (.inl ((x1_1 ||| (if (-v4) ≤ (30 : Int32) then (0 : Int32) else (1 : Int32))), (x2_1 + (1 : Int32))))
  )
def F_X3_isTooFar (this : Nat) (h0 : HH) : Option Int32 :=
  Option.bind (lp (fun z => F_X3_isTooFar_B4 this z.1 z.2 h0) 100000 ((0 : Int32), (0 : Int32))) fun v6 =>
  Option.bind (okZ v6) fun _ =>
  some v6
set_option maxHeartbeats 4000000 in
theorem w_X3_isTooFar (l : Launch) (hl : l.stackTraces = false) (D : va_G) (dA : Nat → ClassId) (h0 : HH) (this : Nat) (rE : Int32) (hF : F_X3_isTooFar this h0 = some rE) : MC D dA l yX3_isTooFar cX3_isTooFar 3 (Option.some Jvm.ClassFile.FieldType.boolean) [] 1 22 [va_rf (some this)] h0 (.inr (some (.int rE)), h0) := by
  refine mc_of hl (plainFor_of_name pn_X3) (by simp [lg_sl, cat_rf, cat_i, cat_j, cat_f, cat_d]) ?_
  intro p e s m args below meth c R hRf hRl X hr hnm
  unfold F_X3_isTooFar at hF
  rw [show argL [va_rf (some this)] = [some (va_rf (some this))] from by simp [argL, cat_rf, cat_i, cat_j, cat_f, cat_d]]
  refine G.pad 2 (L' := [some (va_rf (some this)), none, none]) rfl ?_
  refine g_iconst (v := (0 : Int32)) X dX3_isTooFar_0 (by decide) ?_
  refine g_istore_n (L' := [some (va_rf (some this)), some (.int (0 : Int32)), none]) X dX3_isTooFar_1 rfl (Nat.le_of_ble_eq_true rfl) (by first | rfl | simp [stL, rm1, clr2, cat_rf, cat_i, cat_j, cat_f, cat_d]) ?_
  refine g_iconst (v := (0 : Int32)) X dX3_isTooFar_2 (by decide) ?_
  refine g_istore_n (L' := [some (va_rf (some this)), some (.int (0 : Int32)), some (.int (0 : Int32))]) X dX3_isTooFar_3 rfl (Nat.le_of_ble_eq_true rfl) (by first | rfl | simp [stL, rm1, clr2, cat_rf, cat_i, cat_j, cat_f, cat_d]) ?_
  obtain ⟨v6, e8, hF⟩ := bnd hF
  refine lp_ind (Gs := (fun z => G p l e R s m args below meth c (RQ D dA h0 (.inr (some (.int rE)), h0) below s) D dA h0 3 h0 4 [some (va_rf (some this)), some (.int z.1), some (.int z.2)] [])) (Ge := (fun z => G p l e R s m args below meth c (RQ D dA h0 (.inr (some (.int rE)), h0) below s) D dA h0 3 h0 35 [none, some (.int z), none] [])) ?_ _ _ _ e8 ?_
  · rintro ⟨x1_1, x2_1⟩ o hF hgo hr
    change F_X3_isTooFar_B4 this x1_1 x2_1 h0 = some o at hF
    unfold F_X3_isTooFar_B4 at hF
    show G p l e R s m args below meth c (RQ D dA h0 (.inr (some (.int rE)), h0) below s) D dA h0 3 h0 4 [some (va_rf (some this)), some (.int x1_1), some (.int x2_1)] []
    refine g_iload_n X dX3_isTooFar_4 rfl rfl ?_
    refine g_iconst (v := (3 : Int32)) X dX3_isTooFar_5 (by decide) ?_
    refine g_icmp_ge X 35 dX3_isTooFar_6 (by decide) (fun c2 => ?_) (fun c2 => ?_)
    · have hF := (if_pos c2).symm.trans hF
      refine G.drop [false, true, false] rfl ?_
      cases hF
      exact hr _ rfl
    · have hF := (if_neg c2).symm.trans hF
      refine g_iload_n X dX3_isTooFar_9 rfl rfl ?_
      refine g_aload_n X dX3_isTooFar_10 rfl rfl ?_
      refine g_iconst (v := (3 : Int32)) X dX3_isTooFar_11 (by decide) ?_
      refine g_iload_n X dX3_isTooFar_12 rfl rfl ?_
      obtain ⟨ob3, eob3, hF⟩ := bnd hF
      obtain ⟨v4, ev4, hF⟩ := bnd hF
      refine g_callV X eob3 rfl rfl (w_X3_at l hl D dA h0 ob3 (3 : Int32) x2_1 v4 ev4) q494 q495 q496 q97 q497 okn_X3_at ⟨by rw [hRf]; exact Nat.le_of_ble_eq_true rfl, by rw [hRl]; exact Nat.le_of_ble_eq_true rfl⟩ (As := [.int (3 : Int32), .int x2_1]) (rest := [.int x1_1]) rfl (by first | exact Nat.le_of_ble_eq_true rfl | simp [cat_rf, cat_i, cat_j, cat_f, cat_d]) dX3_isTooFar_13 (ac_v ?_)
      refine g_ineg X dX3_isTooFar_16 ?_
      refine g_bipush (v := (30 : Int32)) X dX3_isTooFar_17 (by decide) ?_
      suffices K : G p l e R s m args below meth c (RQ D dA h0 (.inr (some (.int rE)), h0) below s) D dA h0 3 h0 27 [some (va_rf (some this)), none, some (.int x2_1)] [.int (if (-v4) ≤ (30 : Int32) then (0 : Int32) else (1 : Int32)), .int x1_1] by
        refine g_icmp_le X 26 dX3_isTooFar_19 (by decide) (fun c5 => ?_) (fun c5 => ?_)
        · (try simp only [if_pos c5] at K)
          refine g_iconst (v := (0 : Int32)) X dX3_isTooFar_26 (by decide) ?_
          refine G.drop [true, false, true] rfl ?_
          first | exact K | (simp only [if_pos c5]; exact K)
        · (try simp only [if_neg c5] at K)
          refine g_iconst (v := (1 : Int32)) X dX3_isTooFar_22 (by decide) ?_
          refine g_goto X 27 dX3_isTooFar_23 (by decide) ?_
          refine G.drop [true, false, true] rfl ?_
          first | exact K | (simp only [if_neg c5]; exact K)
      refine g_ior X dX3_isTooFar_27 ?_
      refine g_istore_n (L' := [some (va_rf (some this)), some (.int (x1_1 ||| (if (-v4) ≤ (30 : Int32) then (0 : Int32) else (1 : Int32)))), some (.int x2_1)]) X dX3_isTooFar_28 rfl (Nat.le_of_ble_eq_true rfl) (by first | rfl | simp [stL, rm1, clr2, cat_rf, cat_i, cat_j, cat_f, cat_d]) ?_
      refine g_iinc (v := (x2_1 + (1 : Int32))) (L' := [some (va_rf (some this)), some (.int (x1_1 ||| (if (-v4) ≤ (30 : Int32) then (0 : Int32) else (1 : Int32)))), some (.int (x2_1 + (1 : Int32)))]) X dX3_isTooFar_29 (Nat.le_of_ble_eq_true rfl) rfl rfl (by first | rfl | simp [stL, rm1, clr2, cat_rf, cat_i, cat_j, cat_f, cat_d]) ?_
      refine g_goto X 4 dX3_isTooFar_32 (by decide) ?_
      cases hF
      exact hgo _ rfl
  show G p l e R s m args below meth c (RQ D dA h0 (.inr (some (.int rE)), h0) below s) D dA h0 3 h0 35 [none, some (.int v6), none] []
  refine g_iload_n X dX3_isTooFar_35 rfl rfl ?_
  obtain ⟨_, z7, hF⟩ := bnd hF
  cases hF
  exact g_zret X hr (narZ z7) dX3_isTooFar_36
def F_X3_isTooGreat_B4 (this : Nat) (x1_1 : Int32) (x2_1 : Int32) (h0 : HH) : Option ((Int32 × Int32) ⊕ Int32) :=
  if (16 : Int32) ≤ x2_1 then (
    some (.inr x1_1)
  ) else (
    Option.bind (getR h0 3 0 (some this)) fun v3 =>
    Option.bind (aldI h0 0 v3 x2_1) fun v4 =>
    if v4 = (9999 : Int32) then (
      some (.inl ((x1_1 ||| (0 : Int32)), (x2_1 + (1 : Int32))))
    ) else (
      Option.bind (getR h0 3 0 (some this)) fun v6 =>
      Option.bind (aldI h0 0 v6 x2_1) fun v7 =>
      some (.inl ((x1_1 ||| (if v7 ≤ (999 : Int32) then (0 : Int32) else (1 : Int32))), (x2_1 + (1 : Int32))))
    )
  )
def F_X3_isTooGreat (this : Nat) (h0 : HH) : Option Int32 :=
  Option.bind (lp (fun z => F_X3_isTooGreat_B4 this z.1 z.2 h0) 100000 ((0 : Int32), (0 : Int32))) fun v9 =>
  Option.bind (okZ v9) fun _ =>
  some v9
set_option maxHeartbeats 4000000 in
theorem w_X3_isTooGreat (l : Launch) (hl : l.stackTraces = false) (D : va_G) (dA : Nat → ClassId) (h0 : HH) (this : Nat) (rE : Int32) (hF : F_X3_isTooGreat this h0 = some rE) : MC D dA l yX3_isTooGreat cX3_isTooGreat 3 (Option.some Jvm.ClassFile.FieldType.boolean) [] 0 0 [va_rf (some this)] h0 (.inr (some (.int rE)), h0) := by
  refine mc_of hl (plainFor_of_name pn_X3) (by simp [lg_sl, cat_rf, cat_i, cat_j, cat_f, cat_d]) ?_
  intro p e s m args below meth c R hRf hRl X hr hnm
  unfold F_X3_isTooGreat at hF
  rw [show argL [va_rf (some this)] = [some (va_rf (some this))] from by simp [argL, cat_rf, cat_i, cat_j, cat_f, cat_d]]
  refine G.pad 2 (L' := [some (va_rf (some this)), none, none]) rfl ?_
  refine g_iconst (v := (0 : Int32)) X dX3_isTooGreat_0 (by decide) ?_
  refine g_istore_n (L' := [some (va_rf (some this)), some (.int (0 : Int32)), none]) X dX3_isTooGreat_1 rfl (Nat.le_of_ble_eq_true rfl) (by first | rfl | simp [stL, rm1, clr2, cat_rf, cat_i, cat_j, cat_f, cat_d]) ?_
  refine g_iconst (v := (0 : Int32)) X dX3_isTooGreat_2 (by decide) ?_
  refine g_istore_n (L' := [some (va_rf (some this)), some (.int (0 : Int32)), some (.int (0 : Int32))]) X dX3_isTooGreat_3 rfl (Nat.le_of_ble_eq_true rfl) (by first | rfl | simp [stL, rm1, clr2, cat_rf, cat_i, cat_j, cat_f, cat_d]) ?_
  obtain ⟨v9, e11, hF⟩ := bnd hF
  refine lp_ind (Gs := (fun z => G p l e R s m args below meth c (RQ D dA h0 (.inr (some (.int rE)), h0) below s) D dA h0 3 h0 4 [some (va_rf (some this)), some (.int z.1), some (.int z.2)] [])) (Ge := (fun z => G p l e R s m args below meth c (RQ D dA h0 (.inr (some (.int rE)), h0) below s) D dA h0 3 h0 48 [none, some (.int z), none] [])) ?_ _ _ _ e11 ?_
  · rintro ⟨x1_1, x2_1⟩ o hF hgo hr
    change F_X3_isTooGreat_B4 this x1_1 x2_1 h0 = some o at hF
    unfold F_X3_isTooGreat_B4 at hF
    show G p l e R s m args below meth c (RQ D dA h0 (.inr (some (.int rE)), h0) below s) D dA h0 3 h0 4 [some (va_rf (some this)), some (.int x1_1), some (.int x2_1)] []
    refine g_iload_n X dX3_isTooGreat_4 rfl rfl ?_
    refine g_bipush (v := (16 : Int32)) X dX3_isTooGreat_5 (by decide) ?_
    refine g_icmp_ge X 48 dX3_isTooGreat_7 (by decide) (fun c2 => ?_) (fun c2 => ?_)
    · have hF := (if_pos c2).symm.trans hF
      refine G.drop [false, true, false] rfl ?_
      cases hF
      exact hr _ rfl
    · have hF := (if_neg c2).symm.trans hF
      refine g_iload_n X dX3_isTooGreat_10 rfl rfl ?_
      refine g_aload_n X dX3_isTooGreat_11 rfl rfl ?_
      obtain ⟨v3, ev3, hF⟩ := bnd hF
      refine g_get (k := 0) X in_X3 rfl (by decide) q176 (Or.inl rfl) (getR_V ev3) dX3_isTooGreat_12 ?_
      refine g_iload_n X dX3_isTooGreat_15 rfl rfl ?_
      obtain ⟨v4, ev4, hF⟩ := bnd hF
      refine g_iald X ev4 dX3_isTooGreat_16 ?_
      refine g_sipush (v := (9999 : Int32)) X dX3_isTooGreat_17 (by decide) ?_
      refine g_icmp_eq X 39 dX3_isTooGreat_20 (by decide) (fun c5 => ?_) (fun c5 => ?_)
      · have hF := (if_pos c5).symm.trans hF
        refine g_iconst (v := (0 : Int32)) X dX3_isTooGreat_39 (by decide) ?_
        refine g_ior X dX3_isTooGreat_40 ?_
        refine g_istore_n (L' := [some (va_rf (some this)), some (.int (x1_1 ||| (0 : Int32))), some (.int x2_1)]) X dX3_isTooGreat_41 rfl (Nat.le_of_ble_eq_true rfl) (by first | rfl | simp [stL, rm1, clr2, cat_rf, cat_i, cat_j, cat_f, cat_d]) ?_
        refine g_iinc (v := (x2_1 + (1 : Int32))) (L' := [some (va_rf (some this)), some (.int (x1_1 ||| (0 : Int32))), some (.int (x2_1 + (1 : Int32)))]) X dX3_isTooGreat_42 (Nat.le_of_ble_eq_true rfl) rfl rfl (by first | rfl | simp [stL, rm1, clr2, cat_rf, cat_i, cat_j, cat_f, cat_d]) ?_
        refine g_goto X 4 dX3_isTooGreat_45 (by decide) ?_
        cases hF
        exact hgo _ rfl
      · have hF := (if_neg c5).symm.trans hF
        refine g_aload_n X dX3_isTooGreat_23 rfl rfl ?_
        obtain ⟨v6, ev6, hF⟩ := bnd hF
        refine g_get (k := 0) X in_X3 rfl (by decide) q176 (Or.inl rfl) (getR_V ev6) dX3_isTooGreat_24 ?_
        refine g_iload_n X dX3_isTooGreat_27 rfl rfl ?_
        obtain ⟨v7, ev7, hF⟩ := bnd hF
        refine g_iald X ev7 dX3_isTooGreat_28 ?_
        refine g_sipush (v := (999 : Int32)) X dX3_isTooGreat_29 (by decide) ?_
        suffices K : G p l e R s m args below meth c (RQ D dA h0 (.inr (some (.int rE)), h0) below s) D dA h0 3 h0 40 [some (va_rf (some this)), none, some (.int x2_1)] [.int (if v7 ≤ (999 : Int32) then (0 : Int32) else (1 : Int32)), .int x1_1] by
          refine g_icmp_le X 39 dX3_isTooGreat_32 (by decide) (fun c8 => ?_) (fun c8 => ?_)
          · (try simp only [if_pos c8] at K)
            refine g_iconst (v := (0 : Int32)) X dX3_isTooGreat_39 (by decide) ?_
            refine G.drop [true, false, true] rfl ?_
            first | exact K | (simp only [if_pos c8]; exact K)
          · (try simp only [if_neg c8] at K)
            refine g_iconst (v := (1 : Int32)) X dX3_isTooGreat_35 (by decide) ?_
            refine g_goto X 40 dX3_isTooGreat_36 (by decide) ?_
            refine G.drop [true, false, true] rfl ?_
            first | exact K | (simp only [if_neg c8]; exact K)
        refine g_ior X dX3_isTooGreat_40 ?_
        refine g_istore_n (L' := [some (va_rf (some this)), some (.int (x1_1 ||| (if v7 ≤ (999 : Int32) then (0 : Int32) else (1 : Int32)))), some (.int x2_1)]) X dX3_isTooGreat_41 rfl (Nat.le_of_ble_eq_true rfl) (by first | rfl | simp [stL, rm1, clr2, cat_rf, cat_i, cat_j, cat_f, cat_d]) ?_
        refine g_iinc (v := (x2_1 + (1 : Int32))) (L' := [some (va_rf (some this)), some (.int (x1_1 ||| (if v7 ≤ (999 : Int32) then (0 : Int32) else (1 : Int32)))), some (.int (x2_1 + (1 : Int32)))]) X dX3_isTooGreat_42 (Nat.le_of_ble_eq_true rfl) rfl rfl (by first | rfl | simp [stL, rm1, clr2, cat_rf, cat_i, cat_j, cat_f, cat_d]) ?_
        refine g_goto X 4 dX3_isTooGreat_45 (by decide) ?_
        cases hF
        exact hgo _ rfl
  show G p l e R s m args below meth c (RQ D dA h0 (.inr (some (.int rE)), h0) below s) D dA h0 3 h0 48 [none, some (.int v9), none] []
  refine g_iload_n X dX3_isTooGreat_48 rfl rfl ?_
  obtain ⟨_, z10, hF⟩ := bnd hF
  cases hF
  exact g_zret X hr (narZ z10) dX3_isTooGreat_49
def F_X3_unlike_B4 (this : Nat) (a1 : Option Nat) (x2_1 : Int32) (x3_1 : Int32) (h0 : HH) : Option ((Int32 × Int32) ⊕ Int32) :=
  if (16 : Int32) ≤ x3_1 then (
    some (.inr x2_1)
  ) else (
    Option.bind (getR h0 3 0 (some this)) fun v3 =>
    Option.bind (aldI h0 0 v3 x3_1) fun v4 =>
    Option.bind (getR h0 3 0 a1) fun v5 =>
    Option.bind (aldI h0 0 v5 x3_1) fun v6 =>
    some (.inl ((x2_1 + (if v4 = v6 then (0 : Int32) else (1 : Int32))), (x3_1 + (1 : Int32))))
  )
def F_X3_unlike (this : Nat) (a1 : Option Nat) (h0 : HH) : Option Int32 :=
  Option.bind (lp (fun z => F_X3_unlike_B4 this a1 z.1 z.2 h0) 100000 ((0 : Int32), (0 : Int32))) fun v8 =>
  some v8
set_option maxHeartbeats 4000000 in
theorem w_X3_unlike (l : Launch) (hl : l.stackTraces = false) (D : va_G) (dA : Nat → ClassId) (h0 : HH) (this : Nat) (a1 : Option Nat) (rE : Int32) (hF : F_X3_unlike this a1 h0 = some rE) : MC D dA l yX3_unlike cX3_unlike 4 (Option.some Jvm.ClassFile.FieldType.int) [] 0 0 [va_rf (some this), va_rf a1] h0 (.inr (some (.int rE)), h0) := by
  refine mc_of hl (plainFor_of_name pn_X3) (by simp [lg_sl, cat_rf, cat_i, cat_j, cat_f, cat_d]) ?_
  intro p e s m args below meth c R hRf hRl X hr hnm
  unfold F_X3_unlike at hF
  rw [show argL [va_rf (some this), va_rf a1] = [some (va_rf (some this)), some (va_rf a1)] from by simp [argL, cat_rf, cat_i, cat_j, cat_f, cat_d]]
  refine G.pad 2 (L' := [some (va_rf (some this)), some (va_rf a1), none, none]) rfl ?_
  refine g_iconst (v := (0 : Int32)) X dX3_unlike_0 (by decide) ?_
  refine g_istore_n (L' := [some (va_rf (some this)), some (va_rf a1), some (.int (0 : Int32)), none]) X dX3_unlike_1 rfl (Nat.le_of_ble_eq_true rfl) (by first | rfl | simp [stL, rm1, clr2, cat_rf, cat_i, cat_j, cat_f, cat_d]) ?_
  refine g_iconst (v := (0 : Int32)) X dX3_unlike_2 (by decide) ?_
  refine g_istore_n (L' := [some (va_rf (some this)), some (va_rf a1), some (.int (0 : Int32)), some (.int (0 : Int32))]) X dX3_unlike_3 rfl (Nat.le_of_ble_eq_true rfl) (by first | rfl | simp [stL, rm1, clr2, cat_rf, cat_i, cat_j, cat_f, cat_d]) ?_
  obtain ⟨v8, e9, hF⟩ := bnd hF
  refine lp_ind (Gs := (fun z => G p l e R s m args below meth c (RQ D dA h0 (.inr (some (.int rE)), h0) below s) D dA h0 4 h0 4 [some (va_rf (some this)), some (va_rf a1), some (.int z.1), some (.int z.2)] [])) (Ge := (fun z => G p l e R s m args below meth c (RQ D dA h0 (.inr (some (.int rE)), h0) below s) D dA h0 4 h0 39 [none, none, some (.int z), none] [])) ?_ _ _ _ e9 ?_
  · rintro ⟨x2_1, x3_1⟩ o hF hgo hr
    change F_X3_unlike_B4 this a1 x2_1 x3_1 h0 = some o at hF
    unfold F_X3_unlike_B4 at hF
    show G p l e R s m args below meth c (RQ D dA h0 (.inr (some (.int rE)), h0) below s) D dA h0 4 h0 4 [some (va_rf (some this)), some (va_rf a1), some (.int x2_1), some (.int x3_1)] []
    refine g_iload_n X dX3_unlike_4 rfl rfl ?_
    refine g_bipush (v := (16 : Int32)) X dX3_unlike_5 (by decide) ?_
    refine g_icmp_ge X 39 dX3_unlike_7 (by decide) (fun c2 => ?_) (fun c2 => ?_)
    · have hF := (if_pos c2).symm.trans hF
      refine G.drop [false, false, true, false] rfl ?_
      cases hF
      exact hr _ rfl
    · have hF := (if_neg c2).symm.trans hF
      refine g_iload_n X dX3_unlike_10 rfl rfl ?_
      refine g_aload_n X dX3_unlike_11 rfl rfl ?_
      obtain ⟨v3, ev3, hF⟩ := bnd hF
      refine g_get (k := 0) X in_X3 rfl (by decide) q176 (Or.inl rfl) (getR_V ev3) dX3_unlike_12 ?_
      refine g_iload_n X dX3_unlike_15 rfl rfl ?_
      obtain ⟨v4, ev4, hF⟩ := bnd hF
      refine g_iald X ev4 dX3_unlike_16 ?_
      refine g_aload_n X dX3_unlike_17 rfl rfl ?_
      obtain ⟨v5, ev5, hF⟩ := bnd hF
      refine g_get (k := 0) X in_X3 rfl (by decide) q176 (Or.inl rfl) (getR_V ev5) dX3_unlike_18 ?_
      refine g_iload_n X dX3_unlike_21 rfl rfl ?_
      obtain ⟨v6, ev6, hF⟩ := bnd hF
      refine g_iald X ev6 dX3_unlike_22 ?_
      suffices K : G p l e R s m args below meth c (RQ D dA h0 (.inr (some (.int rE)), h0) below s) D dA h0 4 h0 31 [some (va_rf (some this)), some (va_rf a1), none, some (.int x3_1)] [.int (if v4 = v6 then (0 : Int32) else (1 : Int32)), .int x2_1] by
        refine g_icmp_eq X 30 dX3_unlike_23 (by decide) (fun c7 => ?_) (fun c7 => ?_)
        · (try simp only [if_pos c7] at K)
          refine g_iconst (v := (0 : Int32)) X dX3_unlike_30 (by decide) ?_
          refine G.drop [true, true, false, true] rfl ?_
          first | exact K | (simp only [if_pos c7]; exact K)
        · (try simp only [if_neg c7] at K)
          refine g_iconst (v := (1 : Int32)) X dX3_unlike_26 (by decide) ?_
          refine g_goto X 31 dX3_unlike_27 (by decide) ?_
          refine G.drop [true, true, false, true] rfl ?_
          first | exact K | (simp only [if_neg c7]; exact K)
      refine g_iadd X dX3_unlike_31 ?_
      refine g_istore_n (L' := [some (va_rf (some this)), some (va_rf a1), some (.int (x2_1 + (if v4 = v6 then (0 : Int32) else (1 : Int32)))), some (.int x3_1)]) X dX3_unlike_32 rfl (Nat.le_of_ble_eq_true rfl) (by first | rfl | simp [stL, rm1, clr2, cat_rf, cat_i, cat_j, cat_f, cat_d]) ?_
      refine g_iinc (v := (x3_1 + (1 : Int32))) (L' := [some (va_rf (some this)), some (va_rf a1), some (.int (x2_1 + (if v4 = v6 then (0 : Int32) else (1 : Int32)))), some (.int (x3_1 + (1 : Int32)))]) X dX3_unlike_33 (Nat.le_of_ble_eq_true rfl) rfl rfl (by first | rfl | simp [stL, rm1, clr2, cat_rf, cat_i, cat_j, cat_f, cat_d]) ?_
      refine g_goto X 4 dX3_unlike_36 (by decide) ?_
      cases hF
      exact hgo _ rfl
  show G p l e R s m args below meth c (RQ D dA h0 (.inr (some (.int rE)), h0) below s) D dA h0 4 h0 39 [none, none, some (.int v8), none] []
  refine g_iload_n X dX3_unlike_39 rfl rfl ?_
  cases hF
  exact g_iret X hr dX3_unlike_40
def F_X3_resets_B2 (this : Nat) (a1 : Int32) (a2 : Int32) (x3_1 : Int32) (h_1 : HH) : Option ((Int32 × HH) ⊕ HH) :=
  if (4 : Int32) ≤ x3_1 then (
    some (.inr h_1)
  ) else (
    if x3_1 = a1 then (
      some (.inl ((x3_1 + (1 : Int32)), h_1))
    ) else (
      Option.bind (isO h_1 3 (some this)) fun ob4 =>
      Option.bind (F_X3_at ob4 (3 : Int32) x3_1 h_1) fun v5 =>
      Option.bind (isO h_1 3 (some this)) fun ob6 =>
      Option.bind (F_X3_sets ob6 a1 x3_1 (F_X3_sum a2 v5) h_1) fun h7 =>
      Option.bind (isO h7 3 (some this)) fun ob8 =>
      Option.bind (F_X3_at ob8 x3_1 (3 : Int32) h7) fun v9 =>
      Option.bind (isO h7 3 (some this)) fun ob10 =>
      Option.bind (F_X3_sets ob10 x3_1 a1 (F_X3_sum v9 (-a2)) h7) fun h11 =>
      some (.inl ((x3_1 + (1 : Int32)), h11))
    )
  )
def F_X3_resets (this : Nat) (a1 : Int32) (a2 : Int32) (h0 : HH) : Option HH :=
  Option.bind (lp (fun z => F_X3_resets_B2 this a1 a2 z.1 z.2) 100000 ((0 : Int32), h0)) fun h12 =>
  some h12
set_option maxHeartbeats 4000000 in
theorem w_X3_resets (l : Launch) (hl : l.stackTraces = false) (D : va_G) (dA : Nat → ClassId) (h0 : HH) (this : Nat) (a1 : Int32) (a2 : Int32) (hE : HH) (hF : F_X3_resets this a1 a2 h0 = some hE) : MC D dA l yX3_resets cX3_resets 4 (Option.none : Option Jvm.ClassFile.FieldType) [] 1 23 [va_rf (some this), .int a1, .int a2] h0 (.inr none, hE) := by
  refine mc_of hl (plainFor_of_name pn_X3) (by simp [lg_sl, cat_rf, cat_i, cat_j, cat_f, cat_d]) ?_
  intro p e s m args below meth c R hRf hRl X hr hnm
  unfold F_X3_resets at hF
  rw [show argL [va_rf (some this), .int a1, .int a2] = [some (va_rf (some this)), some (.int a1), some (.int a2)] from by simp [argL, cat_rf, cat_i, cat_j, cat_f, cat_d]]
  refine G.pad 1 (L' := [some (va_rf (some this)), some (.int a1), some (.int a2), none]) rfl ?_
  refine g_iconst (v := (0 : Int32)) X dX3_resets_0 (by decide) ?_
  refine g_istore_n (L' := [some (va_rf (some this)), some (.int a1), some (.int a2), some (.int (0 : Int32))]) X dX3_resets_1 rfl (Nat.le_of_ble_eq_true rfl) (by first | rfl | simp [stL, rm1, clr2, cat_rf, cat_i, cat_j, cat_f, cat_d]) ?_
  obtain ⟨h12, e13, hF⟩ := bnd hF
  refine lp_ind (Gs := (fun z => G p l e R s m args below meth c (RQ D dA h0 (.inr none, hE) below s) D dA h0 4 z.2 2 [some (va_rf (some this)), some (.int a1), some (.int a2), some (.int z.1)] [])) (Ge := (fun z => G p l e R s m args below meth c (RQ D dA h0 (.inr none, hE) below s) D dA h0 4 z 51 [none, none, none, none] [])) ?_ _ _ _ e13 ?_
  · rintro ⟨x3_1, h_1⟩ o hF hgo hr
    change F_X3_resets_B2 this a1 a2 x3_1 h_1 = some o at hF
    unfold F_X3_resets_B2 at hF
    show G p l e R s m args below meth c (RQ D dA h0 (.inr none, hE) below s) D dA h0 4 h_1 2 [some (va_rf (some this)), some (.int a1), some (.int a2), some (.int x3_1)] []
    refine g_iload_n X dX3_resets_2 rfl rfl ?_
    refine g_iconst (v := (4 : Int32)) X dX3_resets_3 (by decide) ?_
    refine g_icmp_ge X 51 dX3_resets_4 (by decide) (fun c2 => ?_) (fun c2 => ?_)
    · have hF := (if_pos c2).symm.trans hF
      refine G.drop [false, false, false, false] rfl ?_
      cases hF
      exact hr _ rfl
    · have hF := (if_neg c2).symm.trans hF
      refine g_iload_n X dX3_resets_7 rfl rfl ?_
      refine g_iload_n X dX3_resets_8 rfl rfl ?_
      refine g_icmp_eq X 45 dX3_resets_9 (by decide) (fun c3 => ?_) (fun c3 => ?_)
      · have hF := (if_pos c3).symm.trans hF
        refine g_iinc (v := (x3_1 + (1 : Int32))) (L' := [some (va_rf (some this)), some (.int a1), some (.int a2), some (.int (x3_1 + (1 : Int32)))]) X dX3_resets_45 (Nat.le_of_ble_eq_true rfl) rfl rfl (by first | rfl | simp [stL, rm1, clr2, cat_rf, cat_i, cat_j, cat_f, cat_d]) ?_
        refine g_goto X 2 dX3_resets_48 (by decide) ?_
        cases hF
        exact hgo _ rfl
      · have hF := (if_neg c3).symm.trans hF
        refine g_aload_n X dX3_resets_12 rfl rfl ?_
        refine g_iload_n X dX3_resets_13 rfl rfl ?_
        refine g_iload_n X dX3_resets_14 rfl rfl ?_
        refine g_iload_n X dX3_resets_15 rfl rfl ?_
        refine g_aload_n X dX3_resets_16 rfl rfl ?_
        refine g_iconst (v := (3 : Int32)) X dX3_resets_17 (by decide) ?_
        refine g_iload_n X dX3_resets_18 rfl rfl ?_
        obtain ⟨ob4, eob4, hF⟩ := bnd hF
        obtain ⟨v5, ev5, hF⟩ := bnd hF
        refine g_callV X eob4 rfl rfl (w_X3_at l hl D dA h_1 ob4 (3 : Int32) x3_1 v5 ev5) q494 q495 q496 q97 q497 okn_X3_at ⟨by rw [hRf]; exact Nat.le_of_ble_eq_true rfl, by rw [hRl]; exact Nat.le_of_ble_eq_true rfl⟩ (As := [.int (3 : Int32), .int x3_1]) (rest := [.int a2, .int x3_1, .int a1, va_rf (some this)]) rfl (by first | exact Nat.le_of_ble_eq_true rfl | simp [cat_rf, cat_i, cat_j, cat_f, cat_d]) dX3_resets_19 (ac_v ?_)
        refine g_callS X (w_X3_sum l hl D dA h_1 a2 v5) q517 q518 q97 q519 okn_X3_sum ⟨by rw [hRf]; exact Nat.le_of_ble_eq_true rfl, by rw [hRl]; exact Nat.le_of_ble_eq_true rfl⟩ (As := [.int a2, .int v5]) (rest := [.int x3_1, .int a1, va_rf (some this)]) rfl (by first | exact Nat.le_of_ble_eq_true rfl | simp [cat_rf, cat_i, cat_j, cat_f, cat_d]) dX3_resets_22 (ac_v ?_)
        obtain ⟨ob6, eob6, hF⟩ := bnd hF
        obtain ⟨h7, eh7, hF⟩ := bnd hF
        refine g_callV X eob6 rfl rfl (w_X3_sets l hl D dA h_1 ob6 a1 x3_1 (F_X3_sum a2 v5) h7 eh7) q499 q500 q501 q97 q502 okn_X3_sets ⟨by rw [hRf]; exact Nat.le_of_ble_eq_true rfl, by rw [hRl]; exact Nat.le_of_ble_eq_true rfl⟩ (As := [.int a1, .int x3_1, .int (F_X3_sum a2 v5)]) (rest := []) rfl (by first | exact Nat.le_of_ble_eq_true rfl | simp [cat_rf, cat_i, cat_j, cat_f, cat_d]) dX3_resets_25 (ac_0 ?_)
        refine g_aload_n X dX3_resets_28 rfl rfl ?_
        refine g_iload_n X dX3_resets_29 rfl rfl ?_
        refine g_iload_n X dX3_resets_30 rfl rfl ?_
        refine g_aload_n X dX3_resets_31 rfl rfl ?_
        refine g_iload_n X dX3_resets_32 rfl rfl ?_
        refine g_iconst (v := (3 : Int32)) X dX3_resets_33 (by decide) ?_
        obtain ⟨ob8, eob8, hF⟩ := bnd hF
        obtain ⟨v9, ev9, hF⟩ := bnd hF
        refine g_callV X eob8 rfl rfl (w_X3_at l hl D dA h7 ob8 x3_1 (3 : Int32) v9 ev9) q494 q495 q496 q97 q497 okn_X3_at ⟨by rw [hRf]; exact Nat.le_of_ble_eq_true rfl, by rw [hRl]; exact Nat.le_of_ble_eq_true rfl⟩ (As := [.int x3_1, .int (3 : Int32)]) (rest := [.int a1, .int x3_1, va_rf (some this)]) rfl (by first | exact Nat.le_of_ble_eq_true rfl | simp [cat_rf, cat_i, cat_j, cat_f, cat_d]) dX3_resets_34 (ac_v ?_)
        refine g_iload_n X dX3_resets_37 rfl rfl ?_
        refine g_ineg X dX3_resets_38 ?_
        refine g_callS X (w_X3_sum l hl D dA h7 v9 (-a2)) q517 q518 q97 q519 okn_X3_sum ⟨by rw [hRf]; exact Nat.le_of_ble_eq_true rfl, by rw [hRl]; exact Nat.le_of_ble_eq_true rfl⟩ (As := [.int v9, .int (-a2)]) (rest := [.int a1, .int x3_1, va_rf (some this)]) rfl (by first | exact Nat.le_of_ble_eq_true rfl | simp [cat_rf, cat_i, cat_j, cat_f, cat_d]) dX3_resets_39 (ac_v ?_)
        obtain ⟨ob10, eob10, hF⟩ := bnd hF
        obtain ⟨h11, eh11, hF⟩ := bnd hF
        refine g_callV X eob10 rfl rfl (w_X3_sets l hl D dA h7 ob10 x3_1 a1 (F_X3_sum v9 (-a2)) h11 eh11) q499 q500 q501 q97 q502 okn_X3_sets ⟨by rw [hRf]; exact Nat.le_of_ble_eq_true rfl, by rw [hRl]; exact Nat.le_of_ble_eq_true rfl⟩ (As := [.int x3_1, .int a1, .int (F_X3_sum v9 (-a2))]) (rest := []) rfl (by first | exact Nat.le_of_ble_eq_true rfl | simp [cat_rf, cat_i, cat_j, cat_f, cat_d]) dX3_resets_42 (ac_0 ?_)
        refine g_iinc (v := (x3_1 + (1 : Int32))) (L' := [some (va_rf (some this)), some (.int a1), some (.int a2), some (.int (x3_1 + (1 : Int32)))]) X dX3_resets_45 (Nat.le_of_ble_eq_true rfl) rfl rfl (by first | rfl | simp [stL, rm1, clr2, cat_rf, cat_i, cat_j, cat_f, cat_d]) ?_
        refine g_goto X 2 dX3_resets_48 (by decide) ?_
        cases hF
        exact hgo _ rfl
  show G p l e R s m args below meth c (RQ D dA h0 (.inr none, hE) below s) D dA h0 4 h12 51 [none, none, none, none] []
  cases hF
  exact g_vret X hr dX3_resets_51
def F_X3_delays_B4 (this : Nat) (x1_1 : Int32) (x2_1 : Int32) (h_1 : HH) : Option ((Int32 × Int32 × HH) ⊕ (Int32 × HH)) :=
  if (3 : Int32) ≤ x2_1 then (
    some (.inr (x1_1, h_1))
  ) else (
    Option.bind (isO h_1 3 (some this)) fun ob3 =>
    Option.bind (F_X3_at ob3 x2_1 (3 : Int32) h_1) fun v4 =>
    Option.bind (isO h_1 3 (some this)) fun ob6 =>
    Option.bind (F_X3_sets ob6 x2_1 (3 : Int32) (9999 : Int32) h_1) fun h7 =>
    some (.inl ((x1_1 + (if v4 = (9999 : Int32) then (0 : Int32) else (1 : Int32))), (x2_1 + (1 : Int32)), h7))
  )
def F_X3_delays (this : Nat) (h0 : HH) : Option (Int32 × HH) :=
  Option.bind (lp (fun z => F_X3_delays_B4 this z.1 z.2.1 z.2.2) 100000 ((0 : Int32), (0 : Int32), h0)) fun (v8, h9) =>
  some (v8, h9)
set_option maxHeartbeats 4000000 in
theorem w_X3_delays (l : Launch) (hl : l.stackTraces = false) (D : va_G) (dA : Nat → ClassId) (h0 : HH) (this : Nat) (rE : Int32) (hE : HH) (hF : F_X3_delays this h0 = some (rE, hE)) : MC D dA l yX3_delays cX3_delays 3 (Option.some Jvm.ClassFile.FieldType.int) [] 1 23 [va_rf (some this)] h0 (.inr (some (.int rE)), hE) := by
  refine mc_of hl (plainFor_of_name pn_X3) (by simp [lg_sl, cat_rf, cat_i, cat_j, cat_f, cat_d]) ?_
  intro p e s m args below meth c R hRf hRl X hr hnm
  unfold F_X3_delays at hF
  rw [show argL [va_rf (some this)] = [some (va_rf (some this))] from by simp [argL, cat_rf, cat_i, cat_j, cat_f, cat_d]]
  refine G.pad 2 (L' := [some (va_rf (some this)), none, none]) rfl ?_
  refine g_iconst (v := (0 : Int32)) X dX3_delays_0 (by decide) ?_
  refine g_istore_n (L' := [some (va_rf (some this)), some (.int (0 : Int32)), none]) X dX3_delays_1 rfl (Nat.le_of_ble_eq_true rfl) (by first | rfl | simp [stL, rm1, clr2, cat_rf, cat_i, cat_j, cat_f, cat_d]) ?_
  refine g_iconst (v := (0 : Int32)) X dX3_delays_2 (by decide) ?_
  refine g_istore_n (L' := [some (va_rf (some this)), some (.int (0 : Int32)), some (.int (0 : Int32))]) X dX3_delays_3 rfl (Nat.le_of_ble_eq_true rfl) (by first | rfl | simp [stL, rm1, clr2, cat_rf, cat_i, cat_j, cat_f, cat_d]) ?_
  obtain ⟨⟨v8, h9⟩, e10, hF⟩ := bnd hF
  dsimp only at hF
  refine lp_ind (Gs := (fun z => G p l e R s m args below meth c (RQ D dA h0 (.inr (some (.int rE)), hE) below s) D dA h0 3 z.2.2 4 [some (va_rf (some this)), some (.int z.1), some (.int z.2.1)] [])) (Ge := (fun z => G p l e R s m args below meth c (RQ D dA h0 (.inr (some (.int rE)), hE) below s) D dA h0 3 z.2 44 [none, some (.int z.1), none] [])) ?_ _ _ _ e10 ?_
  · rintro ⟨x1_1, x2_1, h_1⟩ o hF hgo hr
    change F_X3_delays_B4 this x1_1 x2_1 h_1 = some o at hF
    unfold F_X3_delays_B4 at hF
    show G p l e R s m args below meth c (RQ D dA h0 (.inr (some (.int rE)), hE) below s) D dA h0 3 h_1 4 [some (va_rf (some this)), some (.int x1_1), some (.int x2_1)] []
    refine g_iload_n X dX3_delays_4 rfl rfl ?_
    refine g_iconst (v := (3 : Int32)) X dX3_delays_5 (by decide) ?_
    refine g_icmp_ge X 44 dX3_delays_6 (by decide) (fun c2 => ?_) (fun c2 => ?_)
    · have hF := (if_pos c2).symm.trans hF
      refine G.drop [false, true, false] rfl ?_
      cases hF
      exact hr _ rfl
    · have hF := (if_neg c2).symm.trans hF
      refine g_iload_n X dX3_delays_9 rfl rfl ?_
      refine g_aload_n X dX3_delays_10 rfl rfl ?_
      refine g_iload_n X dX3_delays_11 rfl rfl ?_
      refine g_iconst (v := (3 : Int32)) X dX3_delays_12 (by decide) ?_
      obtain ⟨ob3, eob3, hF⟩ := bnd hF
      obtain ⟨v4, ev4, hF⟩ := bnd hF
      refine g_callV X eob3 rfl rfl (w_X3_at l hl D dA h_1 ob3 x2_1 (3 : Int32) v4 ev4) q494 q495 q496 q97 q497 okn_X3_at ⟨by rw [hRf]; exact Nat.le_of_ble_eq_true rfl, by rw [hRl]; exact Nat.le_of_ble_eq_true rfl⟩ (As := [.int x2_1, .int (3 : Int32)]) (rest := [.int x1_1]) rfl (by first | exact Nat.le_of_ble_eq_true rfl | simp [cat_rf, cat_i, cat_j, cat_f, cat_d]) dX3_delays_13 (ac_v ?_)
      refine g_sipush (v := (9999 : Int32)) X dX3_delays_16 (by decide) ?_
      suffices K : G p l e R s m args below meth c (RQ D dA h0 (.inr (some (.int rE)), hE) below s) D dA h0 3 h_1 27 [some (va_rf (some this)), none, some (.int x2_1)] [.int (if v4 = (9999 : Int32) then (0 : Int32) else (1 : Int32)), .int x1_1] by
        refine g_icmp_ne X 26 dX3_delays_19 (by decide) (fun c5 => ?_) (fun c5 => ?_)
        · (try simp only [if_neg c5] at K)
          refine g_iconst (v := (1 : Int32)) X dX3_delays_26 (by decide) ?_
          refine G.drop [true, false, true] rfl ?_
          first | exact K | (simp only [if_neg c5]; exact K)
        · (try simp only [if_pos c5] at K)
          refine g_iconst (v := (0 : Int32)) X dX3_delays_22 (by decide) ?_
          refine g_goto X 27 dX3_delays_23 (by decide) ?_
          refine G.drop [true, false, true] rfl ?_
          first | exact K | (simp only [if_pos c5]; exact K)
      refine g_iadd X dX3_delays_27 ?_
      refine g_istore_n (L' := [some (va_rf (some this)), some (.int (x1_1 + (if v4 = (9999 : Int32) then (0 : Int32) else (1 : Int32)))), some (.int x2_1)]) X dX3_delays_28 rfl (Nat.le_of_ble_eq_true rfl) (by first | rfl | simp [stL, rm1, clr2, cat_rf, cat_i, cat_j, cat_f, cat_d]) ?_
      refine g_aload_n X dX3_delays_29 rfl rfl ?_
      refine g_iload_n X dX3_delays_30 rfl rfl ?_
      refine g_iconst (v := (3 : Int32)) X dX3_delays_31 (by decide) ?_
      refine g_sipush (v := (9999 : Int32)) X dX3_delays_32 (by decide) ?_
      obtain ⟨ob6, eob6, hF⟩ := bnd hF
      obtain ⟨h7, eh7, hF⟩ := bnd hF
      refine g_callV X eob6 rfl rfl (w_X3_sets l hl D dA h_1 ob6 x2_1 (3 : Int32) (9999 : Int32) h7 eh7) q499 q500 q501 q97 q502 okn_X3_sets ⟨by rw [hRf]; exact Nat.le_of_ble_eq_true rfl, by rw [hRl]; exact Nat.le_of_ble_eq_true rfl⟩ (As := [.int x2_1, .int (3 : Int32), .int (9999 : Int32)]) (rest := []) rfl (by first | exact Nat.le_of_ble_eq_true rfl | simp [cat_rf, cat_i, cat_j, cat_f, cat_d]) dX3_delays_35 (ac_0 ?_)
      refine g_iinc (v := (x2_1 + (1 : Int32))) (L' := [some (va_rf (some this)), some (.int (x1_1 + (if v4 = (9999 : Int32) then (0 : Int32) else (1 : Int32)))), some (.int (x2_1 + (1 : Int32)))]) X dX3_delays_38 (Nat.le_of_ble_eq_true rfl) rfl rfl (by first | rfl | simp [stL, rm1, clr2, cat_rf, cat_i, cat_j, cat_f, cat_d]) ?_
      refine g_goto X 4 dX3_delays_41 (by decide) ?_
      cases hF
      exact hgo _ rfl
  show G p l e R s m args below meth c (RQ D dA h0 (.inr (some (.int rE)), hE) below s) D dA h0 3 h9 44 [none, some (.int v8), none] []
  refine g_iload_n X dX3_delays_44 rfl rfl ?_
  cases hF
  exact g_iret X hr dX3_delays_45
def F_X3_goesBack_B11 (this : Nat) (x1_1 : Int32) (x2_3 : Int32) (x3_3 : Int32) (h_1 : HH) : Option ((Int32 × Int32) ⊕ Int32) :=
  if (3 : Int32) ≤ x3_3 then (
    some (.inr x2_3)
  ) else (
    Option.bind (isO h_1 3 (some this)) fun ob5 =>
    Option.bind (F_X3_at ob5 x3_3 x1_1 h_1) fun v6 =>
    some (.inl ((F_J11_min x2_3 v6), (x3_3 + (1 : Int32))))
  )
def F_X3_goesBack_B2 (this : Nat) (x1_1 : Int32) (h_1 : HH) : Option ((Int32 × HH) ⊕ HH) :=
  if (3 : Int32) ≤ x1_1 then (
    some (.inr h_1)
  ) else (
    Option.bind (lp (fun z => F_X3_goesBack_B11 this x1_1 z.1 z.2 h_1) 100000 ((0 : Int32), (0 : Int32))) fun v7 =>
    Option.bind (isO h_1 3 (some this)) fun ob8 =>
    Option.bind (F_X3_sets ob8 (3 : Int32) x1_1 v7 h_1) fun h9 =>
    some (.inl ((x1_1 + (1 : Int32)), h9))
  )
def F_X3_goesBack (this : Nat) (h0 : HH) : Option HH :=
  Option.bind (lp (fun z => F_X3_goesBack_B2 this z.1 z.2) 100000 ((0 : Int32), h0)) fun h12 =>
  some h12
set_option maxHeartbeats 4000000 in
theorem w_X3_goesBack (l : Launch) (hl : l.stackTraces = false) (D : va_G) (dA : Nat → ClassId) (h0 : HH) (this : Nat) (hE : HH) (hF : F_X3_goesBack this h0 = some hE) : MC D dA l yX3_goesBack cX3_goesBack 4 (Option.none : Option Jvm.ClassFile.FieldType) [] 1 23 [va_rf (some this)] h0 (.inr none, hE) := by
  refine mc_of hl (plainFor_of_name pn_X3) (by simp [lg_sl, cat_rf, cat_i, cat_j, cat_f, cat_d]) ?_
  intro p e s m args below meth c R hRf hRl X hr hnm
  unfold F_X3_goesBack at hF
  rw [show argL [va_rf (some this)] = [some (va_rf (some this))] from by simp [argL, cat_rf, cat_i, cat_j, cat_f, cat_d]]
  refine G.pad 3 (L' := [some (va_rf (some this)), none, none, none]) rfl ?_
  refine g_iconst (v := (0 : Int32)) X dX3_goesBack_0 (by decide) ?_
  refine g_istore_n (L' := [some (va_rf (some this)), some (.int (0 : Int32)), none, none]) X dX3_goesBack_1 rfl (Nat.le_of_ble_eq_true rfl) (by first | rfl | simp [stL, rm1, clr2, cat_rf, cat_i, cat_j, cat_f, cat_d]) ?_
  obtain ⟨h12, e13, hF⟩ := bnd hF
  refine lp_ind (Gs := (fun z => G p l e R s m args below meth c (RQ D dA h0 (.inr none, hE) below s) D dA h0 4 z.2 2 [some (va_rf (some this)), some (.int z.1), none, none] [])) (Ge := (fun z => G p l e R s m args below meth c (RQ D dA h0 (.inr none, hE) below s) D dA h0 4 z 46 [none, none, none, none] [])) ?_ _ _ _ e13 ?_
  · rintro ⟨x1_1, h_1⟩ o hF hgo hr
    change F_X3_goesBack_B2 this x1_1 h_1 = some o at hF
    unfold F_X3_goesBack_B2 at hF
    show G p l e R s m args below meth c (RQ D dA h0 (.inr none, hE) below s) D dA h0 4 h_1 2 [some (va_rf (some this)), some (.int x1_1), none, none] []
    refine g_iload_n X dX3_goesBack_2 rfl rfl ?_
    refine g_iconst (v := (3 : Int32)) X dX3_goesBack_3 (by decide) ?_
    refine g_icmp_ge X 46 dX3_goesBack_4 (by decide) (fun c2 => ?_) (fun c2 => ?_)
    · have hF := (if_pos c2).symm.trans hF
      refine G.drop [false, false, false, false] rfl ?_
      cases hF
      exact hr _ rfl
    · have hF := (if_neg c2).symm.trans hF
      refine g_iconst (v := (0 : Int32)) X dX3_goesBack_7 (by decide) ?_
      refine g_istore_n (L' := [some (va_rf (some this)), some (.int x1_1), some (.int (0 : Int32)), none]) X dX3_goesBack_8 rfl (Nat.le_of_ble_eq_true rfl) (by first | rfl | simp [stL, rm1, clr2, cat_rf, cat_i, cat_j, cat_f, cat_d]) ?_
      refine g_iconst (v := (0 : Int32)) X dX3_goesBack_9 (by decide) ?_
      refine g_istore_n (L' := [some (va_rf (some this)), some (.int x1_1), some (.int (0 : Int32)), some (.int (0 : Int32))]) X dX3_goesBack_10 rfl (Nat.le_of_ble_eq_true rfl) (by first | rfl | simp [stL, rm1, clr2, cat_rf, cat_i, cat_j, cat_f, cat_d]) ?_
      obtain ⟨v7, e10, hF⟩ := bnd hF
      refine lp_ind (Gs := (fun z => G p l e R s m args below meth c (RQ D dA h0 (.inr none, hE) below s) D dA h0 4 h_1 11 [some (va_rf (some this)), some (.int x1_1), some (.int z.1), some (.int z.2)] [])) (Ge := (fun z => G p l e R s m args below meth c (RQ D dA h0 (.inr none, hE) below s) D dA h0 4 h_1 33 [some (va_rf (some this)), some (.int x1_1), some (.int z), none] [])) ?_ _ _ _ e10 ?_
      · rintro ⟨x2_3, x3_3⟩ o hF hgo hr
        change F_X3_goesBack_B11 this x1_1 x2_3 x3_3 h_1 = some o at hF
        unfold F_X3_goesBack_B11 at hF
        show G p l e R s m args below meth c (RQ D dA h0 (.inr none, hE) below s) D dA h0 4 h_1 11 [some (va_rf (some this)), some (.int x1_1), some (.int x2_3), some (.int x3_3)] []
        refine g_iload_n X dX3_goesBack_11 rfl rfl ?_
        refine g_iconst (v := (3 : Int32)) X dX3_goesBack_12 (by decide) ?_
        refine g_icmp_ge X 33 dX3_goesBack_13 (by decide) (fun c4 => ?_) (fun c4 => ?_)
        · have hF := (if_pos c4).symm.trans hF
          refine G.drop [true, true, true, false] rfl ?_
          cases hF
          exact hr _ rfl
        · have hF := (if_neg c4).symm.trans hF
          refine g_iload_n X dX3_goesBack_16 rfl rfl ?_
          refine g_aload_n X dX3_goesBack_17 rfl rfl ?_
          refine g_iload_n X dX3_goesBack_18 rfl rfl ?_
          refine g_iload_n X dX3_goesBack_19 rfl rfl ?_
          obtain ⟨ob5, eob5, hF⟩ := bnd hF
          obtain ⟨v6, ev6, hF⟩ := bnd hF
          refine g_callV X eob5 rfl rfl (w_X3_at l hl D dA h_1 ob5 x3_3 x1_1 v6 ev6) q494 q495 q496 q97 q497 okn_X3_at ⟨by rw [hRf]; exact Nat.le_of_ble_eq_true rfl, by rw [hRl]; exact Nat.le_of_ble_eq_true rfl⟩ (As := [.int x3_3, .int x1_1]) (rest := [.int x2_3]) rfl (by first | exact Nat.le_of_ble_eq_true rfl | simp [cat_rf, cat_i, cat_j, cat_f, cat_d]) dX3_goesBack_20 (ac_v ?_)
          refine g_callS X (w_J11_min l hl D dA h_1 x2_3 v6) q498 q391 q108 q392 okn_J11_min ⟨by rw [hRf]; exact Nat.le_of_ble_eq_true rfl, by rw [hRl]; exact Nat.le_of_ble_eq_true rfl⟩ (As := [.int x2_3, .int v6]) (rest := []) rfl (by first | exact Nat.le_of_ble_eq_true rfl | simp [cat_rf, cat_i, cat_j, cat_f, cat_d]) dX3_goesBack_23 (ac_v ?_)
          refine g_istore_n (L' := [some (va_rf (some this)), some (.int x1_1), some (.int (F_J11_min x2_3 v6)), some (.int x3_3)]) X dX3_goesBack_26 rfl (Nat.le_of_ble_eq_true rfl) (by first | rfl | simp [stL, rm1, clr2, cat_rf, cat_i, cat_j, cat_f, cat_d]) ?_
          refine g_iinc (v := (x3_3 + (1 : Int32))) (L' := [some (va_rf (some this)), some (.int x1_1), some (.int (F_J11_min x2_3 v6)), some (.int (x3_3 + (1 : Int32)))]) X dX3_goesBack_27 (Nat.le_of_ble_eq_true rfl) rfl rfl (by first | rfl | simp [stL, rm1, clr2, cat_rf, cat_i, cat_j, cat_f, cat_d]) ?_
          refine g_goto X 11 dX3_goesBack_30 (by decide) ?_
          cases hF
          exact hgo _ rfl
      show G p l e R s m args below meth c (RQ D dA h0 (.inr none, hE) below s) D dA h0 4 h_1 33 [some (va_rf (some this)), some (.int x1_1), some (.int v7), none] []
      refine g_aload_n X dX3_goesBack_33 rfl rfl ?_
      refine g_iconst (v := (3 : Int32)) X dX3_goesBack_34 (by decide) ?_
      refine g_iload_n X dX3_goesBack_35 rfl rfl ?_
      refine g_iload_n X dX3_goesBack_36 rfl rfl ?_
      obtain ⟨ob8, eob8, hF⟩ := bnd hF
      obtain ⟨h9, eh9, hF⟩ := bnd hF
      refine g_callV X eob8 rfl rfl (w_X3_sets l hl D dA h_1 ob8 (3 : Int32) x1_1 v7 h9 eh9) q499 q500 q501 q97 q502 okn_X3_sets ⟨by rw [hRf]; exact Nat.le_of_ble_eq_true rfl, by rw [hRl]; exact Nat.le_of_ble_eq_true rfl⟩ (As := [.int (3 : Int32), .int x1_1, .int v7]) (rest := []) rfl (by first | exact Nat.le_of_ble_eq_true rfl | simp [cat_rf, cat_i, cat_j, cat_f, cat_d]) dX3_goesBack_37 (ac_0 ?_)
      refine g_iinc (v := (x1_1 + (1 : Int32))) (L' := [some (va_rf (some this)), some (.int (x1_1 + (1 : Int32))), some (.int v7), none]) X dX3_goesBack_40 (Nat.le_of_ble_eq_true rfl) rfl rfl (by first | rfl | simp [stL, rm1, clr2, cat_rf, cat_i, cat_j, cat_f, cat_d]) ?_
      refine g_goto X 2 dX3_goesBack_43 (by decide) ?_
      refine G.drop [true, true, false, false] rfl ?_
      cases hF
      exact hgo _ rfl
  show G p l e R s m args below meth c (RQ D dA h0 (.inr none, hE) below s) D dA h0 4 h12 46 [none, none, none, none] []
  cases hF
  exact g_vret X hr dX3_goesBack_46
def F_X3_frees_B2 (this : Nat) (a1 : Int32) (x2_1 : Int32) (h_1 : HH) : Option ((Int32 × HH) ⊕ HH) :=
  if (4 : Int32) ≤ x2_1 then (
    some (.inr h_1)
  ) else (
    if x2_1 = a1 then (
      some (.inl ((x2_1 + (1 : Int32)), h_1))
    ) else (
      Option.bind (isO h_1 3 (some this)) fun ob4 =>
      Option.bind (F_X3_sets ob4 a1 x2_1 (9999 : Int32) h_1) fun h5 =>
      Option.bind (isO h5 3 (some this)) fun ob6 =>
      Option.bind (F_X3_at ob6 x2_1 (3 : Int32) h5) fun v7 =>
      Option.bind (isO h5 3 (some this)) fun ob8 =>
      Option.bind (F_X3_sets ob8 x2_1 a1 v7 h5) fun h9 =>
      some (.inl ((x2_1 + (1 : Int32)), h9))
    )
  )
def F_X3_frees (this : Nat) (a1 : Int32) (h0 : HH) : Option HH :=
  Option.bind (lp (fun z => F_X3_frees_B2 this a1 z.1 z.2) 100000 ((0 : Int32), h0)) fun h10 =>
  some h10
set_option maxHeartbeats 4000000 in
theorem w_X3_frees (l : Launch) (hl : l.stackTraces = false) (D : va_G) (dA : Nat → ClassId) (h0 : HH) (this : Nat) (a1 : Int32) (hE : HH) (hF : F_X3_frees this a1 h0 = some hE) : MC D dA l yX3_frees cX3_frees 3 (Option.none : Option Jvm.ClassFile.FieldType) [] 1 23 [va_rf (some this), .int a1] h0 (.inr none, hE) := by
  refine mc_of hl (plainFor_of_name pn_X3) (by simp [lg_sl, cat_rf, cat_i, cat_j, cat_f, cat_d]) ?_
  intro p e s m args below meth c R hRf hRl X hr hnm
  unfold F_X3_frees at hF
  rw [show argL [va_rf (some this), .int a1] = [some (va_rf (some this)), some (.int a1)] from by simp [argL, cat_rf, cat_i, cat_j, cat_f, cat_d]]
  refine G.pad 1 (L' := [some (va_rf (some this)), some (.int a1), none]) rfl ?_
  refine g_iconst (v := (0 : Int32)) X dX3_frees_0 (by decide) ?_
  refine g_istore_n (L' := [some (va_rf (some this)), some (.int a1), some (.int (0 : Int32))]) X dX3_frees_1 rfl (Nat.le_of_ble_eq_true rfl) (by first | rfl | simp [stL, rm1, clr2, cat_rf, cat_i, cat_j, cat_f, cat_d]) ?_
  obtain ⟨h10, e11, hF⟩ := bnd hF
  refine lp_ind (Gs := (fun z => G p l e R s m args below meth c (RQ D dA h0 (.inr none, hE) below s) D dA h0 3 z.2 2 [some (va_rf (some this)), some (.int a1), some (.int z.1)] [])) (Ge := (fun z => G p l e R s m args below meth c (RQ D dA h0 (.inr none, hE) below s) D dA h0 3 z 39 [none, none, none] [])) ?_ _ _ _ e11 ?_
  · rintro ⟨x2_1, h_1⟩ o hF hgo hr
    change F_X3_frees_B2 this a1 x2_1 h_1 = some o at hF
    unfold F_X3_frees_B2 at hF
    show G p l e R s m args below meth c (RQ D dA h0 (.inr none, hE) below s) D dA h0 3 h_1 2 [some (va_rf (some this)), some (.int a1), some (.int x2_1)] []
    refine g_iload_n X dX3_frees_2 rfl rfl ?_
    refine g_iconst (v := (4 : Int32)) X dX3_frees_3 (by decide) ?_
    refine g_icmp_ge X 39 dX3_frees_4 (by decide) (fun c2 => ?_) (fun c2 => ?_)
    · have hF := (if_pos c2).symm.trans hF
      refine G.drop [false, false, false] rfl ?_
      cases hF
      exact hr _ rfl
    · have hF := (if_neg c2).symm.trans hF
      refine g_iload_n X dX3_frees_7 rfl rfl ?_
      refine g_iload_n X dX3_frees_8 rfl rfl ?_
      refine g_icmp_eq X 33 dX3_frees_9 (by decide) (fun c3 => ?_) (fun c3 => ?_)
      · have hF := (if_pos c3).symm.trans hF
        refine g_iinc (v := (x2_1 + (1 : Int32))) (L' := [some (va_rf (some this)), some (.int a1), some (.int (x2_1 + (1 : Int32)))]) X dX3_frees_33 (Nat.le_of_ble_eq_true rfl) rfl rfl (by first | rfl | simp [stL, rm1, clr2, cat_rf, cat_i, cat_j, cat_f, cat_d]) ?_
        refine g_goto X 2 dX3_frees_36 (by decide) ?_
        cases hF
        exact hgo _ rfl
      · have hF := (if_neg c3).symm.trans hF
        refine g_aload_n X dX3_frees_12 rfl rfl ?_
        refine g_iload_n X dX3_frees_13 rfl rfl ?_
        refine g_iload_n X dX3_frees_14 rfl rfl ?_
        refine g_sipush (v := (9999 : Int32)) X dX3_frees_15 (by decide) ?_
        obtain ⟨ob4, eob4, hF⟩ := bnd hF
        obtain ⟨h5, eh5, hF⟩ := bnd hF
        refine g_callV X eob4 rfl rfl (w_X3_sets l hl D dA h_1 ob4 a1 x2_1 (9999 : Int32) h5 eh5) q499 q500 q501 q97 q502 okn_X3_sets ⟨by rw [hRf]; exact Nat.le_of_ble_eq_true rfl, by rw [hRl]; exact Nat.le_of_ble_eq_true rfl⟩ (As := [.int a1, .int x2_1, .int (9999 : Int32)]) (rest := []) rfl (by first | exact Nat.le_of_ble_eq_true rfl | simp [cat_rf, cat_i, cat_j, cat_f, cat_d]) dX3_frees_18 (ac_0 ?_)
        refine g_aload_n X dX3_frees_21 rfl rfl ?_
        refine g_iload_n X dX3_frees_22 rfl rfl ?_
        refine g_iload_n X dX3_frees_23 rfl rfl ?_
        refine g_aload_n X dX3_frees_24 rfl rfl ?_
        refine g_iload_n X dX3_frees_25 rfl rfl ?_
        refine g_iconst (v := (3 : Int32)) X dX3_frees_26 (by decide) ?_
        obtain ⟨ob6, eob6, hF⟩ := bnd hF
        obtain ⟨v7, ev7, hF⟩ := bnd hF
        refine g_callV X eob6 rfl rfl (w_X3_at l hl D dA h5 ob6 x2_1 (3 : Int32) v7 ev7) q494 q495 q496 q97 q497 okn_X3_at ⟨by rw [hRf]; exact Nat.le_of_ble_eq_true rfl, by rw [hRl]; exact Nat.le_of_ble_eq_true rfl⟩ (As := [.int x2_1, .int (3 : Int32)]) (rest := [.int a1, .int x2_1, va_rf (some this)]) rfl (by first | exact Nat.le_of_ble_eq_true rfl | simp [cat_rf, cat_i, cat_j, cat_f, cat_d]) dX3_frees_27 (ac_v ?_)
        obtain ⟨ob8, eob8, hF⟩ := bnd hF
        obtain ⟨h9, eh9, hF⟩ := bnd hF
        refine g_callV X eob8 rfl rfl (w_X3_sets l hl D dA h5 ob8 x2_1 a1 v7 h9 eh9) q499 q500 q501 q97 q502 okn_X3_sets ⟨by rw [hRf]; exact Nat.le_of_ble_eq_true rfl, by rw [hRl]; exact Nat.le_of_ble_eq_true rfl⟩ (As := [.int x2_1, .int a1, .int v7]) (rest := []) rfl (by first | exact Nat.le_of_ble_eq_true rfl | simp [cat_rf, cat_i, cat_j, cat_f, cat_d]) dX3_frees_30 (ac_0 ?_)
        refine g_iinc (v := (x2_1 + (1 : Int32))) (L' := [some (va_rf (some this)), some (.int a1), some (.int (x2_1 + (1 : Int32)))]) X dX3_frees_33 (Nat.le_of_ble_eq_true rfl) rfl rfl (by first | rfl | simp [stL, rm1, clr2, cat_rf, cat_i, cat_j, cat_f, cat_d]) ?_
        refine g_goto X 2 dX3_frees_36 (by decide) ?_
        cases hF
        exact hgo _ rfl
  show G p l e R s m args below meth c (RQ D dA h0 (.inr none, hE) below s) D dA h0 3 h10 39 [none, none, none] []
  cases hF
  exact g_vret X hr dX3_frees_39
def F_X3_copies_B2 (this : Nat) (a1 : Int32) (a2 : Int32) (x3_1 : Int32) (h_1 : HH) : Option ((Int32 × HH) ⊕ HH) :=
  if (4 : Int32) ≤ x3_1 then (
    some (.inr h_1)
  ) else (
    if x3_1 = a1 then (
      some (.inl ((x3_1 + (1 : Int32)), h_1))
    ) else (
      Option.bind (isO h_1 3 (some this)) fun ob4 =>
      Option.bind (F_X3_at ob4 a2 x3_1 h_1) fun v5 =>
      Option.bind (isO h_1 3 (some this)) fun ob6 =>
      Option.bind (F_X3_sets ob6 a1 x3_1 v5 h_1) fun h7 =>
      Option.bind (isO h7 3 (some this)) fun ob8 =>
      Option.bind (F_X3_at ob8 x3_1 a2 h7) fun v9 =>
      Option.bind (isO h7 3 (some this)) fun ob10 =>
      Option.bind (F_X3_sets ob10 x3_1 a1 v9 h7) fun h11 =>
      some (.inl ((x3_1 + (1 : Int32)), h11))
    )
  )
def F_X3_copies (this : Nat) (a1 : Int32) (a2 : Int32) (h0 : HH) : Option HH :=
  Option.bind (lp (fun z => F_X3_copies_B2 this a1 a2 z.1 z.2) 100000 ((0 : Int32), h0)) fun h12 =>
  Option.bind (isO h12 3 (some this)) fun ob13 =>
  Option.bind (F_X3_sets ob13 a1 a2 (0 : Int32) h12) fun h14 =>
  Option.bind (isO h14 3 (some this)) fun ob15 =>
  Option.bind (F_X3_sets ob15 a2 a1 (0 : Int32) h14) fun h16 =>
  some h16
set_option maxHeartbeats 4000000 in
theorem w_X3_copies (l : Launch) (hl : l.stackTraces = false) (D : va_G) (dA : Nat → ClassId) (h0 : HH) (this : Nat) (a1 : Int32) (a2 : Int32) (hE : HH) (hF : F_X3_copies this a1 a2 h0 = some hE) : MC D dA l yX3_copies cX3_copies 4 (Option.none : Option Jvm.ClassFile.FieldType) [] 1 23 [va_rf (some this), .int a1, .int a2] h0 (.inr none, hE) := by
  refine mc_of hl (plainFor_of_name pn_X3) (by simp [lg_sl, cat_rf, cat_i, cat_j, cat_f, cat_d]) ?_
  intro p e s m args below meth c R hRf hRl X hr hnm
  unfold F_X3_copies at hF
  rw [show argL [va_rf (some this), .int a1, .int a2] = [some (va_rf (some this)), some (.int a1), some (.int a2)] from by simp [argL, cat_rf, cat_i, cat_j, cat_f, cat_d]]
  refine G.pad 1 (L' := [some (va_rf (some this)), some (.int a1), some (.int a2), none]) rfl ?_
  refine g_iconst (v := (0 : Int32)) X dX3_copies_0 (by decide) ?_
  refine g_istore_n (L' := [some (va_rf (some this)), some (.int a1), some (.int a2), some (.int (0 : Int32))]) X dX3_copies_1 rfl (Nat.le_of_ble_eq_true rfl) (by first | rfl | simp [stL, rm1, clr2, cat_rf, cat_i, cat_j, cat_f, cat_d]) ?_
  obtain ⟨h12, e17, hF⟩ := bnd hF
  refine lp_ind (Gs := (fun z => G p l e R s m args below meth c (RQ D dA h0 (.inr none, hE) below s) D dA h0 4 z.2 2 [some (va_rf (some this)), some (.int a1), some (.int a2), some (.int z.1)] [])) (Ge := (fun z => G p l e R s m args below meth c (RQ D dA h0 (.inr none, hE) below s) D dA h0 4 z 42 [some (va_rf (some this)), some (.int a1), some (.int a2), none] [])) ?_ _ _ _ e17 ?_
  · rintro ⟨x3_1, h_1⟩ o hF hgo hr
    change F_X3_copies_B2 this a1 a2 x3_1 h_1 = some o at hF
    unfold F_X3_copies_B2 at hF
    show G p l e R s m args below meth c (RQ D dA h0 (.inr none, hE) below s) D dA h0 4 h_1 2 [some (va_rf (some this)), some (.int a1), some (.int a2), some (.int x3_1)] []
    refine g_iload_n X dX3_copies_2 rfl rfl ?_
    refine g_iconst (v := (4 : Int32)) X dX3_copies_3 (by decide) ?_
    refine g_icmp_ge X 42 dX3_copies_4 (by decide) (fun c2 => ?_) (fun c2 => ?_)
    · have hF := (if_pos c2).symm.trans hF
      refine G.drop [true, true, true, false] rfl ?_
      cases hF
      exact hr _ rfl
    · have hF := (if_neg c2).symm.trans hF
      refine g_iload_n X dX3_copies_7 rfl rfl ?_
      refine g_iload_n X dX3_copies_8 rfl rfl ?_
      refine g_icmp_eq X 36 dX3_copies_9 (by decide) (fun c3 => ?_) (fun c3 => ?_)
      · have hF := (if_pos c3).symm.trans hF
        refine g_iinc (v := (x3_1 + (1 : Int32))) (L' := [some (va_rf (some this)), some (.int a1), some (.int a2), some (.int (x3_1 + (1 : Int32)))]) X dX3_copies_36 (Nat.le_of_ble_eq_true rfl) rfl rfl (by first | rfl | simp [stL, rm1, clr2, cat_rf, cat_i, cat_j, cat_f, cat_d]) ?_
        refine g_goto X 2 dX3_copies_39 (by decide) ?_
        cases hF
        exact hgo _ rfl
      · have hF := (if_neg c3).symm.trans hF
        refine g_aload_n X dX3_copies_12 rfl rfl ?_
        refine g_iload_n X dX3_copies_13 rfl rfl ?_
        refine g_iload_n X dX3_copies_14 rfl rfl ?_
        refine g_aload_n X dX3_copies_15 rfl rfl ?_
        refine g_iload_n X dX3_copies_16 rfl rfl ?_
        refine g_iload_n X dX3_copies_17 rfl rfl ?_
        obtain ⟨ob4, eob4, hF⟩ := bnd hF
        obtain ⟨v5, ev5, hF⟩ := bnd hF
        refine g_callV X eob4 rfl rfl (w_X3_at l hl D dA h_1 ob4 a2 x3_1 v5 ev5) q494 q495 q496 q97 q497 okn_X3_at ⟨by rw [hRf]; exact Nat.le_of_ble_eq_true rfl, by rw [hRl]; exact Nat.le_of_ble_eq_true rfl⟩ (As := [.int a2, .int x3_1]) (rest := [.int x3_1, .int a1, va_rf (some this)]) rfl (by first | exact Nat.le_of_ble_eq_true rfl | simp [cat_rf, cat_i, cat_j, cat_f, cat_d]) dX3_copies_18 (ac_v ?_)
        obtain ⟨ob6, eob6, hF⟩ := bnd hF
        obtain ⟨h7, eh7, hF⟩ := bnd hF
        refine g_callV X eob6 rfl rfl (w_X3_sets l hl D dA h_1 ob6 a1 x3_1 v5 h7 eh7) q499 q500 q501 q97 q502 okn_X3_sets ⟨by rw [hRf]; exact Nat.le_of_ble_eq_true rfl, by rw [hRl]; exact Nat.le_of_ble_eq_true rfl⟩ (As := [.int a1, .int x3_1, .int v5]) (rest := []) rfl (by first | exact Nat.le_of_ble_eq_true rfl | simp [cat_rf, cat_i, cat_j, cat_f, cat_d]) dX3_copies_21 (ac_0 ?_)
        refine g_aload_n X dX3_copies_24 rfl rfl ?_
        refine g_iload_n X dX3_copies_25 rfl rfl ?_
        refine g_iload_n X dX3_copies_26 rfl rfl ?_
        refine g_aload_n X dX3_copies_27 rfl rfl ?_
        refine g_iload_n X dX3_copies_28 rfl rfl ?_
        refine g_iload_n X dX3_copies_29 rfl rfl ?_
        obtain ⟨ob8, eob8, hF⟩ := bnd hF
        obtain ⟨v9, ev9, hF⟩ := bnd hF
        refine g_callV X eob8 rfl rfl (w_X3_at l hl D dA h7 ob8 x3_1 a2 v9 ev9) q494 q495 q496 q97 q497 okn_X3_at ⟨by rw [hRf]; exact Nat.le_of_ble_eq_true rfl, by rw [hRl]; exact Nat.le_of_ble_eq_true rfl⟩ (As := [.int x3_1, .int a2]) (rest := [.int a1, .int x3_1, va_rf (some this)]) rfl (by first | exact Nat.le_of_ble_eq_true rfl | simp [cat_rf, cat_i, cat_j, cat_f, cat_d]) dX3_copies_30 (ac_v ?_)
        obtain ⟨ob10, eob10, hF⟩ := bnd hF
        obtain ⟨h11, eh11, hF⟩ := bnd hF
        refine g_callV X eob10 rfl rfl (w_X3_sets l hl D dA h7 ob10 x3_1 a1 v9 h11 eh11) q499 q500 q501 q97 q502 okn_X3_sets ⟨by rw [hRf]; exact Nat.le_of_ble_eq_true rfl, by rw [hRl]; exact Nat.le_of_ble_eq_true rfl⟩ (As := [.int x3_1, .int a1, .int v9]) (rest := []) rfl (by first | exact Nat.le_of_ble_eq_true rfl | simp [cat_rf, cat_i, cat_j, cat_f, cat_d]) dX3_copies_33 (ac_0 ?_)
        refine g_iinc (v := (x3_1 + (1 : Int32))) (L' := [some (va_rf (some this)), some (.int a1), some (.int a2), some (.int (x3_1 + (1 : Int32)))]) X dX3_copies_36 (Nat.le_of_ble_eq_true rfl) rfl rfl (by first | rfl | simp [stL, rm1, clr2, cat_rf, cat_i, cat_j, cat_f, cat_d]) ?_
        refine g_goto X 2 dX3_copies_39 (by decide) ?_
        cases hF
        exact hgo _ rfl
  show G p l e R s m args below meth c (RQ D dA h0 (.inr none, hE) below s) D dA h0 4 h12 42 [some (va_rf (some this)), some (.int a1), some (.int a2), none] []
  refine g_aload_n X dX3_copies_42 rfl rfl ?_
  refine g_iload_n X dX3_copies_43 rfl rfl ?_
  refine g_iload_n X dX3_copies_44 rfl rfl ?_
  refine g_iconst (v := (0 : Int32)) X dX3_copies_45 (by decide) ?_
  obtain ⟨ob13, eob13, hF⟩ := bnd hF
  obtain ⟨h14, eh14, hF⟩ := bnd hF
  refine g_callV X eob13 rfl rfl (w_X3_sets l hl D dA h12 ob13 a1 a2 (0 : Int32) h14 eh14) q499 q500 q501 q97 q502 okn_X3_sets ⟨by rw [hRf]; exact Nat.le_of_ble_eq_true rfl, by rw [hRl]; exact Nat.le_of_ble_eq_true rfl⟩ (As := [.int a1, .int a2, .int (0 : Int32)]) (rest := []) rfl (by first | exact Nat.le_of_ble_eq_true rfl | simp [cat_rf, cat_i, cat_j, cat_f, cat_d]) dX3_copies_46 (ac_0 ?_)
  refine g_aload_n X dX3_copies_49 rfl rfl ?_
  refine g_iload_n X dX3_copies_50 rfl rfl ?_
  refine g_iload_n X dX3_copies_51 rfl rfl ?_
  refine g_iconst (v := (0 : Int32)) X dX3_copies_52 (by decide) ?_
  obtain ⟨ob15, eob15, hF⟩ := bnd hF
  obtain ⟨h16, eh16, hF⟩ := bnd hF
  refine g_callV X eob15 rfl rfl (w_X3_sets l hl D dA h14 ob15 a2 a1 (0 : Int32) h16 eh16) q499 q500 q501 q97 q502 okn_X3_sets ⟨by rw [hRf]; exact Nat.le_of_ble_eq_true rfl, by rw [hRl]; exact Nat.le_of_ble_eq_true rfl⟩ (As := [.int a2, .int a1, .int (0 : Int32)]) (rest := []) rfl (by first | exact Nat.le_of_ble_eq_true rfl | simp [cat_rf, cat_i, cat_j, cat_f, cat_d]) dX3_copies_53 (ac_0 ?_)
  cases hF
  exact g_vret X hr dX3_copies_56
def F_X3_shifts_B2 (this : Nat) (a1 : Int32) (a2 : Int32) (x3_1 : Int32) (h_1 : HH) : Option ((Int32 × HH) ⊕ HH) :=
  if (4 : Int32) ≤ x3_1 then (
    some (.inr h_1)
  ) else (
    if x3_1 = a1 then (
      some (.inl ((x3_1 + (1 : Int32)), h_1))
    ) else (
      Option.bind (isO h_1 3 (some this)) fun ob4 =>
      Option.bind (F_X3_at ob4 a1 x3_1 h_1) fun v5 =>
      Option.bind (isO h_1 3 (some this)) fun ob6 =>
      Option.bind (F_X3_sets ob6 a1 x3_1 (F_X3_sum v5 a2) h_1) fun h7 =>
      Option.bind (isO h7 3 (some this)) fun ob8 =>
      Option.bind (F_X3_at ob8 x3_1 a1 h7) fun v9 =>
      Option.bind (isO h7 3 (some this)) fun ob10 =>
      Option.bind (F_X3_sets ob10 x3_1 a1 (F_X3_sum v9 (-a2)) h7) fun h11 =>
      some (.inl ((x3_1 + (1 : Int32)), h11))
    )
  )
def F_X3_shifts (this : Nat) (a1 : Int32) (a2 : Int32) (h0 : HH) : Option HH :=
  Option.bind (lp (fun z => F_X3_shifts_B2 this a1 a2 z.1 z.2) 100000 ((0 : Int32), h0)) fun h12 =>
  some h12
set_option maxHeartbeats 4000000 in
theorem w_X3_shifts (l : Launch) (hl : l.stackTraces = false) (D : va_G) (dA : Nat → ClassId) (h0 : HH) (this : Nat) (a1 : Int32) (a2 : Int32) (hE : HH) (hF : F_X3_shifts this a1 a2 h0 = some hE) : MC D dA l yX3_shifts cX3_shifts 4 (Option.none : Option Jvm.ClassFile.FieldType) [] 1 23 [va_rf (some this), .int a1, .int a2] h0 (.inr none, hE) := by
  refine mc_of hl (plainFor_of_name pn_X3) (by simp [lg_sl, cat_rf, cat_i, cat_j, cat_f, cat_d]) ?_
  intro p e s m args below meth c R hRf hRl X hr hnm
  unfold F_X3_shifts at hF
  rw [show argL [va_rf (some this), .int a1, .int a2] = [some (va_rf (some this)), some (.int a1), some (.int a2)] from by simp [argL, cat_rf, cat_i, cat_j, cat_f, cat_d]]
  refine G.pad 1 (L' := [some (va_rf (some this)), some (.int a1), some (.int a2), none]) rfl ?_
  refine g_iconst (v := (0 : Int32)) X dX3_shifts_0 (by decide) ?_
  refine g_istore_n (L' := [some (va_rf (some this)), some (.int a1), some (.int a2), some (.int (0 : Int32))]) X dX3_shifts_1 rfl (Nat.le_of_ble_eq_true rfl) (by first | rfl | simp [stL, rm1, clr2, cat_rf, cat_i, cat_j, cat_f, cat_d]) ?_
  obtain ⟨h12, e13, hF⟩ := bnd hF
  refine lp_ind (Gs := (fun z => G p l e R s m args below meth c (RQ D dA h0 (.inr none, hE) below s) D dA h0 4 z.2 2 [some (va_rf (some this)), some (.int a1), some (.int a2), some (.int z.1)] [])) (Ge := (fun z => G p l e R s m args below meth c (RQ D dA h0 (.inr none, hE) below s) D dA h0 4 z 51 [none, none, none, none] [])) ?_ _ _ _ e13 ?_
  · rintro ⟨x3_1, h_1⟩ o hF hgo hr
    change F_X3_shifts_B2 this a1 a2 x3_1 h_1 = some o at hF
    unfold F_X3_shifts_B2 at hF
    show G p l e R s m args below meth c (RQ D dA h0 (.inr none, hE) below s) D dA h0 4 h_1 2 [some (va_rf (some this)), some (.int a1), some (.int a2), some (.int x3_1)] []
    refine g_iload_n X dX3_shifts_2 rfl rfl ?_
    refine g_iconst (v := (4 : Int32)) X dX3_shifts_3 (by decide) ?_
    refine g_icmp_ge X 51 dX3_shifts_4 (by decide) (fun c2 => ?_) (fun c2 => ?_)
    · have hF := (if_pos c2).symm.trans hF
      refine G.drop [false, false, false, false] rfl ?_
      cases hF
      exact hr _ rfl
    · have hF := (if_neg c2).symm.trans hF
      refine g_iload_n X dX3_shifts_7 rfl rfl ?_
      refine g_iload_n X dX3_shifts_8 rfl rfl ?_
      refine g_icmp_eq X 45 dX3_shifts_9 (by decide) (fun c3 => ?_) (fun c3 => ?_)
      · have hF := (if_pos c3).symm.trans hF
        refine g_iinc (v := (x3_1 + (1 : Int32))) (L' := [some (va_rf (some this)), some (.int a1), some (.int a2), some (.int (x3_1 + (1 : Int32)))]) X dX3_shifts_45 (Nat.le_of_ble_eq_true rfl) rfl rfl (by first | rfl | simp [stL, rm1, clr2, cat_rf, cat_i, cat_j, cat_f, cat_d]) ?_
        refine g_goto X 2 dX3_shifts_48 (by decide) ?_
        cases hF
        exact hgo _ rfl
      · have hF := (if_neg c3).symm.trans hF
        refine g_aload_n X dX3_shifts_12 rfl rfl ?_
        refine g_iload_n X dX3_shifts_13 rfl rfl ?_
        refine g_iload_n X dX3_shifts_14 rfl rfl ?_
        refine g_aload_n X dX3_shifts_15 rfl rfl ?_
        refine g_iload_n X dX3_shifts_16 rfl rfl ?_
        refine g_iload_n X dX3_shifts_17 rfl rfl ?_
        obtain ⟨ob4, eob4, hF⟩ := bnd hF
        obtain ⟨v5, ev5, hF⟩ := bnd hF
        refine g_callV X eob4 rfl rfl (w_X3_at l hl D dA h_1 ob4 a1 x3_1 v5 ev5) q494 q495 q496 q97 q497 okn_X3_at ⟨by rw [hRf]; exact Nat.le_of_ble_eq_true rfl, by rw [hRl]; exact Nat.le_of_ble_eq_true rfl⟩ (As := [.int a1, .int x3_1]) (rest := [.int x3_1, .int a1, va_rf (some this)]) rfl (by first | exact Nat.le_of_ble_eq_true rfl | simp [cat_rf, cat_i, cat_j, cat_f, cat_d]) dX3_shifts_18 (ac_v ?_)
        refine g_iload_n X dX3_shifts_21 rfl rfl ?_
        refine g_callS X (w_X3_sum l hl D dA h_1 v5 a2) q517 q518 q97 q519 okn_X3_sum ⟨by rw [hRf]; exact Nat.le_of_ble_eq_true rfl, by rw [hRl]; exact Nat.le_of_ble_eq_true rfl⟩ (As := [.int v5, .int a2]) (rest := [.int x3_1, .int a1, va_rf (some this)]) rfl (by first | exact Nat.le_of_ble_eq_true rfl | simp [cat_rf, cat_i, cat_j, cat_f, cat_d]) dX3_shifts_22 (ac_v ?_)
        obtain ⟨ob6, eob6, hF⟩ := bnd hF
        obtain ⟨h7, eh7, hF⟩ := bnd hF
        refine g_callV X eob6 rfl rfl (w_X3_sets l hl D dA h_1 ob6 a1 x3_1 (F_X3_sum v5 a2) h7 eh7) q499 q500 q501 q97 q502 okn_X3_sets ⟨by rw [hRf]; exact Nat.le_of_ble_eq_true rfl, by rw [hRl]; exact Nat.le_of_ble_eq_true rfl⟩ (As := [.int a1, .int x3_1, .int (F_X3_sum v5 a2)]) (rest := []) rfl (by first | exact Nat.le_of_ble_eq_true rfl | simp [cat_rf, cat_i, cat_j, cat_f, cat_d]) dX3_shifts_25 (ac_0 ?_)
        refine g_aload_n X dX3_shifts_28 rfl rfl ?_
        refine g_iload_n X dX3_shifts_29 rfl rfl ?_
        refine g_iload_n X dX3_shifts_30 rfl rfl ?_
        refine g_aload_n X dX3_shifts_31 rfl rfl ?_
        refine g_iload_n X dX3_shifts_32 rfl rfl ?_
        refine g_iload_n X dX3_shifts_33 rfl rfl ?_
        obtain ⟨ob8, eob8, hF⟩ := bnd hF
        obtain ⟨v9, ev9, hF⟩ := bnd hF
        refine g_callV X eob8 rfl rfl (w_X3_at l hl D dA h7 ob8 x3_1 a1 v9 ev9) q494 q495 q496 q97 q497 okn_X3_at ⟨by rw [hRf]; exact Nat.le_of_ble_eq_true rfl, by rw [hRl]; exact Nat.le_of_ble_eq_true rfl⟩ (As := [.int x3_1, .int a1]) (rest := [.int a1, .int x3_1, va_rf (some this)]) rfl (by first | exact Nat.le_of_ble_eq_true rfl | simp [cat_rf, cat_i, cat_j, cat_f, cat_d]) dX3_shifts_34 (ac_v ?_)
        refine g_iload_n X dX3_shifts_37 rfl rfl ?_
        refine g_ineg X dX3_shifts_38 ?_
        refine g_callS X (w_X3_sum l hl D dA h7 v9 (-a2)) q517 q518 q97 q519 okn_X3_sum ⟨by rw [hRf]; exact Nat.le_of_ble_eq_true rfl, by rw [hRl]; exact Nat.le_of_ble_eq_true rfl⟩ (As := [.int v9, .int (-a2)]) (rest := [.int a1, .int x3_1, va_rf (some this)]) rfl (by first | exact Nat.le_of_ble_eq_true rfl | simp [cat_rf, cat_i, cat_j, cat_f, cat_d]) dX3_shifts_39 (ac_v ?_)
        obtain ⟨ob10, eob10, hF⟩ := bnd hF
        obtain ⟨h11, eh11, hF⟩ := bnd hF
        refine g_callV X eob10 rfl rfl (w_X3_sets l hl D dA h7 ob10 x3_1 a1 (F_X3_sum v9 (-a2)) h11 eh11) q499 q500 q501 q97 q502 okn_X3_sets ⟨by rw [hRf]; exact Nat.le_of_ble_eq_true rfl, by rw [hRl]; exact Nat.le_of_ble_eq_true rfl⟩ (As := [.int x3_1, .int a1, .int (F_X3_sum v9 (-a2))]) (rest := []) rfl (by first | exact Nat.le_of_ble_eq_true rfl | simp [cat_rf, cat_i, cat_j, cat_f, cat_d]) dX3_shifts_42 (ac_0 ?_)
        refine g_iinc (v := (x3_1 + (1 : Int32))) (L' := [some (va_rf (some this)), some (.int a1), some (.int a2), some (.int (x3_1 + (1 : Int32)))]) X dX3_shifts_45 (Nat.le_of_ble_eq_true rfl) rfl rfl (by first | rfl | simp [stL, rm1, clr2, cat_rf, cat_i, cat_j, cat_f, cat_d]) ?_
        refine g_goto X 2 dX3_shifts_48 (by decide) ?_
        cases hF
        exact hgo _ rfl
  show G p l e R s m args below meth c (RQ D dA h0 (.inr none, hE) below s) D dA h0 4 h12 51 [none, none, none, none] []
  cases hF
  exact g_vret X hr dX3_shifts_51
def F_X3_isVoid (this : Nat) (h0 : HH) : Option (Int32 × HH) :=
  Option.bind (isO h0 3 (some this)) fun ob1 =>
  b2 (F_X3_tight ob1 h0) fun v3 h2 =>
  Option.bind (isO h2 3 v3) fun ob4 =>
  Option.bind (F_X3_hasNone ob4 h2) fun v5 =>
  Option.bind (okZ v5) fun _ =>
  some (v5, h2)
set_option maxHeartbeats 4000000 in
theorem w_X3_isVoid (l : Launch) (hl : l.stackTraces = false) (D : va_G) (dA : Nat → ClassId) (h0 : HH) (this : Nat) (rE : Int32) (hE : HH) (hF : F_X3_isVoid this h0 = some (rE, hE)) : MC D dA l yX3_isVoid cX3_isVoid 1 (Option.some Jvm.ClassFile.FieldType.boolean) [] 4 90 [va_rf (some this)] h0 (.inr (some (.int rE)), hE) := by
  refine mc_of hl (plainFor_of_name pn_X3) (by simp [lg_sl, cat_rf, cat_i, cat_j, cat_f, cat_d]) ?_
  intro p e s m args below meth c R hRf hRl X hr hnm
  unfold F_X3_isVoid at hF
  rw [show argL [va_rf (some this)] = [some (va_rf (some this))] from by simp [argL, cat_rf, cat_i, cat_j, cat_f, cat_d]]
  refine g_aload_n X dX3_isVoid_0 rfl rfl ?_
  obtain ⟨ob1, eob1, hF⟩ := bnd hF
  obtain ⟨v3, h2, eh2, hF⟩ := b2_some hF
  refine g_callV X eob1 rfl rfl (w_X3_tight l hl D dA h0 ob1  v3 h2 eh2) q789 q508 q509 q97 q510 okn_X3_tight ⟨by rw [hRf]; exact Nat.le_of_ble_eq_true rfl, by rw [hRl]; exact Nat.le_of_ble_eq_true rfl⟩ (As := []) (rest := []) rfl (by first | exact Nat.le_of_ble_eq_true rfl | simp [cat_rf, cat_i, cat_j, cat_f, cat_d]) dX3_isVoid_1 (ac_v ?_)
  obtain ⟨ob4, eob4, hF⟩ := bnd hF
  obtain ⟨v5, ev5, hF⟩ := bnd hF
  refine g_callV X eob4 rfl rfl (w_X3_hasNone l hl D dA h2 ob4  v5 ev5) q790 q522 q523 q97 q524 okn_X3_hasNone ⟨by rw [hRf]; exact Nat.le_of_ble_eq_true rfl, by rw [hRl]; exact Nat.le_of_ble_eq_true rfl⟩ (As := []) (rest := []) rfl (by first | exact Nat.le_of_ble_eq_true rfl | simp [cat_rf, cat_i, cat_j, cat_f, cat_d]) dX3_isVoid_4 (ac_v ?_)
  obtain ⟨_, z6, hF⟩ := bnd hF
  cases hF
  exact g_zret X hr (narZ z6) dX3_isVoid_7
def F_X3_decodes_B4 (a1 : Int32) (a2 : Option Nat) (x2_1 : Int32) (x3_1 : Int32) (h_1 : HH) : Option ((Int32 × Int32 × HH) ⊕ HH) :=
  if (3 : Int32) ≤ x3_1 then (
    some (.inr h_1)
  ) else (
    Option.bind (astI h_1 a2 x3_1 (x2_1 - x2_1 / (31 : Int32) * (31 : Int32))) fun h3 =>
    some (.inl ((x2_1 / (31 : Int32)), (x3_1 + (1 : Int32)), h3))
  )
def F_X3_decodes (a1 : Int32) (a2 : Option Nat) (h0 : HH) : Option HH :=
  Option.bind (lp (fun z => F_X3_decodes_B4 a1 a2 z.1 z.2.1 z.2.2) 100000 (a1, (0 : Int32), h0)) fun h4 =>
  some h4
set_option maxHeartbeats 4000000 in
theorem w_X3_decodes (l : Launch) (hl : l.stackTraces = false) (D : va_G) (dA : Nat → ClassId) (h0 : HH) (a1 : Int32) (a2 : Option Nat) (hE : HH) (hF : F_X3_decodes a1 a2 h0 = some hE) : MC D dA l yX3_decodes cX3_decodes 4 (Option.none : Option Jvm.ClassFile.FieldType) [] 0 0 [.int a1, va_rf a2] h0 (.inr none, hE) := by
  refine mc_of hl (plainFor_of_name pn_X3) (by simp [lg_sl, cat_rf, cat_i, cat_j, cat_f, cat_d]) ?_
  intro p e s m args below meth c R hRf hRl X hr hnm
  unfold F_X3_decodes at hF
  rw [show argL [.int a1, va_rf a2] = [some (.int a1), some (va_rf a2)] from by simp [argL, cat_rf, cat_i, cat_j, cat_f, cat_d]]
  refine G.pad 2 (L' := [some (.int a1), some (va_rf a2), none, none]) rfl ?_
  refine g_iload_n X dX3_decodes_0 rfl rfl ?_
  refine g_istore_n (L' := [some (.int a1), some (va_rf a2), some (.int a1), none]) X dX3_decodes_1 rfl (Nat.le_of_ble_eq_true rfl) (by first | rfl | simp [stL, rm1, clr2, cat_rf, cat_i, cat_j, cat_f, cat_d]) ?_
  refine g_iconst (v := (0 : Int32)) X dX3_decodes_2 (by decide) ?_
  refine g_istore_n (L' := [some (.int a1), some (va_rf a2), some (.int a1), some (.int (0 : Int32))]) X dX3_decodes_3 rfl (Nat.le_of_ble_eq_true rfl) (by first | rfl | simp [stL, rm1, clr2, cat_rf, cat_i, cat_j, cat_f, cat_d]) ?_
  refine G.drop [false, true, true, true] rfl ?_
  obtain ⟨h4, e5, hF⟩ := bnd hF
  refine lp_ind (Gs := (fun z => G p l e R s m args below meth c (RQ D dA h0 (.inr none, hE) below s) D dA h0 4 z.2.2 4 [none, some (va_rf a2), some (.int z.1), some (.int z.2.1)] [])) (Ge := (fun z => G p l e R s m args below meth c (RQ D dA h0 (.inr none, hE) below s) D dA h0 4 z 27 [none, none, none, none] [])) ?_ _ _ _ e5 ?_
  · rintro ⟨x2_1, x3_1, h_1⟩ o hF hgo hr
    change F_X3_decodes_B4 a1 a2 x2_1 x3_1 h_1 = some o at hF
    unfold F_X3_decodes_B4 at hF
    show G p l e R s m args below meth c (RQ D dA h0 (.inr none, hE) below s) D dA h0 4 h_1 4 [none, some (va_rf a2), some (.int x2_1), some (.int x3_1)] []
    refine g_iload_n X dX3_decodes_4 rfl rfl ?_
    refine g_iconst (v := (3 : Int32)) X dX3_decodes_5 (by decide) ?_
    refine g_icmp_ge X 27 dX3_decodes_6 (by decide) (fun c2 => ?_) (fun c2 => ?_)
    · have hF := (if_pos c2).symm.trans hF
      refine G.drop [false, false, false, false] rfl ?_
      cases hF
      exact hr _ rfl
    · have hF := (if_neg c2).symm.trans hF
      refine g_aload_n X dX3_decodes_9 rfl rfl ?_
      refine g_iload_n X dX3_decodes_10 rfl rfl ?_
      refine g_iload_n X dX3_decodes_11 rfl rfl ?_
      refine g_bipush (v := (31 : Int32)) X dX3_decodes_12 (by decide) ?_
      refine g_irem X dX3_decodes_14 (by decide) ?_
      obtain ⟨h3, eh3, hF⟩ := bnd hF
      refine g_iast X eh3 dX3_decodes_15 ?_
      refine g_iload_n X dX3_decodes_16 rfl rfl ?_
      refine g_bipush (v := (31 : Int32)) X dX3_decodes_17 (by decide) ?_
      refine g_idiv X dX3_decodes_19 (by decide) ?_
      refine g_istore_n (L' := [none, some (va_rf a2), some (.int (x2_1 / (31 : Int32))), some (.int x3_1)]) X dX3_decodes_20 rfl (Nat.le_of_ble_eq_true rfl) (by first | rfl | simp [stL, rm1, clr2, cat_rf, cat_i, cat_j, cat_f, cat_d]) ?_
      refine g_iinc (v := (x3_1 + (1 : Int32))) (L' := [none, some (va_rf a2), some (.int (x2_1 / (31 : Int32))), some (.int (x3_1 + (1 : Int32)))]) X dX3_decodes_21 (Nat.le_of_ble_eq_true rfl) rfl rfl (by first | rfl | simp [stL, rm1, clr2, cat_rf, cat_i, cat_j, cat_f, cat_d]) ?_
      refine g_goto X 4 dX3_decodes_24 (by decide) ?_
      cases hF
      exact hgo _ rfl
  show G p l e R s m args below meth c (RQ D dA h0 (.inr none, hE) below s) D dA h0 4 h4 27 [none, none, none, none] []
  cases hF
  exact g_vret X hr dX3_decodes_27
def F_X3_has_T44 (this : Nat) (a1 : Option Nat) (x2_1 : Int32) (x3_1 : Int32) (x2_3 : Int32) (x4_3 : Int32) (y0_30 : Int32) (y0_44 : Int32) (y1_44 : Int32) (h0 : HH) : Option ((Int32 × Int32) ⊕ Int32) :=
  Option.bind (isO h0 3 (some this)) fun ob5 =>
  Option.bind (F_X3_at ob5 x3_1 x4_3 h0) fun v6 =>
  some (.inl ((x2_3 &&& (if v6 < (y1_44 - y0_44) then (0 : Int32) else (1 : Int32))), (x4_3 + (1 : Int32))))
def F_X3_has_T30 (this : Nat) (a1 : Option Nat) (x2_1 : Int32) (x3_1 : Int32) (x2_3 : Int32) (x4_3 : Int32) (y0_30 : Int32) (h0 : HH) : Option ((Int32 × Int32) ⊕ Int32) :=
  if x4_3 = (3 : Int32) then (
    F_X3_has_T44 this a1 x2_1 x3_1 x2_3 x4_3 y0_30 (0 : Int32) y0_30 h0
  ) else (
    Option.bind (aldI h0 0 a1 x4_3) fun v9 =>
    F_X3_has_T44 this a1 x2_1 x3_1 x2_3 x4_3 y0_30 v9 y0_30 h0
  )
def F_X3_has_B12 (this : Nat) (a1 : Option Nat) (x2_1 : Int32) (x3_1 : Int32) (x2_3 : Int32) (x4_3 : Int32) (h0 : HH) : Option ((Int32 × Int32) ⊕ Int32) :=
  if (4 : Int32) ≤ x4_3 then (
    some (.inr x2_3)
  ) else (
    if x3_1 = (3 : Int32) then (
      F_X3_has_T30 this a1 x2_1 x3_1 x2_3 x4_3 (0 : Int32) h0
    ) else (
      Option.bind (aldI h0 0 a1 x3_1) fun v11 =>
      F_X3_has_T30 this a1 x2_1 x3_1 x2_3 x4_3 v11 h0
    )
  )
def F_X3_has_B4 (this : Nat) (a1 : Option Nat) (x2_1 : Int32) (x3_1 : Int32) (h0 : HH) : Option ((Int32 × Int32) ⊕ Int32) :=
  if (4 : Int32) ≤ x3_1 then (
    some (.inr x2_1)
  ) else (
    Option.bind (lp (fun z => F_X3_has_B12 this a1 x2_1 x3_1 z.1 z.2 h0) 100000 (x2_1, (0 : Int32))) fun v12 =>
    some (.inl (v12, (x3_1 + (1 : Int32))))
  )
def F_X3_has (this : Nat) (a1 : Option Nat) (h0 : HH) : Option Int32 :=
  Option.bind (lp (fun z => F_X3_has_B4 this a1 z.1 z.2 h0) 100000 ((1 : Int32), (0 : Int32))) fun v15 =>
  Option.bind (okZ v15) fun _ =>
  some v15
set_option maxHeartbeats 4000000 in
theorem w_X3_has (l : Launch) (hl : l.stackTraces = false) (D : va_G) (dA : Nat → ClassId) (h0 : HH) (this : Nat) (a1 : Option Nat) (rE : Int32) (hF : F_X3_has this a1 h0 = some rE) : MC D dA l yX3_has cX3_has 6 (Option.some Jvm.ClassFile.FieldType.boolean) [] 1 22 [va_rf (some this), va_rf a1] h0 (.inr (some (.int rE)), h0) := by
  refine mc_of hl (plainFor_of_name pn_X3) (by simp [lg_sl, cat_rf, cat_i, cat_j, cat_f, cat_d]) ?_
  intro p e s m args below meth c R hRf hRl X hr hnm
  unfold F_X3_has at hF
  rw [show argL [va_rf (some this), va_rf a1] = [some (va_rf (some this)), some (va_rf a1)] from by simp [argL, cat_rf, cat_i, cat_j, cat_f, cat_d]]
  refine G.pad 4 (L' := [some (va_rf (some this)), some (va_rf a1), none, none, none, none]) rfl ?_
  refine g_iconst (v := (1 : Int32)) X dX3_has_0 (by decide) ?_
  refine g_istore_n (L' := [some (va_rf (some this)), some (va_rf a1), some (.int (1 : Int32)), none, none, none]) X dX3_has_1 rfl (Nat.le_of_ble_eq_true rfl) (by first | rfl | simp [stL, rm1, clr2, cat_rf, cat_i, cat_j, cat_f, cat_d]) ?_
  refine g_iconst (v := (0 : Int32)) X dX3_has_2 (by decide) ?_
  refine g_istore_n (L' := [some (va_rf (some this)), some (va_rf a1), some (.int (1 : Int32)), some (.int (0 : Int32)), none, none]) X dX3_has_3 rfl (Nat.le_of_ble_eq_true rfl) (by first | rfl | simp [stL, rm1, clr2, cat_rf, cat_i, cat_j, cat_f, cat_d]) ?_
  obtain ⟨v15, e17, hF⟩ := bnd hF
  refine lp_ind (Gs := (fun z => G p l e R s m args below meth c (RQ D dA h0 (.inr (some (.int rE)), h0) below s) D dA h0 6 h0 4 [some (va_rf (some this)), some (va_rf a1), some (.int z.1), some (.int z.2), none, none] [])) (Ge := (fun z => G p l e R s m args below meth c (RQ D dA h0 (.inr (some (.int rE)), h0) below s) D dA h0 6 h0 79 [none, none, some (.int z), none, none, none] [])) ?_ _ _ _ e17 ?_
  · rintro ⟨x2_1, x3_1⟩ o hF hgo hr
    change F_X3_has_B4 this a1 x2_1 x3_1 h0 = some o at hF
    unfold F_X3_has_B4 at hF
    show G p l e R s m args below meth c (RQ D dA h0 (.inr (some (.int rE)), h0) below s) D dA h0 6 h0 4 [some (va_rf (some this)), some (va_rf a1), some (.int x2_1), some (.int x3_1), none, none] []
    refine g_iload_n X dX3_has_4 rfl rfl ?_
    refine g_iconst (v := (4 : Int32)) X dX3_has_5 (by decide) ?_
    refine g_icmp_ge X 79 dX3_has_6 (by decide) (fun c2 => ?_) (fun c2 => ?_)
    · have hF := (if_pos c2).symm.trans hF
      refine G.drop [false, false, true, false, false, false] rfl ?_
      cases hF
      exact hr _ rfl
    · have hF := (if_neg c2).symm.trans hF
      refine g_iconst (v := (0 : Int32)) X dX3_has_9 (by decide) ?_
      refine g_istore (L' := [some (va_rf (some this)), some (va_rf a1), some (.int x2_1), some (.int x3_1), some (.int (0 : Int32)), none]) X dX3_has_10 (Nat.le_of_ble_eq_true rfl) (by first | rfl | simp [stL, rm1, clr2, cat_rf, cat_i, cat_j, cat_f, cat_d]) ?_
      obtain ⟨v12, e13, hF⟩ := bnd hF
      refine lp_ind (Gs := (fun z => G p l e R s m args below meth c (RQ D dA h0 (.inr (some (.int rE)), h0) below s) D dA h0 6 h0 12 [some (va_rf (some this)), some (va_rf a1), some (.int z.1), some (.int x3_1), some (.int z.2), none] [])) (Ge := (fun z => G p l e R s m args below meth c (RQ D dA h0 (.inr (some (.int rE)), h0) below s) D dA h0 6 h0 73 [some (va_rf (some this)), some (va_rf a1), some (.int z), some (.int x3_1), none, none] [])) ?_ _ _ _ e13 ?_
      · rintro ⟨x2_3, x4_3⟩ o hF hgo hr
        change F_X3_has_B12 this a1 x2_1 x3_1 x2_3 x4_3 h0 = some o at hF
        unfold F_X3_has_B12 at hF
        show G p l e R s m args below meth c (RQ D dA h0 (.inr (some (.int rE)), h0) below s) D dA h0 6 h0 12 [some (va_rf (some this)), some (va_rf a1), some (.int x2_3), some (.int x3_1), some (.int x4_3), none] []
        refine g_iload X dX3_has_12 rfl ?_
        refine g_iconst (v := (4 : Int32)) X dX3_has_14 (by decide) ?_
        refine g_icmp_ge X 73 dX3_has_15 (by decide) (fun c4 => ?_) (fun c4 => ?_)
        · have hF := (if_pos c4).symm.trans hF
          refine G.drop [true, true, true, true, false, false] rfl ?_
          cases hF
          exact hr _ rfl
        · have hF := (if_neg c4).symm.trans hF
          refine g_iload_n X dX3_has_18 rfl rfl ?_
          refine g_iconst (v := (3 : Int32)) X dX3_has_19 (by decide) ?_
          have T30 : ∀ (y0_30 : Int32) (o : (Int32 × Int32) ⊕ Int32), F_X3_has_T30 this a1 x2_1 x3_1 x2_3 x4_3 y0_30 h0 = some o → (∀ y, o = .inl y → (fun z => G p l e R s m args below meth c (RQ D dA h0 (.inr (some (.int rE)), h0) below s) D dA h0 6 h0 12 [some (va_rf (some this)), some (va_rf a1), some (.int z.1), some (.int x3_1), some (.int z.2), none] []) y) → (∀ r, o = .inr r → (fun z => G p l e R s m args below meth c (RQ D dA h0 (.inr (some (.int rE)), h0) below s) D dA h0 6 h0 73 [some (va_rf (some this)), some (va_rf a1), some (.int z), some (.int x3_1), none, none] []) r) → G p l e R s m args below meth c (RQ D dA h0 (.inr (some (.int rE)), h0) below s) D dA h0 6 h0 30 [some (va_rf (some this)), some (va_rf a1), some (.int x2_3), some (.int x3_1), some (.int x4_3), none] [.int y0_30] := by
            intro y0_30 o hF hgo hr
            unfold F_X3_has_T30 at hF
            refine g_iload X dX3_has_30 rfl ?_
            refine g_iconst (v := (3 : Int32)) X dX3_has_32 (by decide) ?_
            have T44 : ∀ (y0_44 : Int32) (y1_44 : Int32) (o : (Int32 × Int32) ⊕ Int32), F_X3_has_T44 this a1 x2_1 x3_1 x2_3 x4_3 y0_30 y0_44 y1_44 h0 = some o → (∀ y, o = .inl y → (fun z => G p l e R s m args below meth c (RQ D dA h0 (.inr (some (.int rE)), h0) below s) D dA h0 6 h0 12 [some (va_rf (some this)), some (va_rf a1), some (.int z.1), some (.int x3_1), some (.int z.2), none] []) y) → (∀ r, o = .inr r → (fun z => G p l e R s m args below meth c (RQ D dA h0 (.inr (some (.int rE)), h0) below s) D dA h0 6 h0 73 [some (va_rf (some this)), some (va_rf a1), some (.int z), some (.int x3_1), none, none] []) r) → G p l e R s m args below meth c (RQ D dA h0 (.inr (some (.int rE)), h0) below s) D dA h0 6 h0 44 [some (va_rf (some this)), some (va_rf a1), some (.int x2_3), some (.int x3_1), some (.int x4_3), none] [.int y0_44, .int y1_44] := by
              intro y0_44 y1_44 o hF hgo hr
              unfold F_X3_has_T44 at hF
              refine g_isub X dX3_has_44 ?_
              refine g_istore (L' := [some (va_rf (some this)), some (va_rf a1), some (.int x2_3), some (.int x3_1), some (.int x4_3), some (.int (y1_44 - y0_44))]) X dX3_has_45 (Nat.le_of_ble_eq_true rfl) (by first | rfl | simp [stL, rm1, clr2, cat_rf, cat_i, cat_j, cat_f, cat_d]) ?_
              refine g_iload_n X dX3_has_47 rfl rfl ?_
              refine g_iload X dX3_has_48 rfl ?_
              refine g_aload_n X dX3_has_50 rfl rfl ?_
              refine g_iload_n X dX3_has_51 rfl rfl ?_
              refine g_iload X dX3_has_52 rfl ?_
              obtain ⟨ob5, eob5, hF⟩ := bnd hF
              obtain ⟨v6, ev6, hF⟩ := bnd hF
              refine g_callV X eob5 rfl rfl (w_X3_at l hl D dA h0 ob5 x3_1 x4_3 v6 ev6) q494 q495 q496 q97 q497 okn_X3_at ⟨by rw [hRf]; exact Nat.le_of_ble_eq_true rfl, by rw [hRl]; exact Nat.le_of_ble_eq_true rfl⟩ (As := [.int x3_1, .int x4_3]) (rest := [.int (y1_44 - y0_44), .int x2_3]) rfl (by first | exact Nat.le_of_ble_eq_true rfl | simp [cat_rf, cat_i, cat_j, cat_f, cat_d]) dX3_has_54 (ac_v ?_)
              suffices K : G p l e R s m args below meth c (RQ D dA h0 (.inr (some (.int rE)), h0) below s) D dA h0 6 h0 65 [some (va_rf (some this)), some (va_rf a1), none, some (.int x3_1), some (.int x4_3), none] [.int (if v6 < (y1_44 - y0_44) then (0 : Int32) else (1 : Int32)), .int x2_3] by
                refine g_icmp_gt X 64 dX3_has_57 (by decide) (fun c7 => ?_) (fun c7 => ?_)
                · (try simp only [if_pos c7] at K)
                  refine g_iconst (v := (0 : Int32)) X dX3_has_64 (by decide) ?_
                  refine G.drop [true, true, false, true, true, false] rfl ?_
                  first | exact K | (simp only [if_pos c7]; exact K)
                · (try simp only [if_neg c7] at K)
                  refine g_iconst (v := (1 : Int32)) X dX3_has_60 (by decide) ?_
                  refine g_goto X 65 dX3_has_61 (by decide) ?_
                  refine G.drop [true, true, false, true, true, false] rfl ?_
                  first | exact K | (simp only [if_neg c7]; exact K)
              refine g_iand X dX3_has_65 ?_
              refine g_istore_n (L' := [some (va_rf (some this)), some (va_rf a1), some (.int (x2_3 &&& (if v6 < (y1_44 - y0_44) then (0 : Int32) else (1 : Int32)))), some (.int x3_1), some (.int x4_3), none]) X dX3_has_66 rfl (Nat.le_of_ble_eq_true rfl) (by first | rfl | simp [stL, rm1, clr2, cat_rf, cat_i, cat_j, cat_f, cat_d]) ?_
              refine g_iinc (v := (x4_3 + (1 : Int32))) (L' := [some (va_rf (some this)), some (va_rf a1), some (.int (x2_3 &&& (if v6 < (y1_44 - y0_44) then (0 : Int32) else (1 : Int32)))), some (.int x3_1), some (.int (x4_3 + (1 : Int32))), none]) X dX3_has_67 (Nat.le_of_ble_eq_true rfl) rfl rfl (by first | rfl | simp [stL, rm1, clr2, cat_rf, cat_i, cat_j, cat_f, cat_d]) ?_
              refine g_goto X 12 dX3_has_70 (by decide) ?_
              cases hF
              exact hgo _ rfl
            refine g_icmp_ne X 40 dX3_has_33 (by decide) (fun c8 => ?_) (fun c8 => ?_)
            · have hF := (if_neg c8).symm.trans hF
              refine g_aload_n X dX3_has_40 rfl rfl ?_
              refine g_iload X dX3_has_41 rfl ?_
              obtain ⟨v9, ev9, hF⟩ := bnd hF
              refine g_iald X ev9 dX3_has_43 ?_
              exact T44 _ _ _ hF hgo hr
            · have hF := (if_pos c8).symm.trans hF
              refine g_iconst (v := (0 : Int32)) X dX3_has_36 (by decide) ?_
              refine g_goto X 44 dX3_has_37 (by decide) ?_
              exact T44 _ _ _ hF hgo hr
          refine g_icmp_ne X 27 dX3_has_20 (by decide) (fun c10 => ?_) (fun c10 => ?_)
          · have hF := (if_neg c10).symm.trans hF
            refine g_aload_n X dX3_has_27 rfl rfl ?_
            refine g_iload_n X dX3_has_28 rfl rfl ?_
            obtain ⟨v11, ev11, hF⟩ := bnd hF
            refine g_iald X ev11 dX3_has_29 ?_
            exact T30 _ _ hF hgo hr
          · have hF := (if_pos c10).symm.trans hF
            refine g_iconst (v := (0 : Int32)) X dX3_has_23 (by decide) ?_
            refine g_goto X 30 dX3_has_24 (by decide) ?_
            exact T30 _ _ hF hgo hr
      show G p l e R s m args below meth c (RQ D dA h0 (.inr (some (.int rE)), h0) below s) D dA h0 6 h0 73 [some (va_rf (some this)), some (va_rf a1), some (.int v12), some (.int x3_1), none, none] []
      refine g_iinc (v := (x3_1 + (1 : Int32))) (L' := [some (va_rf (some this)), some (va_rf a1), some (.int v12), some (.int (x3_1 + (1 : Int32))), none, none]) X dX3_has_73 (Nat.le_of_ble_eq_true rfl) rfl rfl (by first | rfl | simp [stL, rm1, clr2, cat_rf, cat_i, cat_j, cat_f, cat_d]) ?_
      refine g_goto X 4 dX3_has_76 (by decide) ?_
      cases hF
      exact hgo _ rfl
  show G p l e R s m args below meth c (RQ D dA h0 (.inr (some (.int rE)), h0) below s) D dA h0 6 h0 79 [none, none, some (.int v15), none, none, none] []
  refine g_iload_n X dX3_has_79 rfl rfl ?_
  obtain ⟨_, z16, hF⟩ := bnd hF
  cases hF
  exact g_zret X hr (narZ z16) dX3_has_80
def F_X3_count_B9 (this : Nat) (a1 : Option Nat) (k3_2 : Option Nat) (x2_2 : Int32) (x4_2 : Int32) (h_2 : HH) : Option ((Int32 × Int32 × HH) ⊕ (Int32 × HH)) :=
  if (29791 : Int32) ≤ x4_2 then (
    some (.inr (x2_2, h_2))
  ) else (
    Option.bind (F_X3_decodes x4_2 k3_2 h_2) fun h4 =>
    Option.bind (isO h4 3 (some this)) fun ob5 =>
    Option.bind (F_X3_has ob5 k3_2 h4) fun v6 =>
    if v6 = 0 then (
      some (.inl ((x2_2 + (0 : Int32)), (x4_2 + (1 : Int32)), h4))
    ) else (
      if a1 = none then (
        some (.inl ((x2_2 + (1 : Int32)), (x4_2 + (1 : Int32)), h4))
      ) else (
        Option.bind (isO h4 3 a1) fun ob9 =>
        Option.bind (F_X3_has ob9 k3_2 h4) fun v10 =>
        some (.inl ((x2_2 + (if v10 = 0 then (1 : Int32) else (0 : Int32))), (x4_2 + (1 : Int32)), h4))
      )
    )
  )
def F_X3_count (this : Nat) (a1 : Option Nat) (h0 : HH) : Option (Int32 × HH) :=
  Option.bind (newA h0 0 (3 : Int32)) fun h1 =>
  Option.bind (lp (fun z => F_X3_count_B9 this a1 (some (hSz h0)) z.1 z.2.1 z.2.2) 100000 ((0 : Int32), (0 : Int32), h1)) fun (v12, h13) =>
  some (v12, h13)
set_option maxHeartbeats 4000000 in
theorem w_X3_count (l : Launch) (hl : l.stackTraces = false) (D : va_G) (dA : Nat → ClassId) (h0 : HH) (this : Nat) (a1 : Option Nat) (rE : Int32) (hE : HH) (hF : F_X3_count this a1 h0 = some (rE, hE)) : MC D dA l yX3_count cX3_count 5 (Option.some Jvm.ClassFile.FieldType.int) [] 2 47 [va_rf (some this), va_rf a1] h0 (.inr (some (.int rE)), hE) := by
  refine mc_of hl (plainFor_of_name pn_X3) (by simp [lg_sl, cat_rf, cat_i, cat_j, cat_f, cat_d]) ?_
  intro p e s m args below meth c R hRf hRl X hr hnm
  unfold F_X3_count at hF
  rw [show argL [va_rf (some this), va_rf a1] = [some (va_rf (some this)), some (va_rf a1)] from by simp [argL, cat_rf, cat_i, cat_j, cat_f, cat_d]]
  refine G.pad 3 (L' := [some (va_rf (some this)), some (va_rf a1), none, none, none]) rfl ?_
  refine g_iconst (v := (0 : Int32)) X dX3_count_0 (by decide) ?_
  refine g_istore_n (L' := [some (va_rf (some this)), some (va_rf a1), some (.int (0 : Int32)), none, none]) X dX3_count_1 rfl (Nat.le_of_ble_eq_true rfl) (by first | rfl | simp [stL, rm1, clr2, cat_rf, cat_i, cat_j, cat_f, cat_d]) ?_
  refine g_iconst (v := (3 : Int32)) X dX3_count_2 (by decide) ?_
  obtain ⟨h1, eh1, hF⟩ := bnd hF
  refine g_newa (atype := .int) (t := 0) X q182 rfl (funext fun _ => rfl) (by decide) eh1 dX3_count_3 ?_
  refine g_astore_n (L' := [some (va_rf (some this)), some (va_rf a1), some (.int (0 : Int32)), some (va_rf (some (hSz h0))), none]) X dX3_count_5 rfl (Nat.le_of_ble_eq_true rfl) (by first | rfl | simp [stL, rm1, clr2, cat_rf, cat_i, cat_j, cat_f, cat_d]) ?_
  refine g_iconst (v := (0 : Int32)) X dX3_count_6 (by decide) ?_
  refine g_istore (L' := [some (va_rf (some this)), some (va_rf a1), some (.int (0 : Int32)), some (va_rf (some (hSz h0))), some (.int (0 : Int32))]) X dX3_count_7 (Nat.le_of_ble_eq_true rfl) (by first | rfl | simp [stL, rm1, clr2, cat_rf, cat_i, cat_j, cat_f, cat_d]) ?_
  obtain ⟨⟨v12, h13⟩, e14, hF⟩ := bnd hF
  dsimp only at hF
  refine lp_ind (Gs := (fun z => G p l e R s m args below meth c (RQ D dA h0 (.inr (some (.int rE)), hE) below s) D dA h0 5 z.2.2 9 [some (va_rf (some this)), some (va_rf a1), some (.int z.1), some (va_rf (some (hSz h0))), some (.int z.2.1)] [])) (Ge := (fun z => G p l e R s m args below meth c (RQ D dA h0 (.inr (some (.int rE)), hE) below s) D dA h0 5 z.2 57 [none, none, some (.int z.1), none, none] [])) ?_ _ _ _ e14 ?_
  · rintro ⟨x2_2, x4_2, h_2⟩ o hF hgo hr
    change F_X3_count_B9 this a1 (some (hSz h0)) x2_2 x4_2 h_2 = some o at hF
    generalize (some (hSz h0)) = k3_2 at hF hgo hr ⊢
    unfold F_X3_count_B9 at hF
    show G p l e R s m args below meth c (RQ D dA h0 (.inr (some (.int rE)), hE) below s) D dA h0 5 h_2 9 [some (va_rf (some this)), some (va_rf a1), some (.int x2_2), some (va_rf k3_2), some (.int x4_2)] []
    refine g_iload X dX3_count_9 rfl ?_
    refine g_sipush (v := (29791 : Int32)) X dX3_count_11 (by decide) ?_
    refine g_icmp_ge X 57 dX3_count_14 (by decide) (fun c3 => ?_) (fun c3 => ?_)
    · have hF := (if_pos c3).symm.trans hF
      refine G.drop [false, false, true, false, false] rfl ?_
      cases hF
      exact hr _ rfl
    · have hF := (if_neg c3).symm.trans hF
      refine g_iload X dX3_count_17 rfl ?_
      refine g_aload_n X dX3_count_19 rfl rfl ?_
      obtain ⟨h4, eh4, hF⟩ := bnd hF
      refine g_callS X (w_X3_decodes l hl D dA h_2 x4_2 k3_2 h4 eh4) q799 q800 q97 q801 okn_X3_decodes ⟨by rw [hRf]; exact Nat.le_of_ble_eq_true rfl, by rw [hRl]; exact Nat.le_of_ble_eq_true rfl⟩ (As := [.int x4_2, va_rf k3_2]) (rest := []) rfl (by first | exact Nat.le_of_ble_eq_true rfl | simp [cat_rf, cat_i, cat_j, cat_f, cat_d]) dX3_count_20 (ac_0 ?_)
      refine g_iload_n X dX3_count_23 rfl rfl ?_
      refine g_aload_n X dX3_count_24 rfl rfl ?_
      refine g_aload_n X dX3_count_25 rfl rfl ?_
      obtain ⟨ob5, eob5, hF⟩ := bnd hF
      obtain ⟨v6, ev6, hF⟩ := bnd hF
      refine g_callV X eob5 rfl rfl (w_X3_has l hl D dA h4 ob5 k3_2 v6 ev6) q802 q803 q804 q97 q805 okn_X3_has ⟨by rw [hRf]; exact Nat.le_of_ble_eq_true rfl, by rw [hRl]; exact Nat.le_of_ble_eq_true rfl⟩ (As := [va_rf k3_2]) (rest := [.int x2_2]) rfl (by first | exact Nat.le_of_ble_eq_true rfl | simp [cat_rf, cat_i, cat_j, cat_f, cat_d]) dX3_count_26 (ac_v ?_)
      refine g_if_eq X 48 dX3_count_29 (by decide) (fun c7 => ?_) (fun c7 => ?_)
      · have hF := (if_pos c7).symm.trans hF
        refine g_iconst (v := (0 : Int32)) X dX3_count_48 (by decide) ?_
        refine g_iadd X dX3_count_49 ?_
        refine g_istore_n (L' := [some (va_rf (some this)), some (va_rf a1), some (.int (x2_2 + (0 : Int32))), some (va_rf k3_2), some (.int x4_2)]) X dX3_count_50 rfl (Nat.le_of_ble_eq_true rfl) (by first | rfl | simp [stL, rm1, clr2, cat_rf, cat_i, cat_j, cat_f, cat_d]) ?_
        refine g_iinc (v := (x4_2 + (1 : Int32))) (L' := [some (va_rf (some this)), some (va_rf a1), some (.int (x2_2 + (0 : Int32))), some (va_rf k3_2), some (.int (x4_2 + (1 : Int32)))]) X dX3_count_51 (Nat.le_of_ble_eq_true rfl) rfl rfl (by first | rfl | simp [stL, rm1, clr2, cat_rf, cat_i, cat_j, cat_f, cat_d]) ?_
        refine g_goto X 9 dX3_count_54 (by decide) ?_
        cases hF
        exact hgo _ rfl
      · have hF := (if_neg c7).symm.trans hF
        refine g_aload_n X dX3_count_32 rfl rfl ?_
        refine g_ifnull X 44 dX3_count_33 (by decide) (fun c8 => ?_) (fun c8 => ?_)
        · have hF := (if_pos c8).symm.trans hF
          refine g_iconst (v := (1 : Int32)) X dX3_count_44 (by decide) ?_
          refine g_goto X 49 dX3_count_45 (by decide) ?_
          refine g_iadd X dX3_count_49 ?_
          refine g_istore_n (L' := [some (va_rf (some this)), some (va_rf a1), some (.int (x2_2 + (1 : Int32))), some (va_rf k3_2), some (.int x4_2)]) X dX3_count_50 rfl (Nat.le_of_ble_eq_true rfl) (by first | rfl | simp [stL, rm1, clr2, cat_rf, cat_i, cat_j, cat_f, cat_d]) ?_
          refine g_iinc (v := (x4_2 + (1 : Int32))) (L' := [some (va_rf (some this)), some (va_rf a1), some (.int (x2_2 + (1 : Int32))), some (va_rf k3_2), some (.int (x4_2 + (1 : Int32)))]) X dX3_count_51 (Nat.le_of_ble_eq_true rfl) rfl rfl (by first | rfl | simp [stL, rm1, clr2, cat_rf, cat_i, cat_j, cat_f, cat_d]) ?_
          refine g_goto X 9 dX3_count_54 (by decide) ?_
          cases hF
          exact hgo _ rfl
        · have hF := (if_neg c8).symm.trans hF
          refine g_aload_n X dX3_count_36 rfl rfl ?_
          refine g_aload_n X dX3_count_37 rfl rfl ?_
          obtain ⟨ob9, eob9, hF⟩ := bnd hF
          obtain ⟨v10, ev10, hF⟩ := bnd hF
          refine g_callV X eob9 rfl rfl (w_X3_has l hl D dA h4 ob9 k3_2 v10 ev10) q802 q803 q804 q97 q805 okn_X3_has ⟨by rw [hRf]; exact Nat.le_of_ble_eq_true rfl, by rw [hRl]; exact Nat.le_of_ble_eq_true rfl⟩ (As := [va_rf k3_2]) (rest := [.int x2_2]) rfl (by first | exact Nat.le_of_ble_eq_true rfl | simp [cat_rf, cat_i, cat_j, cat_f, cat_d]) dX3_count_38 (ac_v ?_)
          suffices K : G p l e R s m args below meth c (RQ D dA h0 (.inr (some (.int rE)), hE) below s) D dA h0 5 h4 49 [some (va_rf (some this)), some (va_rf a1), none, some (va_rf k3_2), some (.int x4_2)] [.int (if v10 = 0 then (1 : Int32) else (0 : Int32)), .int x2_2] by
            refine g_if_ne X 48 dX3_count_41 (by decide) (fun c11 => ?_) (fun c11 => ?_)
            · (try simp only [if_neg c11] at K)
              refine g_iconst (v := (0 : Int32)) X dX3_count_48 (by decide) ?_
              refine G.drop [true, true, false, true, true] rfl ?_
              first | exact K | (simp only [if_neg c11]; exact K)
            · (try simp only [if_pos c11] at K)
              refine g_iconst (v := (1 : Int32)) X dX3_count_44 (by decide) ?_
              refine g_goto X 49 dX3_count_45 (by decide) ?_
              refine G.drop [true, true, false, true, true] rfl ?_
              first | exact K | (simp only [if_pos c11]; exact K)
          refine g_iadd X dX3_count_49 ?_
          refine g_istore_n (L' := [some (va_rf (some this)), some (va_rf a1), some (.int (x2_2 + (if v10 = 0 then (1 : Int32) else (0 : Int32)))), some (va_rf k3_2), some (.int x4_2)]) X dX3_count_50 rfl (Nat.le_of_ble_eq_true rfl) (by first | rfl | simp [stL, rm1, clr2, cat_rf, cat_i, cat_j, cat_f, cat_d]) ?_
          refine g_iinc (v := (x4_2 + (1 : Int32))) (L' := [some (va_rf (some this)), some (va_rf a1), some (.int (x2_2 + (if v10 = 0 then (1 : Int32) else (0 : Int32)))), some (va_rf k3_2), some (.int (x4_2 + (1 : Int32)))]) X dX3_count_51 (Nat.le_of_ble_eq_true rfl) rfl rfl (by first | rfl | simp [stL, rm1, clr2, cat_rf, cat_i, cat_j, cat_f, cat_d]) ?_
          refine g_goto X 9 dX3_count_54 (by decide) ?_
          cases hF
          exact hgo _ rfl
  show G p l e R s m args below meth c (RQ D dA h0 (.inr (some (.int rE)), hE) below s) D dA h0 5 h13 57 [none, none, some (.int v12), none, none] []
  refine g_iload_n X dX3_count_57 rfl rfl ?_
  cases hF
  exact g_iret X hr dX3_count_58
def F_X3_isInside_B4 (this : Nat) (a1 : Option Nat) (x2_1 : Int32) (x3_1 : Int32) (h0 : HH) : Option ((Int32 × Int32) ⊕ Int32) :=
  if (16 : Int32) ≤ x3_1 then (
    some (.inr x2_1)
  ) else (
    Option.bind (getR h0 3 0 (some this)) fun v3 =>
    Option.bind (aldI h0 0 v3 x3_1) fun v4 =>
    Option.bind (getR h0 3 0 a1) fun v5 =>
    Option.bind (aldI h0 0 v5 x3_1) fun v6 =>
    some (.inl ((x2_1 &&& (if v6 < v4 then (0 : Int32) else (1 : Int32))), (x3_1 + (1 : Int32))))
  )
def F_X3_isInside (this : Nat) (a1 : Option Nat) (h0 : HH) : Option Int32 :=
  Option.bind (lp (fun z => F_X3_isInside_B4 this a1 z.1 z.2 h0) 100000 ((1 : Int32), (0 : Int32))) fun v8 =>
  Option.bind (okZ v8) fun _ =>
  some v8
set_option maxHeartbeats 4000000 in
theorem w_X3_isInside (l : Launch) (hl : l.stackTraces = false) (D : va_G) (dA : Nat → ClassId) (h0 : HH) (this : Nat) (a1 : Option Nat) (rE : Int32) (hF : F_X3_isInside this a1 h0 = some rE) : MC D dA l yX3_isInside cX3_isInside 4 (Option.some Jvm.ClassFile.FieldType.boolean) [] 0 0 [va_rf (some this), va_rf a1] h0 (.inr (some (.int rE)), h0) := by
  refine mc_of hl (plainFor_of_name pn_X3) (by simp [lg_sl, cat_rf, cat_i, cat_j, cat_f, cat_d]) ?_
  intro p e s m args below meth c R hRf hRl X hr hnm
  unfold F_X3_isInside at hF
  rw [show argL [va_rf (some this), va_rf a1] = [some (va_rf (some this)), some (va_rf a1)] from by simp [argL, cat_rf, cat_i, cat_j, cat_f, cat_d]]
  refine G.pad 2 (L' := [some (va_rf (some this)), some (va_rf a1), none, none]) rfl ?_
  refine g_iconst (v := (1 : Int32)) X dX3_isInside_0 (by decide) ?_
  refine g_istore_n (L' := [some (va_rf (some this)), some (va_rf a1), some (.int (1 : Int32)), none]) X dX3_isInside_1 rfl (Nat.le_of_ble_eq_true rfl) (by first | rfl | simp [stL, rm1, clr2, cat_rf, cat_i, cat_j, cat_f, cat_d]) ?_
  refine g_iconst (v := (0 : Int32)) X dX3_isInside_2 (by decide) ?_
  refine g_istore_n (L' := [some (va_rf (some this)), some (va_rf a1), some (.int (1 : Int32)), some (.int (0 : Int32))]) X dX3_isInside_3 rfl (Nat.le_of_ble_eq_true rfl) (by first | rfl | simp [stL, rm1, clr2, cat_rf, cat_i, cat_j, cat_f, cat_d]) ?_
  obtain ⟨v8, e10, hF⟩ := bnd hF
  refine lp_ind (Gs := (fun z => G p l e R s m args below meth c (RQ D dA h0 (.inr (some (.int rE)), h0) below s) D dA h0 4 h0 4 [some (va_rf (some this)), some (va_rf a1), some (.int z.1), some (.int z.2)] [])) (Ge := (fun z => G p l e R s m args below meth c (RQ D dA h0 (.inr (some (.int rE)), h0) below s) D dA h0 4 h0 39 [none, none, some (.int z), none] [])) ?_ _ _ _ e10 ?_
  · rintro ⟨x2_1, x3_1⟩ o hF hgo hr
    change F_X3_isInside_B4 this a1 x2_1 x3_1 h0 = some o at hF
    unfold F_X3_isInside_B4 at hF
    show G p l e R s m args below meth c (RQ D dA h0 (.inr (some (.int rE)), h0) below s) D dA h0 4 h0 4 [some (va_rf (some this)), some (va_rf a1), some (.int x2_1), some (.int x3_1)] []
    refine g_iload_n X dX3_isInside_4 rfl rfl ?_
    refine g_bipush (v := (16 : Int32)) X dX3_isInside_5 (by decide) ?_
    refine g_icmp_ge X 39 dX3_isInside_7 (by decide) (fun c2 => ?_) (fun c2 => ?_)
    · have hF := (if_pos c2).symm.trans hF
      refine G.drop [false, false, true, false] rfl ?_
      cases hF
      exact hr _ rfl
    · have hF := (if_neg c2).symm.trans hF
      refine g_iload_n X dX3_isInside_10 rfl rfl ?_
      refine g_aload_n X dX3_isInside_11 rfl rfl ?_
      obtain ⟨v3, ev3, hF⟩ := bnd hF
      refine g_get (k := 0) X in_X3 rfl (by decide) q176 (Or.inl rfl) (getR_V ev3) dX3_isInside_12 ?_
      refine g_iload_n X dX3_isInside_15 rfl rfl ?_
      obtain ⟨v4, ev4, hF⟩ := bnd hF
      refine g_iald X ev4 dX3_isInside_16 ?_
      refine g_aload_n X dX3_isInside_17 rfl rfl ?_
      obtain ⟨v5, ev5, hF⟩ := bnd hF
      refine g_get (k := 0) X in_X3 rfl (by decide) q176 (Or.inl rfl) (getR_V ev5) dX3_isInside_18 ?_
      refine g_iload_n X dX3_isInside_21 rfl rfl ?_
      obtain ⟨v6, ev6, hF⟩ := bnd hF
      refine g_iald X ev6 dX3_isInside_22 ?_
      suffices K : G p l e R s m args below meth c (RQ D dA h0 (.inr (some (.int rE)), h0) below s) D dA h0 4 h0 31 [some (va_rf (some this)), some (va_rf a1), none, some (.int x3_1)] [.int (if v6 < v4 then (0 : Int32) else (1 : Int32)), .int x2_1] by
        refine g_icmp_gt X 30 dX3_isInside_23 (by decide) (fun c7 => ?_) (fun c7 => ?_)
        · (try simp only [if_pos c7] at K)
          refine g_iconst (v := (0 : Int32)) X dX3_isInside_30 (by decide) ?_
          refine G.drop [true, true, false, true] rfl ?_
          first | exact K | (simp only [if_pos c7]; exact K)
        · (try simp only [if_neg c7] at K)
          refine g_iconst (v := (1 : Int32)) X dX3_isInside_26 (by decide) ?_
          refine g_goto X 31 dX3_isInside_27 (by decide) ?_
          refine G.drop [true, true, false, true] rfl ?_
          first | exact K | (simp only [if_neg c7]; exact K)
      refine g_iand X dX3_isInside_31 ?_
      refine g_istore_n (L' := [some (va_rf (some this)), some (va_rf a1), some (.int (x2_1 &&& (if v6 < v4 then (0 : Int32) else (1 : Int32)))), some (.int x3_1)]) X dX3_isInside_32 rfl (Nat.le_of_ble_eq_true rfl) (by first | rfl | simp [stL, rm1, clr2, cat_rf, cat_i, cat_j, cat_f, cat_d]) ?_
      refine g_iinc (v := (x3_1 + (1 : Int32))) (L' := [some (va_rf (some this)), some (va_rf a1), some (.int (x2_1 &&& (if v6 < v4 then (0 : Int32) else (1 : Int32)))), some (.int (x3_1 + (1 : Int32)))]) X dX3_isInside_33 (Nat.le_of_ble_eq_true rfl) rfl rfl (by first | rfl | simp [stL, rm1, clr2, cat_rf, cat_i, cat_j, cat_f, cat_d]) ?_
      refine g_goto X 4 dX3_isInside_36 (by decide) ?_
      cases hF
      exact hgo _ rfl
  show G p l e R s m args below meth c (RQ D dA h0 (.inr (some (.int rE)), h0) below s) D dA h0 4 h0 39 [none, none, some (.int v8), none] []
  refine g_iload_n X dX3_isInside_39 rfl rfl ?_
  obtain ⟨_, z9, hF⟩ := bnd hF
  cases hF
  exact g_zret X hr (narZ z9) dX3_isInside_40
def F_J11_max (a1 : Int32) (a2 : Int32) : Int32 :=
  (if a1 < a2 then a2 else a1)
set_option maxHeartbeats 4000000 in
theorem w_J11_max (l : Launch) (hl : l.stackTraces = false) (D : va_G) (dA : Nat → ClassId) (h0 : HH) (a1 : Int32) (a2 : Int32) : MC D dA l yJ11_max cJ11_max 2 (Option.some Jvm.ClassFile.FieldType.int) [] 0 0 [.int a1, .int a2] h0 (.inr (some (.int (F_J11_max a1 a2))), h0) := by
  refine mc_of hl pf_J11_max (by simp [lg_sl, cat_rf, cat_i, cat_j, cat_f, cat_d]) ?_
  intro p e s m args below meth c R hRf hRl X hr hnm
  generalize hF : F_J11_max a1 a2 = rE
  unfold F_J11_max at hF
  rw [show argL [.int a1, .int a2] = [some (.int a1), some (.int a2)] from by simp [argL, cat_rf, cat_i, cat_j, cat_f, cat_d]]
  refine g_iload_n X dJ11_max_0 rfl rfl ?_
  refine g_iload_n X dJ11_max_1 rfl rfl ?_
  suffices K : G p l e R s m args below meth c (RQ D dA h0 (.inr (some (.int rE)), h0) below s) D dA h0 2 h0 10 [none, none] [.int (if a1 < a2 then a2 else a1)] by
    refine g_icmp_lt X 9 dJ11_max_2 (by decide) (fun c1 => ?_) (fun c1 => ?_)
    · (try simp only [if_pos c1] at K)
      refine g_iload_n X dJ11_max_9 rfl rfl ?_
      refine G.drop [false, false] rfl ?_
      first | exact K | (simp only [if_pos c1]; exact K)
    · (try simp only [if_neg c1] at K)
      refine g_iload_n X dJ11_max_5 rfl rfl ?_
      refine g_goto X 10 dJ11_max_6 (by decide) ?_
      refine G.drop [false, false] rfl ?_
      first | exact K | (simp only [if_neg c1]; exact K)
  cases hF
  exact g_iret X hr dJ11_max_10
def F_X3_widens_B2 (this : Nat) (x1_1 : Int32) (h_1 : HH) : Option ((Int32 × HH) ⊕ HH) :=
  if (16 : Int32) ≤ x1_1 then (
    some (.inr h_1)
  ) else (
    Option.bind (getR h_1 3 0 (some this)) fun v3 =>
    Option.bind (aldI h_1 0 v3 x1_1) fun v4 =>
    Option.bind (getR h_1 3 0 (some this)) fun v5 =>
    Option.bind (astI h_1 v5 x1_1 (if v4 ≤ (9 : Int32) then (F_J11_max (-10 : Int32) v4) else (9999 : Int32))) fun h7 =>
    some (.inl ((x1_1 + (1 : Int32)), h7))
  )
def F_X3_widens (this : Nat) (h0 : HH) : Option HH :=
  Option.bind (lp (fun z => F_X3_widens_B2 this z.1 z.2) 100000 ((0 : Int32), h0)) fun h8 =>
  some h8
set_option maxHeartbeats 4000000 in
theorem w_X3_widens (l : Launch) (hl : l.stackTraces = false) (D : va_G) (dA : Nat → ClassId) (h0 : HH) (this : Nat) (hE : HH) (hF : F_X3_widens this h0 = some hE) : MC D dA l yX3_widens cX3_widens 3 (Option.none : Option Jvm.ClassFile.FieldType) [] 1 21 [va_rf (some this)] h0 (.inr none, hE) := by
  refine mc_of hl (plainFor_of_name pn_X3) (by simp [lg_sl, cat_rf, cat_i, cat_j, cat_f, cat_d]) ?_
  intro p e s m args below meth c R hRf hRl X hr hnm
  unfold F_X3_widens at hF
  rw [show argL [va_rf (some this)] = [some (va_rf (some this))] from by simp [argL, cat_rf, cat_i, cat_j, cat_f, cat_d]]
  refine G.pad 2 (L' := [some (va_rf (some this)), none, none]) rfl ?_
  refine g_iconst (v := (0 : Int32)) X dX3_widens_0 (by decide) ?_
  refine g_istore_n (L' := [some (va_rf (some this)), some (.int (0 : Int32)), none]) X dX3_widens_1 rfl (Nat.le_of_ble_eq_true rfl) (by first | rfl | simp [stL, rm1, clr2, cat_rf, cat_i, cat_j, cat_f, cat_d]) ?_
  obtain ⟨h8, e9, hF⟩ := bnd hF
  refine lp_ind (Gs := (fun z => G p l e R s m args below meth c (RQ D dA h0 (.inr none, hE) below s) D dA h0 3 z.2 2 [some (va_rf (some this)), some (.int z.1), none] [])) (Ge := (fun z => G p l e R s m args below meth c (RQ D dA h0 (.inr none, hE) below s) D dA h0 3 z 45 [none, none, none] [])) ?_ _ _ _ e9 ?_
  · rintro ⟨x1_1, h_1⟩ o hF hgo hr
    change F_X3_widens_B2 this x1_1 h_1 = some o at hF
    unfold F_X3_widens_B2 at hF
    show G p l e R s m args below meth c (RQ D dA h0 (.inr none, hE) below s) D dA h0 3 h_1 2 [some (va_rf (some this)), some (.int x1_1), none] []
    refine g_iload_n X dX3_widens_2 rfl rfl ?_
    refine g_bipush (v := (16 : Int32)) X dX3_widens_3 (by decide) ?_
    refine g_icmp_ge X 45 dX3_widens_5 (by decide) (fun c2 => ?_) (fun c2 => ?_)
    · have hF := (if_pos c2).symm.trans hF
      refine G.drop [false, false, false] rfl ?_
      cases hF
      exact hr _ rfl
    · have hF := (if_neg c2).symm.trans hF
      refine g_aload_n X dX3_widens_8 rfl rfl ?_
      obtain ⟨v3, ev3, hF⟩ := bnd hF
      refine g_get (k := 0) X in_X3 rfl (by decide) q176 (Or.inl rfl) (getR_V ev3) dX3_widens_9 ?_
      refine g_iload_n X dX3_widens_12 rfl rfl ?_
      obtain ⟨v4, ev4, hF⟩ := bnd hF
      refine g_iald X ev4 dX3_widens_13 ?_
      refine g_istore_n (L' := [some (va_rf (some this)), some (.int x1_1), some (.int v4)]) X dX3_widens_14 rfl (Nat.le_of_ble_eq_true rfl) (by first | rfl | simp [stL, rm1, clr2, cat_rf, cat_i, cat_j, cat_f, cat_d]) ?_
      refine g_aload_n X dX3_widens_15 rfl rfl ?_
      obtain ⟨v5, ev5, hF⟩ := bnd hF
      refine g_get (k := 0) X in_X3 rfl (by decide) q176 (Or.inl rfl) (getR_V ev5) dX3_widens_16 ?_
      refine g_iload_n X dX3_widens_19 rfl rfl ?_
      refine g_iload_n X dX3_widens_20 rfl rfl ?_
      refine g_bipush (v := (9 : Int32)) X dX3_widens_21 (by decide) ?_
      suffices K : G p l e R s m args below meth c (RQ D dA h0 (.inr none, hE) below s) D dA h0 3 h_1 38 [some (va_rf (some this)), some (.int x1_1), none] [.int (if v4 ≤ (9 : Int32) then (F_J11_max (-10 : Int32) v4) else (9999 : Int32)), .int x1_1, va_rf v5] by
        refine g_icmp_le X 32 dX3_widens_23 (by decide) (fun c6 => ?_) (fun c6 => ?_)
        · (try simp only [if_pos c6] at K)
          refine g_bipush (v := (-10 : Int32)) X dX3_widens_32 (by decide) ?_
          refine g_iload_n X dX3_widens_34 rfl rfl ?_
          refine g_callS X (w_J11_max l hl D dA h_1 (-10 : Int32) v4) q1438 q357 q108 q358 okn_J11_max ⟨by rw [hRf]; exact Nat.le_of_ble_eq_true rfl, by rw [hRl]; exact Nat.le_of_ble_eq_true rfl⟩ (As := [.int (-10 : Int32), .int v4]) (rest := [.int x1_1, va_rf v5]) rfl (by first | exact Nat.le_of_ble_eq_true rfl | simp [cat_rf, cat_i, cat_j, cat_f, cat_d]) dX3_widens_35 (ac_v ?_)
          refine G.drop [true, true, false] rfl ?_
          first | exact K | (simp only [if_pos c6]; exact K)
        · (try simp only [if_neg c6] at K)
          refine g_sipush (v := (9999 : Int32)) X dX3_widens_26 (by decide) ?_
          refine g_goto X 38 dX3_widens_29 (by decide) ?_
          refine G.drop [true, true, false] rfl ?_
          first | exact K | (simp only [if_neg c6]; exact K)
      obtain ⟨h7, eh7, hF⟩ := bnd hF
      refine g_iast X eh7 dX3_widens_38 ?_
      refine g_iinc (v := (x1_1 + (1 : Int32))) (L' := [some (va_rf (some this)), some (.int (x1_1 + (1 : Int32))), none]) X dX3_widens_39 (Nat.le_of_ble_eq_true rfl) rfl rfl (by first | rfl | simp [stL, rm1, clr2, cat_rf, cat_i, cat_j, cat_f, cat_d]) ?_
      refine g_goto X 2 dX3_widens_42 (by decide) ?_
      cases hF
      exact hgo _ rfl
  show G p l e R s m args below meth c (RQ D dA h0 (.inr none, hE) below s) D dA h0 3 h8 45 [none, none, none] []
  cases hF
  exact g_vret X hr dX3_widens_45
def F_X3_sum_2_B10 (this : Nat) (a1 : Int32) (k4_2 : Option Nat) (x2_2 : Int64) (x5_2 : Int32) (h_2 : HH) : Option ((Int64 × Int32 × HH) ⊕ (Int64 × HH)) :=
  if (29791 : Int32) ≤ x5_2 then (
    some (.inr (x2_2, h_2))
  ) else (
    Option.bind (F_X3_decodes x5_2 k4_2 h_2) fun h4 =>
    Option.bind (isO h4 3 (some this)) fun ob5 =>
    Option.bind (F_X3_has ob5 k4_2 h4) fun v6 =>
    if v6 = 0 then (
      some (.inl ((x2_2 + (0 : Int64)), (x5_2 + (1 : Int32)), h4))
    ) else (
      Option.bind (aldI h4 0 k4_2 a1) fun v8 =>
      some (.inl ((x2_2 + (v8.toInt64)), (x5_2 + (1 : Int32)), h4))
    )
  )
def F_X3_sum_2 (this : Nat) (a1 : Int32) (h0 : HH) : Option (Int64 × HH) :=
  Option.bind (newA h0 0 (3 : Int32)) fun h1 =>
  Option.bind (lp (fun z => F_X3_sum_2_B10 this a1 (some (hSz h0)) z.1 z.2.1 z.2.2) 100000 ((0 : Int64), (0 : Int32), h1)) fun (v9, h10) =>
  some (v9, h10)
set_option maxHeartbeats 4000000 in
theorem w_X3_sum_2 (l : Launch) (hl : l.stackTraces = false) (D : va_G) (dA : Nat → ClassId) (h0 : HH) (this : Nat) (a1 : Int32) (rE : Int64) (hE : HH) (hF : F_X3_sum_2 this a1 h0 = some (rE, hE)) : MC D dA l yX3_sum_2 cX3_sum_2 6 (Option.some Jvm.ClassFile.FieldType.long) [] 2 47 [va_rf (some this), .int a1] h0 (.inr (some (.long rE)), hE) := by
  refine mc_of hl (plainFor_of_name pn_X3) (by simp [lg_sl, cat_rf, cat_i, cat_j, cat_f, cat_d]) ?_
  intro p e s m args below meth c R hRf hRl X hr hnm
  unfold F_X3_sum_2 at hF
  rw [show argL [va_rf (some this), .int a1] = [some (va_rf (some this)), some (.int a1)] from by simp [argL, cat_rf, cat_i, cat_j, cat_f, cat_d]]
  refine G.pad 4 (L' := [some (va_rf (some this)), some (.int a1), none, none, none, none]) rfl ?_
  refine g_lconst (v := (0 : Int64)) X dX3_sum_2_0 (by decide) ?_
  refine g_lstore_n (L' := [some (va_rf (some this)), some (.int a1), some (.long (0 : Int64)), none, none, none]) X dX3_sum_2_1 rfl (Nat.le_of_ble_eq_true rfl) (by first | rfl | simp [stL, rm1, clr2, cat_rf, cat_i, cat_j, cat_f, cat_d]) ?_
  refine g_iconst (v := (3 : Int32)) X dX3_sum_2_2 (by decide) ?_
  obtain ⟨h1, eh1, hF⟩ := bnd hF
  refine g_newa (atype := .int) (t := 0) X q182 rfl (funext fun _ => rfl) (by decide) eh1 dX3_sum_2_3 ?_
  refine g_astore (L' := [some (va_rf (some this)), some (.int a1), some (.long (0 : Int64)), none, some (va_rf (some (hSz h0))), none]) X dX3_sum_2_5 (Nat.le_of_ble_eq_true rfl) (by first | rfl | simp [stL, rm1, clr2, cat_rf, cat_i, cat_j, cat_f, cat_d]) ?_
  refine g_iconst (v := (0 : Int32)) X dX3_sum_2_7 (by decide) ?_
  refine g_istore (L' := [some (va_rf (some this)), some (.int a1), some (.long (0 : Int64)), none, some (va_rf (some (hSz h0))), some (.int (0 : Int32))]) X dX3_sum_2_8 (Nat.le_of_ble_eq_true rfl) (by first | rfl | simp [stL, rm1, clr2, cat_rf, cat_i, cat_j, cat_f, cat_d]) ?_
  obtain ⟨⟨v9, h10⟩, e11, hF⟩ := bnd hF
  dsimp only at hF
  refine lp_ind (Gs := (fun z => G p l e R s m args below meth c (RQ D dA h0 (.inr (some (.long rE)), hE) below s) D dA h0 6 z.2.2 10 [some (va_rf (some this)), some (.int a1), some (.long z.1), none, some (va_rf (some (hSz h0))), some (.int z.2.1)] [])) (Ge := (fun z => G p l e R s m args below meth c (RQ D dA h0 (.inr (some (.long rE)), hE) below s) D dA h0 6 z.2 52 [none, none, some (.long z.1), none, none, none] [])) ?_ _ _ _ e11 ?_
  · rintro ⟨x2_2, x5_2, h_2⟩ o hF hgo hr
    change F_X3_sum_2_B10 this a1 (some (hSz h0)) x2_2 x5_2 h_2 = some o at hF
    generalize (some (hSz h0)) = k4_2 at hF hgo hr ⊢
    unfold F_X3_sum_2_B10 at hF
    show G p l e R s m args below meth c (RQ D dA h0 (.inr (some (.long rE)), hE) below s) D dA h0 6 h_2 10 [some (va_rf (some this)), some (.int a1), some (.long x2_2), none, some (va_rf k4_2), some (.int x5_2)] []
    refine g_iload X dX3_sum_2_10 rfl ?_
    refine g_sipush (v := (29791 : Int32)) X dX3_sum_2_12 (by decide) ?_
    refine g_icmp_ge X 52 dX3_sum_2_15 (by decide) (fun c3 => ?_) (fun c3 => ?_)
    · have hF := (if_pos c3).symm.trans hF
      refine G.drop [false, false, true, false, false, false] rfl ?_
      cases hF
      exact hr _ rfl
    · have hF := (if_neg c3).symm.trans hF
      refine g_iload X dX3_sum_2_18 rfl ?_
      refine g_aload X dX3_sum_2_20 rfl ?_
      obtain ⟨h4, eh4, hF⟩ := bnd hF
      refine g_callS X (w_X3_decodes l hl D dA h_2 x5_2 k4_2 h4 eh4) q799 q800 q97 q801 okn_X3_decodes ⟨by rw [hRf]; exact Nat.le_of_ble_eq_true rfl, by rw [hRl]; exact Nat.le_of_ble_eq_true rfl⟩ (As := [.int x5_2, va_rf k4_2]) (rest := []) rfl (by first | exact Nat.le_of_ble_eq_true rfl | simp [cat_rf, cat_i, cat_j, cat_f, cat_d]) dX3_sum_2_22 (ac_0 ?_)
      refine g_lload_n X dX3_sum_2_25 rfl rfl ?_
      refine g_aload_n X dX3_sum_2_26 rfl rfl ?_
      refine g_aload X dX3_sum_2_27 rfl ?_
      obtain ⟨ob5, eob5, hF⟩ := bnd hF
      obtain ⟨v6, ev6, hF⟩ := bnd hF
      refine g_callV X eob5 rfl rfl (w_X3_has l hl D dA h4 ob5 k4_2 v6 ev6) q802 q803 q804 q97 q805 okn_X3_has ⟨by rw [hRf]; exact Nat.le_of_ble_eq_true rfl, by rw [hRl]; exact Nat.le_of_ble_eq_true rfl⟩ (As := [va_rf k4_2]) (rest := [.long x2_2]) rfl (by first | exact Nat.le_of_ble_eq_true rfl | simp [cat_rf, cat_i, cat_j, cat_f, cat_d]) dX3_sum_2_29 (ac_v ?_)
      refine g_if_eq X 43 dX3_sum_2_32 (by decide) (fun c7 => ?_) (fun c7 => ?_)
      · have hF := (if_pos c7).symm.trans hF
        refine g_lconst (v := (0 : Int64)) X dX3_sum_2_43 (by decide) ?_
        refine g_ladd X dX3_sum_2_44 ?_
        refine g_lstore_n (L' := [some (va_rf (some this)), some (.int a1), some (.long (x2_2 + (0 : Int64))), none, some (va_rf k4_2), some (.int x5_2)]) X dX3_sum_2_45 rfl (Nat.le_of_ble_eq_true rfl) (by first | rfl | simp [stL, rm1, clr2, cat_rf, cat_i, cat_j, cat_f, cat_d]) ?_
        refine g_iinc (v := (x5_2 + (1 : Int32))) (L' := [some (va_rf (some this)), some (.int a1), some (.long (x2_2 + (0 : Int64))), none, some (va_rf k4_2), some (.int (x5_2 + (1 : Int32)))]) X dX3_sum_2_46 (Nat.le_of_ble_eq_true rfl) rfl rfl (by first | rfl | simp [stL, rm1, clr2, cat_rf, cat_i, cat_j, cat_f, cat_d]) ?_
        refine g_goto X 10 dX3_sum_2_49 (by decide) ?_
        cases hF
        exact hgo _ rfl
      · have hF := (if_neg c7).symm.trans hF
        refine g_aload X dX3_sum_2_35 rfl ?_
        refine g_iload_n X dX3_sum_2_37 rfl rfl ?_
        obtain ⟨v8, ev8, hF⟩ := bnd hF
        refine g_iald X ev8 dX3_sum_2_38 ?_
        refine g_i2l X dX3_sum_2_39 ?_
        refine g_goto X 44 dX3_sum_2_40 (by decide) ?_
        refine g_ladd X dX3_sum_2_44 ?_
        refine g_lstore_n (L' := [some (va_rf (some this)), some (.int a1), some (.long (x2_2 + (v8.toInt64))), none, some (va_rf k4_2), some (.int x5_2)]) X dX3_sum_2_45 rfl (Nat.le_of_ble_eq_true rfl) (by first | rfl | simp [stL, rm1, clr2, cat_rf, cat_i, cat_j, cat_f, cat_d]) ?_
        refine g_iinc (v := (x5_2 + (1 : Int32))) (L' := [some (va_rf (some this)), some (.int a1), some (.long (x2_2 + (v8.toInt64))), none, some (va_rf k4_2), some (.int (x5_2 + (1 : Int32)))]) X dX3_sum_2_46 (Nat.le_of_ble_eq_true rfl) rfl rfl (by first | rfl | simp [stL, rm1, clr2, cat_rf, cat_i, cat_j, cat_f, cat_d]) ?_
        refine g_goto X 10 dX3_sum_2_49 (by decide) ?_
        cases hF
        exact hgo _ rfl
  show G p l e R s m args below meth c (RQ D dA h0 (.inr (some (.long rE)), hE) below s) D dA h0 6 h10 52 [none, none, some (.long v9), none, none, none] []
  refine g_lload_n X dX3_sum_2_52 rfl rfl ?_
  cases hF
  exact g_lret X hr dX3_sum_2_53
