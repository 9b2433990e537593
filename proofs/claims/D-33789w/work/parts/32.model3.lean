def F_X4_looksAtMoments_T85 (this : Nat) (a1 : Int32) (a2 : Int32) (x3_3 : Int32) (x4_5 : Int32) (x5_7 : Int32) (y0_85 : Int32) (h_85 : HH) : Option ((Int32 × HH) ⊕ HH) :=
  Option.bind (getI h_85 1 11 (some this)) fun v11 =>
  Option.bind (putV h_85 1 11 (some this) (.int (v11 + (if y0_85 = 0 then (0 : Int32) else (1 : Int32))))) fun h13 =>
  Option.bind (getJ h13 1 12 (some this)) fun v14 =>
  Option.bind (putV h13 1 12 (some this) (.long (v14 + (if y0_85 = 0 then (0 : Int64) else (if a1 = 0 then (x3_3.toInt64) else (if a1 = (1 : Int32) then (x4_5.toInt64) else (x5_7.toInt64))))))) fun h18 =>
  some (.inl ((x5_7 + (1 : Int32)), h18))
def F_X4_looksAtMoments_B31 (this : Nat) (a1 : Int32) (a2 : Int32) (x3_3 : Int32) (x4_5 : Int32) (x5_7 : Int32) (h_7 : HH) : Option ((Int32 × HH) ⊕ HH) :=
  if (30 : Int32) < x5_7 then (
    some (.inr h_7)
  ) else (
    Option.bind (getR h_7 1 0 (some this)) fun v9 =>
    Option.bind (F_X4_allows v9 (0 : Int32) x3_3 x4_5 x5_7 h_7) fun v10 =>
    if v10 = 0 then (
      F_X4_looksAtMoments_T85 this a1 a2 x3_3 x4_5 x5_7 (0 : Int32) h_7
    ) else (
      if a2 < 0 then (
        F_X4_looksAtMoments_T85 this a1 a2 x3_3 x4_5 x5_7 (1 : Int32) h_7
      ) else (
        Option.bind (getR h_7 1 0 (some this)) fun v21 =>
        Option.bind (F_X4_allows v21 ((16 : Int32) + ((16 : Int32) * a2)) x3_3 x4_5 x5_7 h_7) fun v22 =>
        if v22 = 0 then (
          F_X4_looksAtMoments_T85 this a1 a2 x3_3 x4_5 x5_7 (1 : Int32) h_7
        ) else (
          F_X4_looksAtMoments_T85 this a1 a2 x3_3 x4_5 x5_7 (0 : Int32) h_7
        )
      )
    )
  )
def F_X4_looksAtMoments_B21 (this : Nat) (a1 : Int32) (a2 : Int32) (x3_3 : Int32) (x4_5 : Int32) (h_5 : HH) : Option ((Int32 × HH) ⊕ HH) :=
  if (30 : Int32) < x4_5 then (
    some (.inr h_5)
  ) else (
    Option.bind (lp (fun z => F_X4_looksAtMoments_B31 this a1 a2 x3_3 x4_5 z.1 z.2) 100000 ((0 : Int32), h_5)) fun h24 =>
    some (.inl ((x4_5 + (1 : Int32)), h24))
  )
def F_X4_looksAtMoments_B12 (this : Nat) (a1 : Int32) (a2 : Int32) (x3_3 : Int32) (h_3 : HH) : Option ((Int32 × HH) ⊕ HH) :=
  if (30 : Int32) < x3_3 then (
    some (.inr h_3)
  ) else (
    Option.bind (lp (fun z => F_X4_looksAtMoments_B21 this a1 a2 x3_3 z.1 z.2) 100000 ((0 : Int32), h_3)) fun h27 =>
    some (.inl ((x3_3 + (1 : Int32)), h27))
  )
def F_X4_looksAtMoments (this : Nat) (a1 : Int32) (a2 : Int32) (h0 : HH) : Option HH :=
  Option.bind (putV h0 1 11 (some this) (.int (0 : Int32))) fun h1 =>
  Option.bind (putV h1 1 12 (some this) (.long (0 : Int64))) fun h2 =>
  Option.bind (lp (fun z => F_X4_looksAtMoments_B12 this a1 a2 z.1 z.2) 100000 ((0 : Int32), h2)) fun h30 =>
  some h30
set_option maxHeartbeats 4000000 in
theorem w_X4_looksAtMoments (l : Launch) (hl : l.stackTraces = false) (D : va_G) (dA : Nat → ClassId) (h0 : HH) (this : Nat) (a1 : Int32) (a2 : Int32) (hE : HH) (hF : F_X4_looksAtMoments this a1 a2 h0 = some hE) : MC D dA l yX4_looksAtMoments cX4_looksAtMoments 7 (Option.none : Option Jvm.ClassFile.FieldType) [] 1 30 [va_rf (some this), .int a1, .int a2] h0 (.inr none, hE) := by
  refine mc_of hl (plainFor_of_name pn_X4) (by simp [lg_sl, cat_rf, cat_i, cat_j, cat_f, cat_d]) ?_
  intro p e s m args below meth c R hRf hRl X hr hnm
  unfold F_X4_looksAtMoments at hF
  rw [show argL [va_rf (some this), .int a1, .int a2] = [some (va_rf (some this)), some (.int a1), some (.int a2)] from by simp [argL, cat_rf, cat_i, cat_j, cat_f, cat_d]]
  refine G.pad 4 (L' := [some (va_rf (some this)), some (.int a1), some (.int a2), none, none, none, none]) rfl ?_
  refine g_aload_n X dX4_looksAtMoments_0 rfl rfl ?_
  refine g_iconst (v := (0 : Int32)) X dX4_looksAtMoments_1 (by decide) ?_
  obtain ⟨h1, eh1, hF⟩ := bnd hF
  refine g_put (k := 11) X in_X4 tyX4 tyX4_ok nmX4 rfl (by decide) q1774 (Or.inl rfl) rfl (tyX4_ok 11 (by decide)) rfl rfl eh1 dX4_looksAtMoments_2 ?_
  refine g_aload_n X dX4_looksAtMoments_5 rfl rfl ?_
  refine g_lconst (v := (0 : Int64)) X dX4_looksAtMoments_6 (by decide) ?_
  obtain ⟨h2, eh2, hF⟩ := bnd hF
  refine g_put (k := 12) X in_X4 tyX4 tyX4_ok nmX4 rfl (by decide) q1775 (Or.inl rfl) rfl (tyX4_ok 12 (by decide)) rfl rfl eh2 dX4_looksAtMoments_7 ?_
  refine g_iconst (v := (0 : Int32)) X dX4_looksAtMoments_10 (by decide) ?_
  refine g_istore_n (L' := [some (va_rf (some this)), some (.int a1), some (.int a2), some (.int (0 : Int32)), none, none, none]) X dX4_looksAtMoments_11 rfl (Nat.le_of_ble_eq_true rfl) (by first | rfl | simp [stL, rm1, clr2, cat_rf, cat_i, cat_j, cat_f, cat_d]) ?_
  obtain ⟨h30, e31, hF⟩ := bnd hF
  refine lp_ind (Gs := (fun z => G p l e R s m args below meth c (RQ D dA h0 (.inr none, hE) below s) D dA h0 7 z.2 12 [some (va_rf (some this)), some (.int a1), some (.int a2), some (.int z.1), none, none, none] [])) (Ge := (fun z => G p l e R s m args below meth c (RQ D dA h0 (.inr none, hE) below s) D dA h0 7 z 165 [none, none, none, none, none, none, none] [])) ?_ _ _ _ e31 ?_
  · rintro ⟨x3_3, h_3⟩ o hF hgo hr
    change F_X4_looksAtMoments_B12 this a1 a2 x3_3 h_3 = some o at hF
    unfold F_X4_looksAtMoments_B12 at hF
    show G p l e R s m args below meth c (RQ D dA h0 (.inr none, hE) below s) D dA h0 7 h_3 12 [some (va_rf (some this)), some (.int a1), some (.int a2), some (.int x3_3), none, none, none] []
    refine g_iload_n X dX4_looksAtMoments_12 rfl rfl ?_
    refine g_bipush (v := (30 : Int32)) X dX4_looksAtMoments_13 (by decide) ?_
    refine g_icmp_gt X 165 dX4_looksAtMoments_15 (by decide) (fun c4 => ?_) (fun c4 => ?_)
    · have hF := (if_pos c4).symm.trans hF
      refine G.drop [false, false, false, false, false, false, false] rfl ?_
      cases hF
      exact hr _ rfl
    · have hF := (if_neg c4).symm.trans hF
      refine g_iconst (v := (0 : Int32)) X dX4_looksAtMoments_18 (by decide) ?_
      refine g_istore (L' := [some (va_rf (some this)), some (.int a1), some (.int a2), some (.int x3_3), some (.int (0 : Int32)), none, none]) X dX4_looksAtMoments_19 (Nat.le_of_ble_eq_true rfl) (by first | rfl | simp [stL, rm1, clr2, cat_rf, cat_i, cat_j, cat_f, cat_d]) ?_
      obtain ⟨h27, e28, hF⟩ := bnd hF
      refine lp_ind (Gs := (fun z => G p l e R s m args below meth c (RQ D dA h0 (.inr none, hE) below s) D dA h0 7 z.2 21 [some (va_rf (some this)), some (.int a1), some (.int a2), some (.int x3_3), some (.int z.1), none, none] [])) (Ge := (fun z => G p l e R s m args below meth c (RQ D dA h0 (.inr none, hE) below s) D dA h0 7 z 159 [some (va_rf (some this)), some (.int a1), some (.int a2), some (.int x3_3), none, none, none] [])) ?_ _ _ _ e28 ?_
      · rintro ⟨x4_5, h_5⟩ o hF hgo hr
        change F_X4_looksAtMoments_B21 this a1 a2 x3_3 x4_5 h_5 = some o at hF
        unfold F_X4_looksAtMoments_B21 at hF
        show G p l e R s m args below meth c (RQ D dA h0 (.inr none, hE) below s) D dA h0 7 h_5 21 [some (va_rf (some this)), some (.int a1), some (.int a2), some (.int x3_3), some (.int x4_5), none, none] []
        refine g_iload X dX4_looksAtMoments_21 rfl ?_
        refine g_bipush (v := (30 : Int32)) X dX4_looksAtMoments_23 (by decide) ?_
        refine g_icmp_gt X 159 dX4_looksAtMoments_25 (by decide) (fun c6 => ?_) (fun c6 => ?_)
        · have hF := (if_pos c6).symm.trans hF
          refine G.drop [true, true, true, true, false, false, false] rfl ?_
          cases hF
          exact hr _ rfl
        · have hF := (if_neg c6).symm.trans hF
          refine g_iconst (v := (0 : Int32)) X dX4_looksAtMoments_28 (by decide) ?_
          refine g_istore (L' := [some (va_rf (some this)), some (.int a1), some (.int a2), some (.int x3_3), some (.int x4_5), some (.int (0 : Int32)), none]) X dX4_looksAtMoments_29 (Nat.le_of_ble_eq_true rfl) (by first | rfl | simp [stL, rm1, clr2, cat_rf, cat_i, cat_j, cat_f, cat_d]) ?_
          obtain ⟨h24, e25, hF⟩ := bnd hF
          refine lp_ind (Gs := (fun z => G p l e R s m args below meth c (RQ D dA h0 (.inr none, hE) below s) D dA h0 7 z.2 31 [some (va_rf (some this)), some (.int a1), some (.int a2), some (.int x3_3), some (.int x4_5), some (.int z.1), none] [])) (Ge := (fun z => G p l e R s m args below meth c (RQ D dA h0 (.inr none, hE) below s) D dA h0 7 z 153 [some (va_rf (some this)), some (.int a1), some (.int a2), some (.int x3_3), some (.int x4_5), none, none] [])) ?_ _ _ _ e25 ?_
          · rintro ⟨x5_7, h_7⟩ o hF hgo hr
            change F_X4_looksAtMoments_B31 this a1 a2 x3_3 x4_5 x5_7 h_7 = some o at hF
            unfold F_X4_looksAtMoments_B31 at hF
            show G p l e R s m args below meth c (RQ D dA h0 (.inr none, hE) below s) D dA h0 7 h_7 31 [some (va_rf (some this)), some (.int a1), some (.int a2), some (.int x3_3), some (.int x4_5), some (.int x5_7), none] []
            refine g_iload X dX4_looksAtMoments_31 rfl ?_
            refine g_bipush (v := (30 : Int32)) X dX4_looksAtMoments_33 (by decide) ?_
            refine g_icmp_gt X 153 dX4_looksAtMoments_35 (by decide) (fun c8 => ?_) (fun c8 => ?_)
            · have hF := (if_pos c8).symm.trans hF
              refine G.drop [true, true, true, true, true, false, false] rfl ?_
              cases hF
              exact hr _ rfl
            · have hF := (if_neg c8).symm.trans hF
              refine g_aload_n X dX4_looksAtMoments_38 rfl rfl ?_
              obtain ⟨v9, ev9, hF⟩ := bnd hF
              refine g_get (k := 0) X in_X4 rfl (by decide) q1763 (Or.inl rfl) (getR_V ev9) dX4_looksAtMoments_39 ?_
              refine g_iconst (v := (0 : Int32)) X dX4_looksAtMoments_42 (by decide) ?_
              refine g_iload_n X dX4_looksAtMoments_43 rfl rfl ?_
              refine g_iload X dX4_looksAtMoments_44 rfl ?_
              refine g_iload X dX4_looksAtMoments_46 rfl ?_
              obtain ⟨v10, ev10, hF⟩ := bnd hF
              refine g_callS X (w_X4_allows l hl D dA h_7 v9 (0 : Int32) x3_3 x4_5 x5_7 v10 ev10) q2111 q2112 q103 q2113 okn_X4_allows ⟨by rw [hRf]; exact Nat.le_of_ble_eq_true rfl, by rw [hRl]; exact Nat.le_of_ble_eq_true rfl⟩ (As := [va_rf v9, .int (0 : Int32), .int x3_3, .int x4_5, .int x5_7]) (rest := []) rfl (by first | exact Nat.le_of_ble_eq_true rfl | simp [cat_rf, cat_i, cat_j, cat_f, cat_d]) dX4_looksAtMoments_48 (ac_v ?_)
              have T85 : ∀ (y0_85 : Int32) (h_85 : HH) (o : (Int32 × HH) ⊕ HH), F_X4_looksAtMoments_T85 this a1 a2 x3_3 x4_5 x5_7 y0_85 h_85 = some o → (∀ y, o = .inl y → (fun z => G p l e R s m args below meth c (RQ D dA h0 (.inr none, hE) below s) D dA h0 7 z.2 31 [some (va_rf (some this)), some (.int a1), some (.int a2), some (.int x3_3), some (.int x4_5), some (.int z.1), none] []) y) → (∀ r, o = .inr r → (fun z => G p l e R s m args below meth c (RQ D dA h0 (.inr none, hE) below s) D dA h0 7 z 153 [some (va_rf (some this)), some (.int a1), some (.int a2), some (.int x3_3), some (.int x4_5), none, none] []) r) → G p l e R s m args below meth c (RQ D dA h0 (.inr none, hE) below s) D dA h0 7 h_85 85 [some (va_rf (some this)), some (.int a1), some (.int a2), some (.int x3_3), some (.int x4_5), some (.int x5_7), none] [.int y0_85] := by
                intro y0_85 h_85 o hF hgo hr
                unfold F_X4_looksAtMoments_T85 at hF
                refine g_istore (L' := [some (va_rf (some this)), some (.int a1), some (.int a2), some (.int x3_3), some (.int x4_5), some (.int x5_7), some (.int y0_85)]) X dX4_looksAtMoments_85 (Nat.le_of_ble_eq_true rfl) (by first | rfl | simp [stL, rm1, clr2, cat_rf, cat_i, cat_j, cat_f, cat_d]) ?_
                refine g_aload_n X dX4_looksAtMoments_87 rfl rfl ?_
                refine g_dup X dX4_looksAtMoments_88 (cat_rf _) ?_
                obtain ⟨v11, ev11, hF⟩ := bnd hF
                refine g_get (k := 11) X in_X4 rfl (by decide) q1774 (Or.inl rfl) (getI_V ev11) dX4_looksAtMoments_89 ?_
                refine g_iload X dX4_looksAtMoments_92 rfl ?_
                suffices K : G p l e R s m args below meth c (RQ D dA h0 (.inr none, hE) below s) D dA h0 7 h_85 102 [some (va_rf (some this)), some (.int a1), some (.int a2), some (.int x3_3), some (.int x4_5), some (.int x5_7), some (.int y0_85)] [.int (if y0_85 = 0 then (0 : Int32) else (1 : Int32)), .int v11, va_rf (some this)] by
                  refine g_if_eq X 101 dX4_looksAtMoments_94 (by decide) (fun c12 => ?_) (fun c12 => ?_)
                  · (try simp only [if_pos c12] at K)
                    refine g_iconst (v := (0 : Int32)) X dX4_looksAtMoments_101 (by decide) ?_
                    first | exact K | (simp only [if_pos c12]; exact K)
                  · (try simp only [if_neg c12] at K)
                    refine g_iconst (v := (1 : Int32)) X dX4_looksAtMoments_97 (by decide) ?_
                    refine g_goto X 102 dX4_looksAtMoments_98 (by decide) ?_
                    first | exact K | (simp only [if_neg c12]; exact K)
                refine g_iadd X dX4_looksAtMoments_102 ?_
                obtain ⟨h13, eh13, hF⟩ := bnd hF
                refine g_put (k := 11) X in_X4 tyX4 tyX4_ok nmX4 rfl (by decide) q1774 (Or.inl rfl) rfl (tyX4_ok 11 (by decide)) rfl rfl eh13 dX4_looksAtMoments_103 ?_
                refine g_aload_n X dX4_looksAtMoments_106 rfl rfl ?_
                refine g_dup X dX4_looksAtMoments_107 (cat_rf _) ?_
                obtain ⟨v14, ev14, hF⟩ := bnd hF
                refine g_get (k := 12) X in_X4 rfl (by decide) q1775 (Or.inl rfl) (getJ_V ev14) dX4_looksAtMoments_108 ?_
                refine g_iload X dX4_looksAtMoments_111 rfl ?_
                suffices K : G p l e R s m args below meth c (RQ D dA h0 (.inr none, hE) below s) D dA h0 7 h13 143 [some (va_rf (some this)), some (.int a1), some (.int a2), some (.int x3_3), some (.int x4_5), some (.int x5_7), none] [.long (if y0_85 = 0 then (0 : Int64) else (if a1 = 0 then (x3_3.toInt64) else (if a1 = (1 : Int32) then (x4_5.toInt64) else (x5_7.toInt64)))), .long v14, va_rf (some this)] by
                  refine g_if_ne X 120 dX4_looksAtMoments_113 (by decide) (fun c15 => ?_) (fun c15 => ?_)
                  · (try simp only [if_neg c15] at K)
                    refine g_iload_n X dX4_looksAtMoments_120 rfl rfl ?_
                    refine g_if_ne X 129 dX4_looksAtMoments_121 (by decide) (fun c16 => ?_) (fun c16 => ?_)
                    · (try simp only [if_neg c16] at K)
                      refine g_iload_n X dX4_looksAtMoments_129 rfl rfl ?_
                      refine g_iconst (v := (1 : Int32)) X dX4_looksAtMoments_130 (by decide) ?_
                      refine g_icmp_ne X 140 dX4_looksAtMoments_131 (by decide) (fun c17 => ?_) (fun c17 => ?_)
                      · (try simp only [if_neg c17] at K)
                        refine g_iload X dX4_looksAtMoments_140 rfl ?_
                        refine g_i2l X dX4_looksAtMoments_142 ?_
                        refine G.drop [true, true, true, true, true, true, false] rfl ?_
                        first | exact K | (simp only [if_neg c15, if_neg c16, if_neg c17]; exact K)
                      · (try simp only [if_pos c17] at K)
                        refine g_iload X dX4_looksAtMoments_134 rfl ?_
                        refine g_i2l X dX4_looksAtMoments_136 ?_
                        refine g_goto X 143 dX4_looksAtMoments_137 (by decide) ?_
                        refine G.drop [true, true, true, true, true, true, false] rfl ?_
                        first | exact K | (simp only [if_neg c15, if_neg c16, if_pos c17]; exact K)
                    · (try simp only [if_pos c16] at K)
                      refine g_iload_n X dX4_looksAtMoments_124 rfl rfl ?_
                      refine g_i2l X dX4_looksAtMoments_125 ?_
                      refine g_goto X 143 dX4_looksAtMoments_126 (by decide) ?_
                      refine G.drop [true, true, true, true, true, true, false] rfl ?_
                      first | exact K | (simp only [if_neg c15, if_pos c16]; exact K)
                  · (try simp only [if_pos c15] at K)
                    refine g_lconst (v := (0 : Int64)) X dX4_looksAtMoments_116 (by decide) ?_
                    refine g_goto X 143 dX4_looksAtMoments_117 (by decide) ?_
                    refine G.drop [true, true, true, true, true, true, false] rfl ?_
                    first | exact K | (simp only [if_pos c15]; exact K)
                refine g_ladd X dX4_looksAtMoments_143 ?_
                obtain ⟨h18, eh18, hF⟩ := bnd hF
                refine g_put (k := 12) X in_X4 tyX4 tyX4_ok nmX4 rfl (by decide) q1775 (Or.inl rfl) rfl (tyX4_ok 12 (by decide)) rfl rfl eh18 dX4_looksAtMoments_144 ?_
                refine g_iinc (v := (x5_7 + (1 : Int32))) (L' := [some (va_rf (some this)), some (.int a1), some (.int a2), some (.int x3_3), some (.int x4_5), some (.int (x5_7 + (1 : Int32))), none]) X dX4_looksAtMoments_147 (Nat.le_of_ble_eq_true rfl) rfl rfl (by first | rfl | simp [stL, rm1, clr2, cat_rf, cat_i, cat_j, cat_f, cat_d]) ?_
                refine g_goto X 31 dX4_looksAtMoments_150 (by decide) ?_
                cases hF
                exact hgo _ rfl
              refine g_if_eq X 84 dX4_looksAtMoments_51 (by decide) (fun c19 => ?_) (fun c19 => ?_)
              · have hF := (if_pos c19).symm.trans hF
                refine g_iconst (v := (0 : Int32)) X dX4_looksAtMoments_84 (by decide) ?_
                exact T85 _ _ _ hF hgo hr
              · have hF := (if_neg c19).symm.trans hF
                refine g_iload_n X dX4_looksAtMoments_54 rfl rfl ?_
                refine g_if_lt X 80 dX4_looksAtMoments_55 (by decide) (fun c20 => ?_) (fun c20 => ?_)
                · have hF := (if_pos c20).symm.trans hF
                  refine g_iconst (v := (1 : Int32)) X dX4_looksAtMoments_80 (by decide) ?_
                  refine g_goto X 85 dX4_looksAtMoments_81 (by decide) ?_
                  exact T85 _ _ _ hF hgo hr
                · have hF := (if_neg c20).symm.trans hF
                  refine g_aload_n X dX4_looksAtMoments_58 rfl rfl ?_
                  obtain ⟨v21, ev21, hF⟩ := bnd hF
                  refine g_get (k := 0) X in_X4 rfl (by decide) q1763 (Or.inl rfl) (getR_V ev21) dX4_looksAtMoments_59 ?_
                  refine g_bipush (v := (16 : Int32)) X dX4_looksAtMoments_62 (by decide) ?_
                  refine g_bipush (v := (16 : Int32)) X dX4_looksAtMoments_64 (by decide) ?_
                  refine g_iload_n X dX4_looksAtMoments_66 rfl rfl ?_
                  refine g_imul X dX4_looksAtMoments_67 ?_
                  refine g_iadd X dX4_looksAtMoments_68 ?_
                  refine g_iload_n X dX4_looksAtMoments_69 rfl rfl ?_
                  refine g_iload X dX4_looksAtMoments_70 rfl ?_
                  refine g_iload X dX4_looksAtMoments_72 rfl ?_
                  obtain ⟨v22, ev22, hF⟩ := bnd hF
                  refine g_callS X (w_X4_allows l hl D dA h_7 v21 ((16 : Int32) + ((16 : Int32) * a2)) x3_3 x4_5 x5_7 v22 ev22) q2111 q2112 q103 q2113 okn_X4_allows ⟨by rw [hRf]; exact Nat.le_of_ble_eq_true rfl, by rw [hRl]; exact Nat.le_of_ble_eq_true rfl⟩ (As := [va_rf v21, .int ((16 : Int32) + ((16 : Int32) * a2)), .int x3_3, .int x4_5, .int x5_7]) (rest := []) rfl (by first | exact Nat.le_of_ble_eq_true rfl | simp [cat_rf, cat_i, cat_j, cat_f, cat_d]) dX4_looksAtMoments_74 (ac_v ?_)
                  refine g_if_ne X 84 dX4_looksAtMoments_77 (by decide) (fun c23 => ?_) (fun c23 => ?_)
                  · have hF := (if_neg c23).symm.trans hF
                    refine g_iconst (v := (0 : Int32)) X dX4_looksAtMoments_84 (by decide) ?_
                    exact T85 _ _ _ hF hgo hr
                  · have hF := (if_pos c23).symm.trans hF
                    refine g_iconst (v := (1 : Int32)) X dX4_looksAtMoments_80 (by decide) ?_
                    refine g_goto X 85 dX4_looksAtMoments_81 (by decide) ?_
                    exact T85 _ _ _ hF hgo hr
          show G p l e R s m args below meth c (RQ D dA h0 (.inr none, hE) below s) D dA h0 7 h24 153 [some (va_rf (some this)), some (.int a1), some (.int a2), some (.int x3_3), some (.int x4_5), none, none] []
          refine g_iinc (v := (x4_5 + (1 : Int32))) (L' := [some (va_rf (some this)), some (.int a1), some (.int a2), some (.int x3_3), some (.int (x4_5 + (1 : Int32))), none, none]) X dX4_looksAtMoments_153 (Nat.le_of_ble_eq_true rfl) rfl rfl (by first | rfl | simp [stL, rm1, clr2, cat_rf, cat_i, cat_j, cat_f, cat_d]) ?_
          refine g_goto X 21 dX4_looksAtMoments_156 (by decide) ?_
          cases hF
          exact hgo _ rfl
      show G p l e R s m args below meth c (RQ D dA h0 (.inr none, hE) below s) D dA h0 7 h27 159 [some (va_rf (some this)), some (.int a1), some (.int a2), some (.int x3_3), none, none, none] []
      refine g_iinc (v := (x3_3 + (1 : Int32))) (L' := [some (va_rf (some this)), some (.int a1), some (.int a2), some (.int (x3_3 + (1 : Int32))), none, none, none]) X dX4_looksAtMoments_159 (Nat.le_of_ble_eq_true rfl) rfl rfl (by first | rfl | simp [stL, rm1, clr2, cat_rf, cat_i, cat_j, cat_f, cat_d]) ?_
      refine g_goto X 12 dX4_looksAtMoments_162 (by decide) ?_
      cases hF
      exact hgo _ rfl
  show G p l e R s m args below meth c (RQ D dA h0 (.inr none, hE) below s) D dA h0 7 h30 165 [none, none, none, none, none, none, none] []
  cases hF
  exact g_vret X hr dX4_looksAtMoments_165
def F_X4_count (this : Nat) (h0 : HH) : Option (Int32 × HH) :=
  Option.bind (isO h0 1 (some this)) fun ob1 =>
  Option.bind (F_X4_looksAtMoments ob1 (0 : Int32) (-1 : Int32) h0) fun h2 =>
  Option.bind (getI h2 1 11 (some this)) fun v3 =>
  some (v3, h2)
set_option maxHeartbeats 4000000 in
theorem w_X4_count (l : Launch) (hl : l.stackTraces = false) (D : va_G) (dA : Nat → ClassId) (h0 : HH) (this : Nat) (rE : Int32) (hE : HH) (hF : F_X4_count this h0 = some (rE, hE)) : MC D dA l yX4_count cX4_count 1 (Option.some Jvm.ClassFile.FieldType.int) [] 2 56 [va_rf (some this)] h0 (.inr (some (.int rE)), hE) := by
  refine mc_of hl (plainFor_of_name pn_X4) (by simp [lg_sl, cat_rf, cat_i, cat_j, cat_f, cat_d]) ?_
  intro p e s m args below meth c R hRf hRl X hr hnm
  unfold F_X4_count at hF
  rw [show argL [va_rf (some this)] = [some (va_rf (some this))] from by simp [argL, cat_rf, cat_i, cat_j, cat_f, cat_d]]
  refine g_aload_n X dX4_count_0 rfl rfl ?_
  refine g_iconst (v := (0 : Int32)) X dX4_count_1 (by decide) ?_
  refine g_iconst (v := (-1 : Int32)) X dX4_count_2 (by decide) ?_
  obtain ⟨ob1, eob1, hF⟩ := bnd hF
  obtain ⟨h2, eh2, hF⟩ := bnd hF
  refine g_callV X eob1 rfl rfl (w_X4_looksAtMoments l hl D dA h0 ob1 (0 : Int32) (-1 : Int32) h2 eh2) q2126 q2128 qs65 q103 q2129 okn_X4_looksAtMoments ⟨by rw [hRf]; exact Nat.le_of_ble_eq_true rfl, by rw [hRl]; exact Nat.le_of_ble_eq_true rfl⟩ (As := [.int (0 : Int32), .int (-1 : Int32)]) (rest := []) rfl (by first | exact Nat.le_of_ble_eq_true rfl | simp [cat_rf, cat_i, cat_j, cat_f, cat_d]) dX4_count_3 (ac_0 ?_)
  refine g_aload_n X dX4_count_6 rfl rfl ?_
  obtain ⟨v3, ev3, hF⟩ := bnd hF
  refine g_get (k := 11) X in_X4 rfl (by decide) q1774 (Or.inl rfl) (getI_V ev3) dX4_count_7 ?_
  cases hF
  exact g_iret X hr dX4_count_10
def F_X4_toldCount (this : Nat) (h0 : HH) : Option (Int32 × HH) :=
  Option.bind (putV h0 1 8 (some this) (.int (0 : Int32))) fun h1 =>
  Option.bind (isO h1 1 (some this)) fun ob2 =>
  b2 (F_X4_count ob2 h1) fun v4 h3 =>
  some (v4, h3)
set_option maxHeartbeats 4000000 in
theorem w_X4_toldCount (l : Launch) (hl : l.stackTraces = false) (D : va_G) (dA : Nat → ClassId) (h0 : HH) (this : Nat) (rE : Int32) (hE : HH) (hF : F_X4_toldCount this h0 = some (rE, hE)) : MC D dA l yX4_toldCount cX4_toldCount 1 (Option.some Jvm.ClassFile.FieldType.int) [] 3 76 [va_rf (some this)] h0 (.inr (some (.int rE)), hE) := by
  refine mc_of hl (plainFor_of_name pn_X4) (by simp [lg_sl, cat_rf, cat_i, cat_j, cat_f, cat_d]) ?_
  intro p e s m args below meth c R hRf hRl X hr hnm
  unfold F_X4_toldCount at hF
  rw [show argL [va_rf (some this)] = [some (va_rf (some this))] from by simp [argL, cat_rf, cat_i, cat_j, cat_f, cat_d]]
  refine g_aload_n X dX4_toldCount_0 rfl rfl ?_
  refine g_iconst (v := (0 : Int32)) X dX4_toldCount_1 (by decide) ?_
  obtain ⟨h1, eh1, hF⟩ := bnd hF
  refine g_put (k := 8) X in_X4 tyX4 tyX4_ok nmX4 rfl (by decide) q1771 (Or.inl rfl) rfl (tyX4_ok 8 (by decide)) rfl rfl eh1 dX4_toldCount_2 ?_
  refine g_aload_n X dX4_toldCount_5 rfl rfl ?_
  obtain ⟨ob2, eob2, hF⟩ := bnd hF
  obtain ⟨v4, h3, eh3, hF⟩ := b2_some hF
  refine g_callV X eob2 rfl rfl (w_X4_count l hl D dA h1 ob2  v4 h3 eh3) q2122 q2124 qs64 q103 q2125 okn_X4_count ⟨by rw [hRf]; exact Nat.le_of_ble_eq_true rfl, by rw [hRl]; exact Nat.le_of_ble_eq_true rfl⟩ (As := []) (rest := []) rfl (by first | exact Nat.le_of_ble_eq_true rfl | simp [cat_rf, cat_i, cat_j, cat_f, cat_d]) dX4_toldCount_6 (ac_v ?_)
  cases hF
  exact g_iret X hr dX4_toldCount_9
def F_X4_moments (this : Nat) (h0 : HH) : Option (Int32 × HH) :=
  Option.bind (isO h0 1 (some this)) fun ob1 =>
  b2 (F_X4_toldCount ob1 h0) fun v3 h2 =>
  some (v3, h2)
set_option maxHeartbeats 4000000 in
theorem w_X4_moments (l : Launch) (hl : l.stackTraces = false) (D : va_G) (dA : Nat → ClassId) (h0 : HH) (this : Nat) (rE : Int32) (hE : HH) (hF : F_X4_moments this h0 = some (rE, hE)) : MC D dA l yX4_moments cX4_moments 1 (Option.some Jvm.ClassFile.FieldType.int) [] 4 96 [va_rf (some this)] h0 (.inr (some (.int rE)), hE) := by
  refine mc_of hl (plainFor_of_name pn_X4) (by simp [lg_sl, cat_rf, cat_i, cat_j, cat_f, cat_d]) ?_
  intro p e s m args below meth c R hRf hRl X hr hnm
  unfold F_X4_moments at hF
  rw [show argL [va_rf (some this)] = [some (va_rf (some this))] from by simp [argL, cat_rf, cat_i, cat_j, cat_f, cat_d]]
  refine g_aload_n X dX4_moments_0 rfl rfl ?_
  obtain ⟨ob1, eob1, hF⟩ := bnd hF
  obtain ⟨v3, h2, eh2, hF⟩ := b2_some hF
  refine g_callV X eob1 rfl rfl (w_X4_toldCount l hl D dA h0 ob1  v3 h2 eh2) q2118 q2120 qs63 q103 q2121 okn_X4_toldCount ⟨by rw [hRf]; exact Nat.le_of_ble_eq_true rfl, by rw [hRl]; exact Nat.le_of_ble_eq_true rfl⟩ (As := []) (rest := []) rfl (by first | exact Nat.le_of_ble_eq_true rfl | simp [cat_rf, cat_i, cat_j, cat_f, cat_d]) dX4_moments_1 (ac_v ?_)
  cases hF
  exact g_iret X hr dX4_moments_4
def F_X4_momentsTightened (this : Nat) (h0 : HH) : Option (Int32 × HH) :=
  Option.bind (isO h0 1 (some this)) fun ob1 =>
  b2 (F_X4_toldCount ob1 h0) fun v3 h2 =>
  some (v3, h2)
set_option maxHeartbeats 4000000 in
theorem w_X4_momentsTightened (l : Launch) (hl : l.stackTraces = false) (D : va_G) (dA : Nat → ClassId) (h0 : HH) (this : Nat) (rE : Int32) (hE : HH) (hF : F_X4_momentsTightened this h0 = some (rE, hE)) : MC D dA l yX4_momentsTightened cX4_momentsTightened 1 (Option.some Jvm.ClassFile.FieldType.int) [] 4 96 [va_rf (some this)] h0 (.inr (some (.int rE)), hE) := by
  refine mc_of hl (plainFor_of_name pn_X4) (by simp [lg_sl, cat_rf, cat_i, cat_j, cat_f, cat_d]) ?_
  intro p e s m args below meth c R hRf hRl X hr hnm
  unfold F_X4_momentsTightened at hF
  rw [show argL [va_rf (some this)] = [some (va_rf (some this))] from by simp [argL, cat_rf, cat_i, cat_j, cat_f, cat_d]]
  refine g_aload_n X dX4_momentsTightened_0 rfl rfl ?_
  obtain ⟨ob1, eob1, hF⟩ := bnd hF
  obtain ⟨v3, h2, eh2, hF⟩ := b2_some hF
  refine g_callV X eob1 rfl rfl (w_X4_toldCount l hl D dA h0 ob1  v3 h2 eh2) q2118 q2120 qs63 q103 q2121 okn_X4_toldCount ⟨by rw [hRf]; exact Nat.le_of_ble_eq_true rfl, by rw [hRl]; exact Nat.le_of_ble_eq_true rfl⟩ (As := []) (rest := []) rfl (by first | exact Nat.le_of_ble_eq_true rfl | simp [cat_rf, cat_i, cat_j, cat_f, cat_d]) dX4_momentsTightened_1 (ac_v ?_)
  cases hF
  exact g_iret X hr dX4_momentsTightened_4
def F_X4_leastOf (this : Nat) (a1 : Int32) (h0 : HH) : Option (Int32 × HH) :=
  Option.bind (isO h0 1 (some this)) fun ob1 =>
  b2 (F_X4_asks ob1 (F_X4_isClock a1) h0) fun v3 h2 =>
  if v3 = 0 then (
    some ((0 : Int32), h2)
  ) else (
    Option.bind (isO h2 1 (some this)) fun ob5 =>
    b2 (F_X4_looks ob5 h2) fun v7 h6 =>
    if v7 = 0 then (
      Option.bind (isO h6 1 (some this)) fun ob9 =>
      b2 (F_X4_fails ob9 (2 : Int32) h6) fun v11 h10 =>
      some (v11, h10)
    ) else (
      Option.bind (isO h6 1 (some this)) fun ob12 =>
      Option.bind (F_X4_least ob12 a1 h6) fun v13 =>
      some (v13, h6)
    )
  )
set_option maxHeartbeats 4000000 in
theorem w_X4_leastOf (l : Launch) (hl : l.stackTraces = false) (D : va_G) (dA : Nat → ClassId) (h0 : HH) (this : Nat) (a1 : Int32) (rE : Int32) (hE : HH) (hF : F_X4_leastOf this a1 h0 = some (rE, hE)) : MC D dA l yX4_leastOf cX4_leastOf 2 (Option.some Jvm.ClassFile.FieldType.int) [] 3 66 [va_rf (some this), .int a1] h0 (.inr (some (.int rE)), hE) := by
  refine mc_of hl (plainFor_of_name pn_X4) (by simp [lg_sl, cat_rf, cat_i, cat_j, cat_f, cat_d]) ?_
  intro p e s m args below meth c R hRf hRl X hr hnm
  unfold F_X4_leastOf at hF
  rw [show argL [va_rf (some this), .int a1] = [some (va_rf (some this)), some (.int a1)] from by simp [argL, cat_rf, cat_i, cat_j, cat_f, cat_d]]
  refine g_aload_n X dX4_leastOf_0 rfl rfl ?_
  refine g_iload_n X dX4_leastOf_1 rfl rfl ?_
  refine g_callS X (w_X4_isClock l hl D dA h0 a1) q1948 q1949 q103 q1950 okn_X4_isClock ⟨by rw [hRf]; exact Nat.le_of_ble_eq_true rfl, by rw [hRl]; exact Nat.le_of_ble_eq_true rfl⟩ (As := [.int a1]) (rest := [va_rf (some this)]) rfl (by first | exact Nat.le_of_ble_eq_true rfl | simp [cat_rf, cat_i, cat_j, cat_f, cat_d]) dX4_leastOf_2 (ac_v ?_)
  obtain ⟨ob1, eob1, hF⟩ := bnd hF
  obtain ⟨v3, h2, eh2, hF⟩ := b2_some hF
  refine g_callV X eob1 rfl rfl (w_X4_asks l hl D dA h0 ob1 (F_X4_isClock a1) v3 h2 eh2) q2076 q2078 qs60 q103 q2079 okn_X4_asks ⟨by rw [hRf]; exact Nat.le_of_ble_eq_true rfl, by rw [hRl]; exact Nat.le_of_ble_eq_true rfl⟩ (As := [.int (F_X4_isClock a1)]) (rest := []) rfl (by first | exact Nat.le_of_ble_eq_true rfl | simp [cat_rf, cat_i, cat_j, cat_f, cat_d]) dX4_leastOf_5 (ac_v ?_)
  refine g_if_ne X 13 dX4_leastOf_8 (by decide) (fun c4 => ?_) (fun c4 => ?_)
  · have hF := (if_neg c4).symm.trans hF
    refine g_aload_n X dX4_leastOf_13 rfl rfl ?_
    obtain ⟨ob5, eob5, hF⟩ := bnd hF
    obtain ⟨v7, h6, eh6, hF⟩ := b2_some hF
    refine g_callV X eob5 rfl rfl (w_X4_looks l hl D dA h2 ob5  v7 h6 eh6) q1880 q1882 qs34 q103 q1883 okn_X4_looks ⟨by rw [hRf]; exact Nat.le_of_ble_eq_true rfl, by rw [hRl]; exact Nat.le_of_ble_eq_true rfl⟩ (As := []) (rest := []) rfl (by first | exact Nat.le_of_ble_eq_true rfl | simp [cat_rf, cat_i, cat_j, cat_f, cat_d]) dX4_leastOf_14 (ac_v ?_)
    refine g_if_eq X 28 dX4_leastOf_17 (by decide) (fun c8 => ?_) (fun c8 => ?_)
    · have hF := (if_pos c8).symm.trans hF
      refine g_aload_n X dX4_leastOf_28 rfl rfl ?_
      refine g_iconst (v := (2 : Int32)) X dX4_leastOf_29 (by decide) ?_
      obtain ⟨ob9, eob9, hF⟩ := bnd hF
      obtain ⟨v11, h10, eh10, hF⟩ := b2_some hF
      refine g_callV X eob9 rfl rfl (w_X4_fails l hl D dA h6 ob9 (2 : Int32) v11 h10 eh10) q1900 q1902 qs36 q103 q1903 okn_X4_fails ⟨by rw [hRf]; exact Nat.le_of_ble_eq_true rfl, by rw [hRl]; exact Nat.le_of_ble_eq_true rfl⟩ (As := [.int (2 : Int32)]) (rest := []) rfl (by first | exact Nat.le_of_ble_eq_true rfl | simp [cat_rf, cat_i, cat_j, cat_f, cat_d]) dX4_leastOf_30 (ac_v ?_)
      cases hF
      exact g_iret X hr dX4_leastOf_33
    · have hF := (if_neg c8).symm.trans hF
      refine g_aload_n X dX4_leastOf_20 rfl rfl ?_
      refine g_iload_n X dX4_leastOf_21 rfl rfl ?_
      obtain ⟨ob12, eob12, hF⟩ := bnd hF
      obtain ⟨v13, ev13, hF⟩ := bnd hF
      refine g_callV X eob12 rfl rfl (w_X4_least l hl D dA h6 ob12 a1 v13 ev13) q2003 q2005 qs53 q103 q2006 okn_X4_least ⟨by rw [hRf]; exact Nat.le_of_ble_eq_true rfl, by rw [hRl]; exact Nat.le_of_ble_eq_true rfl⟩ (As := [.int a1]) (rest := []) rfl (by first | exact Nat.le_of_ble_eq_true rfl | simp [cat_rf, cat_i, cat_j, cat_f, cat_d]) dX4_leastOf_22 (ac_v ?_)
      refine g_goto X 33 dX4_leastOf_25 (by decide) ?_
      cases hF
      exact g_iret X hr dX4_leastOf_33
  · have hF := (if_pos c4).symm.trans hF
    refine g_iconst (v := (0 : Int32)) X dX4_leastOf_11 (by decide) ?_
    cases hF
    exact g_iret X hr dX4_leastOf_12
def F_X4_mostOf (this : Nat) (a1 : Int32) (h0 : HH) : Option (Int32 × HH) :=
  Option.bind (isO h0 1 (some this)) fun ob1 =>
  b2 (F_X4_asks ob1 (F_X4_isClock a1) h0) fun v3 h2 =>
  if v3 = 0 then (
    some ((0 : Int32), h2)
  ) else (
    Option.bind (isO h2 1 (some this)) fun ob5 =>
    b2 (F_X4_looks ob5 h2) fun v7 h6 =>
    if v7 = 0 then (
      Option.bind (isO h6 1 (some this)) fun ob9 =>
      b2 (F_X4_fails ob9 (2 : Int32) h6) fun v11 h10 =>
      some (v11, h10)
    ) else (
      Option.bind (isO h6 1 (some this)) fun ob12 =>
      Option.bind (F_X4_most ob12 a1 h6) fun v13 =>
      if v13 = (100000 : Int32) then (
        Option.bind (isO h6 1 (some this)) fun ob15 =>
        b2 (F_X4_fails ob15 (2 : Int32) h6) fun v17 h16 =>
        some (v17, h16)
      ) else (
        Option.bind (isO h6 1 (some this)) fun ob18 =>
        Option.bind (F_X4_most ob18 a1 h6) fun v19 =>
        some (v19, h6)
      )
    )
  )
set_option maxHeartbeats 4000000 in
theorem w_X4_mostOf (l : Launch) (hl : l.stackTraces = false) (D : va_G) (dA : Nat → ClassId) (h0 : HH) (this : Nat) (a1 : Int32) (rE : Int32) (hE : HH) (hF : F_X4_mostOf this a1 h0 = some (rE, hE)) : MC D dA l yX4_mostOf cX4_mostOf 2 (Option.some Jvm.ClassFile.FieldType.int) [] 3 66 [va_rf (some this), .int a1] h0 (.inr (some (.int rE)), hE) := by
  refine mc_of hl (plainFor_of_name pn_X4) (by simp [lg_sl, cat_rf, cat_i, cat_j, cat_f, cat_d]) ?_
  intro p e s m args below meth c R hRf hRl X hr hnm
  unfold F_X4_mostOf at hF
  rw [show argL [va_rf (some this), .int a1] = [some (va_rf (some this)), some (.int a1)] from by simp [argL, cat_rf, cat_i, cat_j, cat_f, cat_d]]
  refine g_aload_n X dX4_mostOf_0 rfl rfl ?_
  refine g_iload_n X dX4_mostOf_1 rfl rfl ?_
  refine g_callS X (w_X4_isClock l hl D dA h0 a1) q1948 q1949 q103 q1950 okn_X4_isClock ⟨by rw [hRf]; exact Nat.le_of_ble_eq_true rfl, by rw [hRl]; exact Nat.le_of_ble_eq_true rfl⟩ (As := [.int a1]) (rest := [va_rf (some this)]) rfl (by first | exact Nat.le_of_ble_eq_true rfl | simp [cat_rf, cat_i, cat_j, cat_f, cat_d]) dX4_mostOf_2 (ac_v ?_)
  obtain ⟨ob1, eob1, hF⟩ := bnd hF
  obtain ⟨v3, h2, eh2, hF⟩ := b2_some hF
  refine g_callV X eob1 rfl rfl (w_X4_asks l hl D dA h0 ob1 (F_X4_isClock a1) v3 h2 eh2) q2076 q2078 qs60 q103 q2079 okn_X4_asks ⟨by rw [hRf]; exact Nat.le_of_ble_eq_true rfl, by rw [hRl]; exact Nat.le_of_ble_eq_true rfl⟩ (As := [.int (F_X4_isClock a1)]) (rest := []) rfl (by first | exact Nat.le_of_ble_eq_true rfl | simp [cat_rf, cat_i, cat_j, cat_f, cat_d]) dX4_mostOf_5 (ac_v ?_)
  refine g_if_ne X 13 dX4_mostOf_8 (by decide) (fun c4 => ?_) (fun c4 => ?_)
  · have hF := (if_neg c4).symm.trans hF
    refine g_aload_n X dX4_mostOf_13 rfl rfl ?_
    obtain ⟨ob5, eob5, hF⟩ := bnd hF
    obtain ⟨v7, h6, eh6, hF⟩ := b2_some hF
    refine g_callV X eob5 rfl rfl (w_X4_looks l hl D dA h2 ob5  v7 h6 eh6) q1880 q1882 qs34 q103 q1883 okn_X4_looks ⟨by rw [hRf]; exact Nat.le_of_ble_eq_true rfl, by rw [hRl]; exact Nat.le_of_ble_eq_true rfl⟩ (As := []) (rest := []) rfl (by first | exact Nat.le_of_ble_eq_true rfl | simp [cat_rf, cat_i, cat_j, cat_f, cat_d]) dX4_mostOf_14 (ac_v ?_)
    refine g_if_eq X 38 dX4_mostOf_17 (by decide) (fun c8 => ?_) (fun c8 => ?_)
    · have hF := (if_pos c8).symm.trans hF
      refine g_aload_n X dX4_mostOf_38 rfl rfl ?_
      refine g_iconst (v := (2 : Int32)) X dX4_mostOf_39 (by decide) ?_
      obtain ⟨ob9, eob9, hF⟩ := bnd hF
      obtain ⟨v11, h10, eh10, hF⟩ := b2_some hF
      refine g_callV X eob9 rfl rfl (w_X4_fails l hl D dA h6 ob9 (2 : Int32) v11 h10 eh10) q1900 q1902 qs36 q103 q1903 okn_X4_fails ⟨by rw [hRf]; exact Nat.le_of_ble_eq_true rfl, by rw [hRl]; exact Nat.le_of_ble_eq_true rfl⟩ (As := [.int (2 : Int32)]) (rest := []) rfl (by first | exact Nat.le_of_ble_eq_true rfl | simp [cat_rf, cat_i, cat_j, cat_f, cat_d]) dX4_mostOf_40 (ac_v ?_)
      cases hF
      exact g_iret X hr dX4_mostOf_43
    · have hF := (if_neg c8).symm.trans hF
      refine g_aload_n X dX4_mostOf_20 rfl rfl ?_
      refine g_iload_n X dX4_mostOf_21 rfl rfl ?_
      obtain ⟨ob12, eob12, hF⟩ := bnd hF
      obtain ⟨v13, ev13, hF⟩ := bnd hF
      refine g_callV X eob12 rfl rfl (w_X4_most l hl D dA h6 ob12 a1 v13 ev13) q1951 q1953 qs44 q103 q1954 okn_X4_most ⟨by rw [hRf]; exact Nat.le_of_ble_eq_true rfl, by rw [hRl]; exact Nat.le_of_ble_eq_true rfl⟩ (As := [.int a1]) (rest := []) rfl (by first | exact Nat.le_of_ble_eq_true rfl | simp [cat_rf, cat_i, cat_j, cat_f, cat_d]) dX4_mostOf_22 (ac_v ?_)
      refine g_ldc (v := (100000 : Int32)) X q1762 dX4_mostOf_25 ?_
      refine g_icmp_eq X 38 dX4_mostOf_27 (by decide) (fun c14 => ?_) (fun c14 => ?_)
      · have hF := (if_pos c14).symm.trans hF
        refine g_aload_n X dX4_mostOf_38 rfl rfl ?_
        refine g_iconst (v := (2 : Int32)) X dX4_mostOf_39 (by decide) ?_
        obtain ⟨ob15, eob15, hF⟩ := bnd hF
        obtain ⟨v17, h16, eh16, hF⟩ := b2_some hF
        refine g_callV X eob15 rfl rfl (w_X4_fails l hl D dA h6 ob15 (2 : Int32) v17 h16 eh16) q1900 q1902 qs36 q103 q1903 okn_X4_fails ⟨by rw [hRf]; exact Nat.le_of_ble_eq_true rfl, by rw [hRl]; exact Nat.le_of_ble_eq_true rfl⟩ (As := [.int (2 : Int32)]) (rest := []) rfl (by first | exact Nat.le_of_ble_eq_true rfl | simp [cat_rf, cat_i, cat_j, cat_f, cat_d]) dX4_mostOf_40 (ac_v ?_)
        cases hF
        exact g_iret X hr dX4_mostOf_43
      · have hF := (if_neg c14).symm.trans hF
        refine g_aload_n X dX4_mostOf_30 rfl rfl ?_
        refine g_iload_n X dX4_mostOf_31 rfl rfl ?_
        obtain ⟨ob18, eob18, hF⟩ := bnd hF
        obtain ⟨v19, ev19, hF⟩ := bnd hF
        refine g_callV X eob18 rfl rfl (w_X4_most l hl D dA h6 ob18 a1 v19 ev19) q1951 q1953 qs44 q103 q1954 okn_X4_most ⟨by rw [hRf]; exact Nat.le_of_ble_eq_true rfl, by rw [hRl]; exact Nat.le_of_ble_eq_true rfl⟩ (As := [.int a1]) (rest := []) rfl (by first | exact Nat.le_of_ble_eq_true rfl | simp [cat_rf, cat_i, cat_j, cat_f, cat_d]) dX4_mostOf_32 (ac_v ?_)
        refine g_goto X 43 dX4_mostOf_35 (by decide) ?_
        cases hF
        exact g_iret X hr dX4_mostOf_43
  · have hF := (if_pos c4).symm.trans hF
    refine g_iconst (v := (0 : Int32)) X dX4_mostOf_11 (by decide) ?_
    cases hF
    exact g_iret X hr dX4_mostOf_12
def F_X4_longestDelay_B22 (this : Nat) (a1 : Int32) (a2 : Int32) (a3 : Int32) (x4_5 : Int32) (x5_5 : Int32) (h2 : HH) : Option ((Int32 × Int32) ⊕ Int32) :=
  if (3 : Int32) ≤ x5_5 then (
    some (.inr x4_5)
  ) else (
    Option.bind (getR h2 1 0 (some this)) fun v9 =>
    Option.bind (aldI h2 0 v9 (((0 : Int32) + ((4 : Int32) * x5_5)) + (3 : Int32))) fun v10 =>
    some (.inl ((if v10 = (100000 : Int32) then x4_5 else (F_X4_less x4_5 (v10 - (if x5_5 = 0 then a1 else (if x5_5 = (1 : Int32) then a2 else a3))))), (x5_5 + (1 : Int32))))
  )
def F_X4_longestDelay_T134 (this : Nat) (a1 : Int32) (a2 : Int32) (a3 : Int32) (t4_134 : Int32) (y0_134 : Int32) (h_134 : HH) : Option (Int32 × HH) :=
  if y0_134 = 0 then (
    Option.bind (isO h_134 1 (some this)) fun ob14 =>
    b2 (F_X4_fails ob14 (2 : Int32) h_134) fun v16 h15 =>
    some (v16, h15)
  ) else (
    some (t4_134, h_134)
  )
def F_X4_longestDelay (this : Nat) (a1 : Int32) (a2 : Int32) (a3 : Int32) (h0 : HH) : Option (Int32 × HH) :=
  Option.bind (isO h0 1 (some this)) fun ob1 =>
  b2 (F_X4_asks ob1 (F_X4_isMoment a1 a2 a3) h0) fun v3 h2 =>
  if v3 = 0 then (
    some ((0 : Int32), h2)
  ) else (
    Option.bind (lp (fun z => F_X4_longestDelay_B22 this a1 a2 a3 z.1 z.2 h2) 100000 ((100000 : Int32), (0 : Int32))) fun v12 =>
    if (F_X4_in v12 (0 : Int32) (99999 : Int32)) = 0 then (
      F_X4_longestDelay_T134 this a1 a2 a3 v12 (0 : Int32) h2
    ) else (
      Option.bind (getR h2 1 0 (some this)) fun v18 =>
      Option.bind (F_X4_allows v18 (0 : Int32) (a1 + v12) (a2 + v12) (a3 + v12) h2) fun v19 =>
      if v19 = 0 then (
        F_X4_longestDelay_T134 this a1 a2 a3 v12 (0 : Int32) h2
      ) else (
        F_X4_longestDelay_T134 this a1 a2 a3 v12 (1 : Int32) h2
      )
    )
  )
set_option maxHeartbeats 4000000 in
theorem w_X4_longestDelay (l : Launch) (hl : l.stackTraces = false) (D : va_G) (dA : Nat → ClassId) (h0 : HH) (this : Nat) (a1 : Int32) (a2 : Int32) (a3 : Int32) (rE : Int32) (hE : HH) (hF : F_X4_longestDelay this a1 a2 a3 h0 = some (rE, hE)) : MC D dA l yX4_longestDelay cX4_longestDelay 8 (Option.some Jvm.ClassFile.FieldType.int) [] 2 44 [va_rf (some this), .int a1, .int a2, .int a3] h0 (.inr (some (.int rE)), hE) := by
  refine mc_of hl (plainFor_of_name pn_X4) (by simp [lg_sl, cat_rf, cat_i, cat_j, cat_f, cat_d]) ?_
  intro p e s m args below meth c R hRf hRl X hr hnm
  unfold F_X4_longestDelay at hF
  rw [show argL [va_rf (some this), .int a1, .int a2, .int a3] = [some (va_rf (some this)), some (.int a1), some (.int a2), some (.int a3)] from by simp [argL, cat_rf, cat_i, cat_j, cat_f, cat_d]]
  refine G.pad 4 (L' := [some (va_rf (some this)), some (.int a1), some (.int a2), some (.int a3), none, none, none, none]) rfl ?_
  refine g_aload_n X dX4_longestDelay_0 rfl rfl ?_
  refine g_iload_n X dX4_longestDelay_1 rfl rfl ?_
  refine g_iload_n X dX4_longestDelay_2 rfl rfl ?_
  refine g_iload_n X dX4_longestDelay_3 rfl rfl ?_
  refine g_callS X (w_X4_isMoment l hl D dA h0 a1 a2 a3) q2108 q2109 q103 q2110 okn_X4_isMoment ⟨by rw [hRf]; exact Nat.le_of_ble_eq_true rfl, by rw [hRl]; exact Nat.le_of_ble_eq_true rfl⟩ (As := [.int a1, .int a2, .int a3]) (rest := [va_rf (some this)]) rfl (by first | exact Nat.le_of_ble_eq_true rfl | simp [cat_rf, cat_i, cat_j, cat_f, cat_d]) dX4_longestDelay_4 (ac_v ?_)
  obtain ⟨ob1, eob1, hF⟩ := bnd hF
  obtain ⟨v3, h2, eh2, hF⟩ := b2_some hF
  refine g_callV X eob1 rfl rfl (w_X4_asks l hl D dA h0 ob1 (F_X4_isMoment a1 a2 a3) v3 h2 eh2) q2076 q2078 qs60 q103 q2079 okn_X4_asks ⟨by rw [hRf]; exact Nat.le_of_ble_eq_true rfl, by rw [hRl]; exact Nat.le_of_ble_eq_true rfl⟩ (As := [.int (F_X4_isMoment a1 a2 a3)]) (rest := []) rfl (by first | exact Nat.le_of_ble_eq_true rfl | simp [cat_rf, cat_i, cat_j, cat_f, cat_d]) dX4_longestDelay_7 (ac_v ?_)
  refine g_if_ne X 15 dX4_longestDelay_10 (by decide) (fun c4 => ?_) (fun c4 => ?_)
  · have hF := (if_neg c4).symm.trans hF
    refine g_ldc (v := (100000 : Int32)) X q1762 dX4_longestDelay_15 ?_
    refine g_istore (L' := [some (va_rf (some this)), some (.int a1), some (.int a2), some (.int a3), some (.int (100000 : Int32)), none, none, none]) X dX4_longestDelay_17 (Nat.le_of_ble_eq_true rfl) (by first | rfl | simp [stL, rm1, clr2, cat_rf, cat_i, cat_j, cat_f, cat_d]) ?_
    refine g_iconst (v := (0 : Int32)) X dX4_longestDelay_19 (by decide) ?_
    refine g_istore (L' := [some (va_rf (some this)), some (.int a1), some (.int a2), some (.int a3), some (.int (100000 : Int32)), some (.int (0 : Int32)), none, none]) X dX4_longestDelay_20 (Nat.le_of_ble_eq_true rfl) (by first | rfl | simp [stL, rm1, clr2, cat_rf, cat_i, cat_j, cat_f, cat_d]) ?_
    obtain ⟨v12, e21, hF⟩ := bnd hF
    refine lp_ind (Gs := (fun z => G p l e R s m args below meth c (RQ D dA h0 (.inr (some (.int rE)), hE) below s) D dA h0 8 h2 22 [some (va_rf (some this)), some (.int a1), some (.int a2), some (.int a3), some (.int z.1), some (.int z.2), none, none] [])) (Ge := (fun z => G p l e R s m args below meth c (RQ D dA h0 (.inr (some (.int rE)), hE) below s) D dA h0 8 h2 95 [some (va_rf (some this)), some (.int a1), some (.int a2), some (.int a3), some (.int z), none, none, none] [])) ?_ _ _ _ e21 ?_
    · rintro ⟨x4_5, x5_5⟩ o hF hgo hr
      change F_X4_longestDelay_B22 this a1 a2 a3 x4_5 x5_5 h2 = some o at hF
      unfold F_X4_longestDelay_B22 at hF
      show G p l e R s m args below meth c (RQ D dA h0 (.inr (some (.int rE)), hE) below s) D dA h0 8 h2 22 [some (va_rf (some this)), some (.int a1), some (.int a2), some (.int a3), some (.int x4_5), some (.int x5_5), none, none] []
      refine g_iload X dX4_longestDelay_22 rfl ?_
      refine g_iconst (v := (3 : Int32)) X dX4_longestDelay_24 (by decide) ?_
      refine g_icmp_ge X 95 dX4_longestDelay_25 (by decide) (fun c6 => ?_) (fun c6 => ?_)
      · have hF := (if_pos c6).symm.trans hF
        refine G.drop [true, true, true, true, true, false, false, false] rfl ?_
        cases hF
        exact hr _ rfl
      · have hF := (if_neg c6).symm.trans hF
        refine g_iload X dX4_longestDelay_28 rfl ?_
        suffices K : G p l e R s m args below meth c (RQ D dA h0 (.inr (some (.int rE)), hE) below s) D dA h0 8 h2 48 [some (va_rf (some this)), some (.int a1), some (.int a2), some (.int a3), some (.int x4_5), some (.int x5_5), none, none] [.int (if x5_5 = 0 then a1 else (if x5_5 = (1 : Int32) then a2 else a3))] by
          refine g_if_ne X 37 dX4_longestDelay_30 (by decide) (fun c7 => ?_) (fun c7 => ?_)
          · (try simp only [if_neg c7] at K)
            refine g_iload X dX4_longestDelay_37 rfl ?_
            refine g_iconst (v := (1 : Int32)) X dX4_longestDelay_39 (by decide) ?_
            refine g_icmp_ne X 47 dX4_longestDelay_40 (by decide) (fun c8 => ?_) (fun c8 => ?_)
            · (try simp only [if_neg c8] at K)
              refine g_iload_n X dX4_longestDelay_47 rfl rfl ?_
              first | exact K | (simp only [if_neg c7, if_neg c8]; exact K)
            · (try simp only [if_pos c8] at K)
              refine g_iload_n X dX4_longestDelay_43 rfl rfl ?_
              refine g_goto X 48 dX4_longestDelay_44 (by decide) ?_
              first | exact K | (simp only [if_neg c7, if_pos c8]; exact K)
          · (try simp only [if_pos c7] at K)
            refine g_iload_n X dX4_longestDelay_33 rfl rfl ?_
            refine g_goto X 48 dX4_longestDelay_34 (by decide) ?_
            first | exact K | (simp only [if_pos c7]; exact K)
        refine g_istore (L' := [some (va_rf (some this)), some (.int a1), some (.int a2), some (.int a3), some (.int x4_5), some (.int x5_5), some (.int (if x5_5 = 0 then a1 else (if x5_5 = (1 : Int32) then a2 else a3))), none]) X dX4_longestDelay_48 (Nat.le_of_ble_eq_true rfl) (by first | rfl | simp [stL, rm1, clr2, cat_rf, cat_i, cat_j, cat_f, cat_d]) ?_
        refine g_aload_n X dX4_longestDelay_50 rfl rfl ?_
        obtain ⟨v9, ev9, hF⟩ := bnd hF
        refine g_get (k := 0) X in_X4 rfl (by decide) q1763 (Or.inl rfl) (getR_V ev9) dX4_longestDelay_51 ?_
        refine g_iconst (v := (0 : Int32)) X dX4_longestDelay_54 (by decide) ?_
        refine g_iconst (v := (4 : Int32)) X dX4_longestDelay_55 (by decide) ?_
        refine g_iload X dX4_longestDelay_56 rfl ?_
        refine g_imul X dX4_longestDelay_58 ?_
        refine g_iadd X dX4_longestDelay_59 ?_
        refine g_iconst (v := (3 : Int32)) X dX4_longestDelay_60 (by decide) ?_
        refine g_iadd X dX4_longestDelay_61 ?_
        obtain ⟨v10, ev10, hF⟩ := bnd hF
        refine g_iald X ev10 dX4_longestDelay_62 ?_
        refine g_istore (L' := [some (va_rf (some this)), some (.int a1), some (.int a2), some (.int a3), some (.int x4_5), some (.int x5_5), some (.int (if x5_5 = 0 then a1 else (if x5_5 = (1 : Int32) then a2 else a3))), some (.int v10)]) X dX4_longestDelay_63 (Nat.le_of_ble_eq_true rfl) (by first | rfl | simp [stL, rm1, clr2, cat_rf, cat_i, cat_j, cat_f, cat_d]) ?_
        refine g_iload X dX4_longestDelay_65 rfl ?_
        refine g_ldc (v := (100000 : Int32)) X q1762 dX4_longestDelay_67 ?_
        suffices K : G p l e R s m args below meth c (RQ D dA h0 (.inr (some (.int rE)), hE) below s) D dA h0 8 h2 87 [some (va_rf (some this)), some (.int a1), some (.int a2), some (.int a3), none, some (.int x5_5), none, none] [.int (if v10 = (100000 : Int32) then x4_5 else (F_X4_less x4_5 (v10 - (if x5_5 = 0 then a1 else (if x5_5 = (1 : Int32) then a2 else a3)))))] by
          refine g_icmp_ne X 77 dX4_longestDelay_69 (by decide) (fun c11 => ?_) (fun c11 => ?_)
          · (try simp only [if_neg c11] at K)
            refine g_iload X dX4_longestDelay_77 rfl ?_
            refine g_iload X dX4_longestDelay_79 rfl ?_
            refine g_iload X dX4_longestDelay_81 rfl ?_
            refine g_isub X dX4_longestDelay_83 ?_
            refine g_callS X (w_X4_less l hl D dA h2 x4_5 (v10 - (if x5_5 = 0 then a1 else (if x5_5 = (1 : Int32) then a2 else a3)))) q1893 q1894 q103 q1895 okn_X4_less ⟨by rw [hRf]; exact Nat.le_of_ble_eq_true rfl, by rw [hRl]; exact Nat.le_of_ble_eq_true rfl⟩ (As := [.int x4_5, .int (v10 - (if x5_5 = 0 then a1 else (if x5_5 = (1 : Int32) then a2 else a3)))]) (rest := []) rfl (by first | exact Nat.le_of_ble_eq_true rfl | simp [cat_rf, cat_i, cat_j, cat_f, cat_d]) dX4_longestDelay_84 (ac_v ?_)
            refine G.drop [true, true, true, true, false, true, false, false] rfl ?_
            first | exact K | (simp only [if_neg c11]; exact K)
          · (try simp only [if_pos c11] at K)
            refine g_iload X dX4_longestDelay_72 rfl ?_
            refine g_goto X 87 dX4_longestDelay_74 (by decide) ?_
            refine G.drop [true, true, true, true, false, true, false, false] rfl ?_
            first | exact K | (simp only [if_pos c11]; exact K)
        refine g_istore (L' := [some (va_rf (some this)), some (.int a1), some (.int a2), some (.int a3), some (.int (if v10 = (100000 : Int32) then x4_5 else (F_X4_less x4_5 (v10 - (if x5_5 = 0 then a1 else (if x5_5 = (1 : Int32) then a2 else a3)))))), some (.int x5_5), none, none]) X dX4_longestDelay_87 (Nat.le_of_ble_eq_true rfl) (by first | rfl | simp [stL, rm1, clr2, cat_rf, cat_i, cat_j, cat_f, cat_d]) ?_
        refine g_iinc (v := (x5_5 + (1 : Int32))) (L' := [some (va_rf (some this)), some (.int a1), some (.int a2), some (.int a3), some (.int (if v10 = (100000 : Int32) then x4_5 else (F_X4_less x4_5 (v10 - (if x5_5 = 0 then a1 else (if x5_5 = (1 : Int32) then a2 else a3)))))), some (.int (x5_5 + (1 : Int32))), none, none]) X dX4_longestDelay_89 (Nat.le_of_ble_eq_true rfl) rfl rfl (by first | rfl | simp [stL, rm1, clr2, cat_rf, cat_i, cat_j, cat_f, cat_d]) ?_
        refine g_goto X 22 dX4_longestDelay_92 (by decide) ?_
        cases hF
        exact hgo _ rfl
    show G p l e R s m args below meth c (RQ D dA h0 (.inr (some (.int rE)), hE) below s) D dA h0 8 h2 95 [some (va_rf (some this)), some (.int a1), some (.int a2), some (.int a3), some (.int v12), none, none, none] []
    refine g_iload X dX4_longestDelay_95 rfl ?_
    refine g_iconst (v := (0 : Int32)) X dX4_longestDelay_97 (by decide) ?_
    refine g_ldc (v := (99999 : Int32)) X q2146 dX4_longestDelay_98 ?_
    refine g_callS X (w_X4_in l hl D dA h2 v12 (0 : Int32) (99999 : Int32)) q1873 q1874 q103 q1875 okn_X4_in ⟨by rw [hRf]; exact Nat.le_of_ble_eq_true rfl, by rw [hRl]; exact Nat.le_of_ble_eq_true rfl⟩ (As := [.int v12, .int (0 : Int32), .int (99999 : Int32)]) (rest := []) rfl (by first | exact Nat.le_of_ble_eq_true rfl | simp [cat_rf, cat_i, cat_j, cat_f, cat_d]) dX4_longestDelay_100 (ac_v ?_)
    have T134 : ∀ (t4_134 : Int32) (y0_134 : Int32) (h_134 : HH) , F_X4_longestDelay_T134 this a1 a2 a3 t4_134 y0_134 h_134 = some (rE, hE) → G p l e R s m args below meth c (RQ D dA h0 (.inr (some (.int rE)), hE) below s) D dA h0 8 h_134 134 [some (va_rf (some this)), none, none, none, some (.int t4_134), none, none, none] [.int y0_134] := by
      intro t4_134 y0_134 h_134  hF 
      unfold F_X4_longestDelay_T134 at hF
      refine g_istore (L' := [some (va_rf (some this)), none, none, none, some (.int t4_134), some (.int y0_134), none, none]) X dX4_longestDelay_134 (Nat.le_of_ble_eq_true rfl) (by first | rfl | simp [stL, rm1, clr2, cat_rf, cat_i, cat_j, cat_f, cat_d]) ?_
      refine g_iload X dX4_longestDelay_136 rfl ?_
      refine g_if_eq X 146 dX4_longestDelay_138 (by decide) (fun c13 => ?_) (fun c13 => ?_)
      · have hF := (if_pos c13).symm.trans hF
        refine g_aload_n X dX4_longestDelay_146 rfl rfl ?_
        refine g_iconst (v := (2 : Int32)) X dX4_longestDelay_147 (by decide) ?_
        obtain ⟨ob14, eob14, hF⟩ := bnd hF
        obtain ⟨v16, h15, eh15, hF⟩ := b2_some hF
        refine g_callV X eob14 rfl rfl (w_X4_fails l hl D dA h_134 ob14 (2 : Int32) v16 h15 eh15) q1900 q1902 qs36 q103 q1903 okn_X4_fails ⟨by rw [hRf]; exact Nat.le_of_ble_eq_true rfl, by rw [hRl]; exact Nat.le_of_ble_eq_true rfl⟩ (As := [.int (2 : Int32)]) (rest := []) rfl (by first | exact Nat.le_of_ble_eq_true rfl | simp [cat_rf, cat_i, cat_j, cat_f, cat_d]) dX4_longestDelay_148 (ac_v ?_)
        cases hF
        exact g_iret X hr dX4_longestDelay_151
      · have hF := (if_neg c13).symm.trans hF
        refine g_iload X dX4_longestDelay_141 rfl ?_
        refine g_goto X 151 dX4_longestDelay_143 (by decide) ?_
        cases hF
        exact g_iret X hr dX4_longestDelay_151
    refine g_if_eq X 133 dX4_longestDelay_103 (by decide) (fun c17 => ?_) (fun c17 => ?_)
    · have hF := (if_pos c17).symm.trans hF
      refine g_iconst (v := (0 : Int32)) X dX4_longestDelay_133 (by decide) ?_
      refine G.drop [true, false, false, false, true, false, false, false] rfl ?_
      exact T134 _ _ _ hF
    · have hF := (if_neg c17).symm.trans hF
      refine g_aload_n X dX4_longestDelay_106 rfl rfl ?_
      obtain ⟨v18, ev18, hF⟩ := bnd hF
      refine g_get (k := 0) X in_X4 rfl (by decide) q1763 (Or.inl rfl) (getR_V ev18) dX4_longestDelay_107 ?_
      refine g_iconst (v := (0 : Int32)) X dX4_longestDelay_110 (by decide) ?_
      refine g_iload_n X dX4_longestDelay_111 rfl rfl ?_
      refine g_iload X dX4_longestDelay_112 rfl ?_
      refine g_iadd X dX4_longestDelay_114 ?_
      refine g_iload_n X dX4_longestDelay_115 rfl rfl ?_
      refine g_iload X dX4_longestDelay_116 rfl ?_
      refine g_iadd X dX4_longestDelay_118 ?_
      refine g_iload_n X dX4_longestDelay_119 rfl rfl ?_
      refine g_iload X dX4_longestDelay_120 rfl ?_
      refine g_iadd X dX4_longestDelay_122 ?_
      obtain ⟨v19, ev19, hF⟩ := bnd hF
      refine g_callS X (w_X4_allows l hl D dA h2 v18 (0 : Int32) (a1 + v12) (a2 + v12) (a3 + v12) v19 ev19) q2111 q2112 q103 q2113 okn_X4_allows ⟨by rw [hRf]; exact Nat.le_of_ble_eq_true rfl, by rw [hRl]; exact Nat.le_of_ble_eq_true rfl⟩ (As := [va_rf v18, .int (0 : Int32), .int (a1 + v12), .int (a2 + v12), .int (a3 + v12)]) (rest := []) rfl (by first | exact Nat.le_of_ble_eq_true rfl | simp [cat_rf, cat_i, cat_j, cat_f, cat_d]) dX4_longestDelay_123 (ac_v ?_)
      refine g_if_eq X 133 dX4_longestDelay_126 (by decide) (fun c20 => ?_) (fun c20 => ?_)
      · have hF := (if_pos c20).symm.trans hF
        refine g_iconst (v := (0 : Int32)) X dX4_longestDelay_133 (by decide) ?_
        refine G.drop [true, false, false, false, true, false, false, false] rfl ?_
        exact T134 _ _ _ hF
      · have hF := (if_neg c20).symm.trans hF
        refine g_iconst (v := (1 : Int32)) X dX4_longestDelay_129 (by decide) ?_
        refine g_goto X 134 dX4_longestDelay_130 (by decide) ?_
        refine G.drop [true, false, false, false, true, false, false, false] rfl ?_
        exact T134 _ _ _ hF
  · have hF := (if_pos c4).symm.trans hF
    refine g_iconst (v := (0 : Int32)) X dX4_longestDelay_13 (by decide) ?_
    cases hF
    exact g_iret X hr dX4_longestDelay_14
def F_X4_isNeedless (this : Nat) (a1 : Int32) (h0 : HH) : Option (Int32 × HH) :=
  if (a1 / (4 : Int32)) = (a1 - a1 / (4 : Int32) * (4 : Int32)) then (
    some ((0 : Int32), h0)
  ) else (
    Option.bind (getR h0 1 0 (some this)) fun v3 =>
    Option.bind (aldI h0 0 v3 ((0 : Int32) + a1)) fun v4 =>
    if v4 = (if (a1 / (4 : Int32)) = (3 : Int32) then (0 : Int32) else (100000 : Int32)) then (
      some ((0 : Int32), h0)
    ) else (
      Option.bind (getR h0 1 0 (some this)) fun v6 =>
      Option.bind (getR h0 1 10 (some this)) fun v7 =>
      Option.bind (F_X4_carries v6 (0 : Int32) v7 (0 : Int32) h0) fun h8 =>
      Option.bind (getR h8 1 10 (some this)) fun v9 =>
      Option.bind (astI h8 v9 a1 (if (a1 / (4 : Int32)) = (3 : Int32) then (0 : Int32) else (100000 : Int32))) fun h10 =>
      Option.bind (getR h10 1 10 (some this)) fun v11 =>
      b2 (F_X4_tightens v11 (0 : Int32) h10) fun v13 h12 =>
      Option.bind (getR h12 1 10 (some this)) fun v14 =>
      Option.bind (aldI h12 0 v14 a1) fun v15 =>
      Option.bind (getR h12 1 0 (some this)) fun v16 =>
      Option.bind (aldI h12 0 v16 ((0 : Int32) + a1)) fun v17 =>
      some ((if v17 < v15 then (0 : Int32) else (1 : Int32)), h12)
    )
  )
set_option maxHeartbeats 4000000 in
theorem w_X4_isNeedless (l : Launch) (hl : l.stackTraces = false) (D : va_G) (dA : Nat → ClassId) (h0 : HH) (this : Nat) (a1 : Int32) (rE : Int32) (hE : HH) (hF : F_X4_isNeedless this a1 h0 = some (rE, hE)) : MC D dA l yX4_isNeedless cX4_isNeedless 3 (Option.some Jvm.ClassFile.FieldType.boolean) [] 2 46 [va_rf (some this), .int a1] h0 (.inr (some (.int rE)), hE) := by
  refine mc_of hl (plainFor_of_name pn_X4) (by simp [lg_sl, cat_rf, cat_i, cat_j, cat_f, cat_d]) ?_
  intro p e s m args below meth c R hRf hRl X hr hnm
  unfold F_X4_isNeedless at hF
  rw [show argL [va_rf (some this), .int a1] = [some (va_rf (some this)), some (.int a1)] from by simp [argL, cat_rf, cat_i, cat_j, cat_f, cat_d]]
  refine G.pad 1 (L' := [some (va_rf (some this)), some (.int a1), none]) rfl ?_
  refine g_iload_n X dX4_isNeedless_0 rfl rfl ?_
  refine g_iconst (v := (4 : Int32)) X dX4_isNeedless_1 (by decide) ?_
  refine g_idiv X dX4_isNeedless_2 (by decide) ?_
  refine g_iconst (v := (3 : Int32)) X dX4_isNeedless_3 (by decide) ?_
  suffices K : G p l e R s m args below meth c (RQ D dA h0 (.inr (some (.int rE)), hE) below s) D dA h0 3 h0 13 [some (va_rf (some this)), some (.int a1), none] [.int (if (a1 / (4 : Int32)) = (3 : Int32) then (0 : Int32) else (100000 : Int32))] by
    refine g_icmp_ne X 11 dX4_isNeedless_4 (by decide) (fun c1 => ?_) (fun c1 => ?_)
    · (try simp only [if_neg c1] at K)
      refine g_ldc (v := (100000 : Int32)) X q1762 dX4_isNeedless_11 ?_
      first | exact K | (simp only [if_neg c1]; exact K)
    · (try simp only [if_pos c1] at K)
      refine g_iconst (v := (0 : Int32)) X dX4_isNeedless_7 (by decide) ?_
      refine g_goto X 13 dX4_isNeedless_8 (by decide) ?_
      first | exact K | (simp only [if_pos c1]; exact K)
  refine g_istore_n (L' := [some (va_rf (some this)), some (.int a1), some (.int (if (a1 / (4 : Int32)) = (3 : Int32) then (0 : Int32) else (100000 : Int32)))]) X dX4_isNeedless_13 rfl (Nat.le_of_ble_eq_true rfl) (by first | rfl | simp [stL, rm1, clr2, cat_rf, cat_i, cat_j, cat_f, cat_d]) ?_
  refine g_iload_n X dX4_isNeedless_14 rfl rfl ?_
  refine g_iconst (v := (4 : Int32)) X dX4_isNeedless_15 (by decide) ?_
  refine g_idiv X dX4_isNeedless_16 (by decide) ?_
  refine g_iload_n X dX4_isNeedless_17 rfl rfl ?_
  refine g_iconst (v := (4 : Int32)) X dX4_isNeedless_18 (by decide) ?_
  refine g_irem X dX4_isNeedless_19 (by decide) ?_
  refine g_icmp_eq X 35 dX4_isNeedless_20 (by decide) (fun c2 => ?_) (fun c2 => ?_)
  · have hF := (if_pos c2).symm.trans hF
    refine g_iconst (v := (0 : Int32)) X dX4_isNeedless_35 (by decide) ?_
    cases hF
    exact g_zret X hr rfl dX4_isNeedless_36
  · have hF := (if_neg c2).symm.trans hF
    refine g_aload_n X dX4_isNeedless_23 rfl rfl ?_
    obtain ⟨v3, ev3, hF⟩ := bnd hF
    refine g_get (k := 0) X in_X4 rfl (by decide) q1763 (Or.inl rfl) (getR_V ev3) dX4_isNeedless_24 ?_
    refine g_iconst (v := (0 : Int32)) X dX4_isNeedless_27 (by decide) ?_
    refine g_iload_n X dX4_isNeedless_28 rfl rfl ?_
    refine g_iadd X dX4_isNeedless_29 ?_
    obtain ⟨v4, ev4, hF⟩ := bnd hF
    refine g_iald X ev4 dX4_isNeedless_30 ?_
    refine g_iload_n X dX4_isNeedless_31 rfl rfl ?_
    refine g_icmp_ne X 37 dX4_isNeedless_32 (by decide) (fun c5 => ?_) (fun c5 => ?_)
    · have hF := (if_neg c5).symm.trans hF
      refine g_aload_n X dX4_isNeedless_37 rfl rfl ?_
      obtain ⟨v6, ev6, hF⟩ := bnd hF
      refine g_get (k := 0) X in_X4 rfl (by decide) q1763 (Or.inl rfl) (getR_V ev6) dX4_isNeedless_38 ?_
      refine g_iconst (v := (0 : Int32)) X dX4_isNeedless_41 (by decide) ?_
      refine g_aload_n X dX4_isNeedless_42 rfl rfl ?_
      obtain ⟨v7, ev7, hF⟩ := bnd hF
      refine g_get (k := 10) X in_X4 rfl (by decide) q1773 (Or.inl rfl) (getR_V ev7) dX4_isNeedless_43 ?_
      refine g_iconst (v := (0 : Int32)) X dX4_isNeedless_46 (by decide) ?_
      obtain ⟨h8, eh8, hF⟩ := bnd hF
      refine g_callS X (w_X4_carries l hl D dA h0 v6 (0 : Int32) v7 (0 : Int32) h8 eh8) q1884 q1885 q103 q1886 okn_X4_carries ⟨by rw [hRf]; exact Nat.le_of_ble_eq_true rfl, by rw [hRl]; exact Nat.le_of_ble_eq_true rfl⟩ (As := [va_rf v6, .int (0 : Int32), va_rf v7, .int (0 : Int32)]) (rest := []) rfl (by first | exact Nat.le_of_ble_eq_true rfl | simp [cat_rf, cat_i, cat_j, cat_f, cat_d]) dX4_isNeedless_47 (ac_0 ?_)
      refine g_aload_n X dX4_isNeedless_50 rfl rfl ?_
      obtain ⟨v9, ev9, hF⟩ := bnd hF
      refine g_get (k := 10) X in_X4 rfl (by decide) q1773 (Or.inl rfl) (getR_V ev9) dX4_isNeedless_51 ?_
      refine g_iload_n X dX4_isNeedless_54 rfl rfl ?_
      refine g_iload_n X dX4_isNeedless_55 rfl rfl ?_
      obtain ⟨h10, eh10, hF⟩ := bnd hF
      refine g_iast X eh10 dX4_isNeedless_56 ?_
      refine g_aload_n X dX4_isNeedless_57 rfl rfl ?_
      obtain ⟨v11, ev11, hF⟩ := bnd hF
      refine g_get (k := 10) X in_X4 rfl (by decide) q1773 (Or.inl rfl) (getR_V ev11) dX4_isNeedless_58 ?_
      refine g_iconst (v := (0 : Int32)) X dX4_isNeedless_61 (by decide) ?_
      obtain ⟨v13, h12, eh12, hF⟩ := b2_some hF
      refine g_callS X (w_X4_tightens l hl D dA h10 v11 (0 : Int32) v13 h12 eh12) q1887 q1888 q103 q1889 okn_X4_tightens ⟨by rw [hRf]; exact Nat.le_of_ble_eq_true rfl, by rw [hRl]; exact Nat.le_of_ble_eq_true rfl⟩ (As := [va_rf v11, .int (0 : Int32)]) (rest := []) rfl (by first | exact Nat.le_of_ble_eq_true rfl | simp [cat_rf, cat_i, cat_j, cat_f, cat_d]) dX4_isNeedless_62 (ac_v ?_)
      refine g_pop X dX4_isNeedless_65 rfl ?_
      refine g_aload_n X dX4_isNeedless_66 rfl rfl ?_
      obtain ⟨v14, ev14, hF⟩ := bnd hF
      refine g_get (k := 10) X in_X4 rfl (by decide) q1773 (Or.inl rfl) (getR_V ev14) dX4_isNeedless_67 ?_
      refine g_iload_n X dX4_isNeedless_70 rfl rfl ?_
      obtain ⟨v15, ev15, hF⟩ := bnd hF
      refine g_iald X ev15 dX4_isNeedless_71 ?_
      refine g_aload_n X dX4_isNeedless_72 rfl rfl ?_
      obtain ⟨v16, ev16, hF⟩ := bnd hF
      refine g_get (k := 0) X in_X4 rfl (by decide) q1763 (Or.inl rfl) (getR_V ev16) dX4_isNeedless_73 ?_
      refine g_iconst (v := (0 : Int32)) X dX4_isNeedless_76 (by decide) ?_
      refine g_iload_n X dX4_isNeedless_77 rfl rfl ?_
      refine g_iadd X dX4_isNeedless_78 ?_
      obtain ⟨v17, ev17, hF⟩ := bnd hF
      refine g_iald X ev17 dX4_isNeedless_79 ?_
      suffices K : G p l e R s m args below meth c (RQ D dA h0 (.inr (some (.int rE)), hE) below s) D dA h0 3 h12 88 [none, none, none] [.int (if v17 < v15 then (0 : Int32) else (1 : Int32))] by
        refine g_icmp_gt X 87 dX4_isNeedless_80 (by decide) (fun c18 => ?_) (fun c18 => ?_)
        · (try simp only [if_pos c18] at K)
          refine g_iconst (v := (0 : Int32)) X dX4_isNeedless_87 (by decide) ?_
          refine G.drop [false, false, false] rfl ?_
          first | exact K | (simp only [if_pos c18]; exact K)
        · (try simp only [if_neg c18] at K)
          refine g_iconst (v := (1 : Int32)) X dX4_isNeedless_83 (by decide) ?_
          refine g_goto X 88 dX4_isNeedless_84 (by decide) ?_
          refine G.drop [false, false, false] rfl ?_
          first | exact K | (simp only [if_neg c18]; exact K)
      cases hF
      exact g_zret X hr (by (repeat' split) <;> rfl) dX4_isNeedless_88
    · have hF := (if_pos c5).symm.trans hF
      refine g_iconst (v := (0 : Int32)) X dX4_isNeedless_35 (by decide) ?_
      cases hF
      exact g_zret X hr rfl dX4_isNeedless_36
def F_X4_needless_B17 (this : Nat) (x1_8 : Int32) (x2_8 : Int32) (h_8 : HH) : Option ((Int32 × Int32 × HH) ⊕ (Int32 × HH)) :=
  if (16 : Int32) ≤ x2_8 then (
    some (.inr (x1_8, h_8))
  ) else (
    Option.bind (isO h_8 1 (some this)) fun ob10 =>
    b2 (F_X4_isNeedless ob10 x2_8 h_8) fun v12 h11 =>
    some (.inl ((x1_8 + (if v12 = 0 then (0 : Int32) else (1 : Int32))), (x2_8 + (1 : Int32)), h11))
  )
def F_X4_needless (this : Nat) (h0 : HH) : Option (Int32 × HH) :=
  Option.bind (isO h0 1 (some this)) fun ob1 =>
  b2 (F_X4_looks ob1 h0) fun v3 h2 =>
  Option.bind (isO h2 1 (some this)) fun ob4 =>
  b2 (F_X4_asks ob4 v3 h2) fun v6 h5 =>
  if v6 = 0 then (
    some ((0 : Int32), h5)
  ) else (
    Option.bind (lp (fun z => F_X4_needless_B17 this z.1 z.2.1 z.2.2) 100000 ((0 : Int32), (0 : Int32), h5)) fun (v14, h15) =>
    some (v14, h15)
  )
set_option maxHeartbeats 4000000 in
theorem w_X4_needless (l : Launch) (hl : l.stackTraces = false) (D : va_G) (dA : Nat → ClassId) (h0 : HH) (this : Nat) (rE : Int32) (hE : HH) (hF : F_X4_needless this h0 = some (rE, hE)) : MC D dA l yX4_needless cX4_needless 3 (Option.some Jvm.ClassFile.FieldType.int) [] 3 68 [va_rf (some this)] h0 (.inr (some (.int rE)), hE) := by
  refine mc_of hl (plainFor_of_name pn_X4) (by simp [lg_sl, cat_rf, cat_i, cat_j, cat_f, cat_d]) ?_
  intro p e s m args below meth c R hRf hRl X hr hnm
  unfold F_X4_needless at hF
  rw [show argL [va_rf (some this)] = [some (va_rf (some this))] from by simp [argL, cat_rf, cat_i, cat_j, cat_f, cat_d]]
  refine G.pad 2 (L' := [some (va_rf (some this)), none, none]) rfl ?_
  refine g_aload_n X dX4_needless_0 rfl rfl ?_
  refine g_aload_n X dX4_needless_1 rfl rfl ?_
  obtain ⟨ob1, eob1, hF⟩ := bnd hF
  obtain ⟨v3, h2, eh2, hF⟩ := b2_some hF
  refine g_callV X eob1 rfl rfl (w_X4_looks l hl D dA h0 ob1  v3 h2 eh2) q1880 q1882 qs34 q103 q1883 okn_X4_looks ⟨by rw [hRf]; exact Nat.le_of_ble_eq_true rfl, by rw [hRl]; exact Nat.le_of_ble_eq_true rfl⟩ (As := []) (rest := [va_rf (some this)]) rfl (by first | exact Nat.le_of_ble_eq_true rfl | simp [cat_rf, cat_i, cat_j, cat_f, cat_d]) dX4_needless_2 (ac_v ?_)
  obtain ⟨ob4, eob4, hF⟩ := bnd hF
  obtain ⟨v6, h5, eh5, hF⟩ := b2_some hF
  refine g_callV X eob4 rfl rfl (w_X4_asks l hl D dA h2 ob4 v3 v6 h5 eh5) q2076 q2078 qs60 q103 q2079 okn_X4_asks ⟨by rw [hRf]; exact Nat.le_of_ble_eq_true rfl, by rw [hRl]; exact Nat.le_of_ble_eq_true rfl⟩ (As := [.int v3]) (rest := []) rfl (by first | exact Nat.le_of_ble_eq_true rfl | simp [cat_rf, cat_i, cat_j, cat_f, cat_d]) dX4_needless_5 (ac_v ?_)
  refine g_if_ne X 13 dX4_needless_8 (by decide) (fun c7 => ?_) (fun c7 => ?_)
  · have hF := (if_neg c7).symm.trans hF
    refine g_iconst (v := (0 : Int32)) X dX4_needless_13 (by decide) ?_
    refine g_istore_n (L' := [some (va_rf (some this)), some (.int (0 : Int32)), none]) X dX4_needless_14 rfl (Nat.le_of_ble_eq_true rfl) (by first | rfl | simp [stL, rm1, clr2, cat_rf, cat_i, cat_j, cat_f, cat_d]) ?_
    refine g_iconst (v := (0 : Int32)) X dX4_needless_15 (by decide) ?_
    refine g_istore_n (L' := [some (va_rf (some this)), some (.int (0 : Int32)), some (.int (0 : Int32))]) X dX4_needless_16 rfl (Nat.le_of_ble_eq_true rfl) (by first | rfl | simp [stL, rm1, clr2, cat_rf, cat_i, cat_j, cat_f, cat_d]) ?_
    obtain ⟨⟨v14, h15⟩, e16, hF⟩ := bnd hF
    dsimp only at hF
    refine lp_ind (Gs := (fun z => G p l e R s m args below meth c (RQ D dA h0 (.inr (some (.int rE)), hE) below s) D dA h0 3 z.2.2 17 [some (va_rf (some this)), some (.int z.1), some (.int z.2.1)] [])) (Ge := (fun z => G p l e R s m args below meth c (RQ D dA h0 (.inr (some (.int rE)), hE) below s) D dA h0 3 z.2 45 [none, some (.int z.1), none] [])) ?_ _ _ _ e16 ?_
    · rintro ⟨x1_8, x2_8, h_8⟩ o hF hgo hr
      change F_X4_needless_B17 this x1_8 x2_8 h_8 = some o at hF
      unfold F_X4_needless_B17 at hF
      show G p l e R s m args below meth c (RQ D dA h0 (.inr (some (.int rE)), hE) below s) D dA h0 3 h_8 17 [some (va_rf (some this)), some (.int x1_8), some (.int x2_8)] []
      refine g_iload_n X dX4_needless_17 rfl rfl ?_
      refine g_bipush (v := (16 : Int32)) X dX4_needless_18 (by decide) ?_
      refine g_icmp_ge X 45 dX4_needless_20 (by decide) (fun c9 => ?_) (fun c9 => ?_)
      · have hF := (if_pos c9).symm.trans hF
        refine G.drop [false, true, false] rfl ?_
        cases hF
        exact hr _ rfl
      · have hF := (if_neg c9).symm.trans hF
        refine g_iload_n X dX4_needless_23 rfl rfl ?_
        refine g_aload_n X dX4_needless_24 rfl rfl ?_
        refine g_iload_n X dX4_needless_25 rfl rfl ?_
        obtain ⟨ob10, eob10, hF⟩ := bnd hF
        obtain ⟨v12, h11, eh11, hF⟩ := b2_some hF
        refine g_callV X eob10 rfl rfl (w_X4_isNeedless l hl D dA h_8 ob10 x2_8 v12 h11 eh11) q2151 q2153 qs66 q103 q2154 okn_X4_isNeedless ⟨by rw [hRf]; exact Nat.le_of_ble_eq_true rfl, by rw [hRl]; exact Nat.le_of_ble_eq_true rfl⟩ (As := [.int x2_8]) (rest := [.int x1_8]) rfl (by first | exact Nat.le_of_ble_eq_true rfl | simp [cat_rf, cat_i, cat_j, cat_f, cat_d]) dX4_needless_26 (ac_v ?_)
        suffices K : G p l e R s m args below meth c (RQ D dA h0 (.inr (some (.int rE)), hE) below s) D dA h0 3 h11 37 [some (va_rf (some this)), none, some (.int x2_8)] [.int (if v12 = 0 then (0 : Int32) else (1 : Int32)), .int x1_8] by
          refine g_if_eq X 36 dX4_needless_29 (by decide) (fun c13 => ?_) (fun c13 => ?_)
          · (try simp only [if_pos c13] at K)
            refine g_iconst (v := (0 : Int32)) X dX4_needless_36 (by decide) ?_
            refine G.drop [true, false, true] rfl ?_
            first | exact K | (simp only [if_pos c13]; exact K)
          · (try simp only [if_neg c13] at K)
            refine g_iconst (v := (1 : Int32)) X dX4_needless_32 (by decide) ?_
            refine g_goto X 37 dX4_needless_33 (by decide) ?_
            refine G.drop [true, false, true] rfl ?_
            first | exact K | (simp only [if_neg c13]; exact K)
        refine g_iadd X dX4_needless_37 ?_
        refine g_istore_n (L' := [some (va_rf (some this)), some (.int (x1_8 + (if v12 = 0 then (0 : Int32) else (1 : Int32)))), some (.int x2_8)]) X dX4_needless_38 rfl (Nat.le_of_ble_eq_true rfl) (by first | rfl | simp [stL, rm1, clr2, cat_rf, cat_i, cat_j, cat_f, cat_d]) ?_
        refine g_iinc (v := (x2_8 + (1 : Int32))) (L' := [some (va_rf (some this)), some (.int (x1_8 + (if v12 = 0 then (0 : Int32) else (1 : Int32)))), some (.int (x2_8 + (1 : Int32)))]) X dX4_needless_39 (Nat.le_of_ble_eq_true rfl) rfl rfl (by first | rfl | simp [stL, rm1, clr2, cat_rf, cat_i, cat_j, cat_f, cat_d]) ?_
        refine g_goto X 17 dX4_needless_42 (by decide) ?_
        cases hF
        exact hgo _ rfl
    show G p l e R s m args below meth c (RQ D dA h0 (.inr (some (.int rE)), hE) below s) D dA h0 3 h15 45 [none, some (.int v14), none] []
    refine g_iload_n X dX4_needless_45 rfl rfl ?_
    cases hF
    exact g_iret X hr dX4_needless_46
  · have hF := (if_pos c7).symm.trans hF
    refine g_iconst (v := (0 : Int32)) X dX4_needless_11 (by decide) ?_
    cases hF
    exact g_iret X hr dX4_needless_12
def F_X4_isShelfEmpty (this : Nat) (a1 : Int32) (h0 : HH) : Option (Int32 × HH) :=
  Option.bind (isO h0 1 (some this)) fun ob1 =>
  b2 (F_X4_asks ob1 (F_X4_isSlot a1) h0) fun v3 h2 =>
  if v3 = 0 then (
    some ((0 : Int32), h2)
  ) else (
    Option.bind (isO h2 1 (some this)) fun ob5 =>
    Option.bind (F_X4_hasZone ob5 a1 h2) fun v6 =>
    some ((if v6 = 0 then (1 : Int32) else (0 : Int32)), h2)
  )
set_option maxHeartbeats 4000000 in
theorem w_X4_isShelfEmpty (l : Launch) (hl : l.stackTraces = false) (D : va_G) (dA : Nat → ClassId) (h0 : HH) (this : Nat) (a1 : Int32) (rE : Int32) (hE : HH) (hF : F_X4_isShelfEmpty this a1 h0 = some (rE, hE)) : MC D dA l yX4_isShelfEmpty cX4_isShelfEmpty 2 (Option.some Jvm.ClassFile.FieldType.boolean) [] 2 42 [va_rf (some this), .int a1] h0 (.inr (some (.int rE)), hE) := by
  refine mc_of hl (plainFor_of_name pn_X4) (by simp [lg_sl, cat_rf, cat_i, cat_j, cat_f, cat_d]) ?_
  intro p e s m args below meth c R hRf hRl X hr hnm
  unfold F_X4_isShelfEmpty at hF
  rw [show argL [va_rf (some this), .int a1] = [some (va_rf (some this)), some (.int a1)] from by simp [argL, cat_rf, cat_i, cat_j, cat_f, cat_d]]
  refine g_aload_n X dX4_isShelfEmpty_0 rfl rfl ?_
  refine g_iload_n X dX4_isShelfEmpty_1 rfl rfl ?_
  refine g_callS X (w_X4_isSlot l hl D dA h0 a1) q2019 q2020 q103 q2021 okn_X4_isSlot ⟨by rw [hRf]; exact Nat.le_of_ble_eq_true rfl, by rw [hRl]; exact Nat.le_of_ble_eq_true rfl⟩ (As := [.int a1]) (rest := [va_rf (some this)]) rfl (by first | exact Nat.le_of_ble_eq_true rfl | simp [cat_rf, cat_i, cat_j, cat_f, cat_d]) dX4_isShelfEmpty_2 (ac_v ?_)
  obtain ⟨ob1, eob1, hF⟩ := bnd hF
  obtain ⟨v3, h2, eh2, hF⟩ := b2_some hF
  refine g_callV X eob1 rfl rfl (w_X4_asks l hl D dA h0 ob1 (F_X4_isSlot a1) v3 h2 eh2) q2076 q2078 qs60 q103 q2079 okn_X4_asks ⟨by rw [hRf]; exact Nat.le_of_ble_eq_true rfl, by rw [hRl]; exact Nat.le_of_ble_eq_true rfl⟩ (As := [.int (F_X4_isSlot a1)]) (rest := []) rfl (by first | exact Nat.le_of_ble_eq_true rfl | simp [cat_rf, cat_i, cat_j, cat_f, cat_d]) dX4_isShelfEmpty_5 (ac_v ?_)
  refine g_if_eq X 23 dX4_isShelfEmpty_8 (by decide) (fun c4 => ?_) (fun c4 => ?_)
  · have hF := (if_pos c4).symm.trans hF
    refine g_iconst (v := (0 : Int32)) X dX4_isShelfEmpty_23 (by decide) ?_
    cases hF
    exact g_zret X hr rfl dX4_isShelfEmpty_24
  · have hF := (if_neg c4).symm.trans hF
    refine g_aload_n X dX4_isShelfEmpty_11 rfl rfl ?_
    refine g_iload_n X dX4_isShelfEmpty_12 rfl rfl ?_
    obtain ⟨ob5, eob5, hF⟩ := bnd hF
    obtain ⟨v6, ev6, hF⟩ := bnd hF
    refine g_callV X eob5 rfl rfl (w_X4_hasZone l hl D dA h2 ob5 a1 v6 ev6) q2026 q2028 qs55 q103 q2029 okn_X4_hasZone ⟨by rw [hRf]; exact Nat.le_of_ble_eq_true rfl, by rw [hRl]; exact Nat.le_of_ble_eq_true rfl⟩ (As := [.int a1]) (rest := []) rfl (by first | exact Nat.le_of_ble_eq_true rfl | simp [cat_rf, cat_i, cat_j, cat_f, cat_d]) dX4_isShelfEmpty_13 (ac_v ?_)
    suffices K : G p l e R s m args below meth c (RQ D dA h0 (.inr (some (.int rE)), hE) below s) D dA h0 2 h2 24 [none, none] [.int (if v6 = 0 then (1 : Int32) else (0 : Int32))] by
      refine g_if_ne X 23 dX4_isShelfEmpty_16 (by decide) (fun c7 => ?_) (fun c7 => ?_)
      · (try simp only [if_neg c7] at K)
        refine g_iconst (v := (0 : Int32)) X dX4_isShelfEmpty_23 (by decide) ?_
        refine G.drop [false, false] rfl ?_
        first | exact K | (simp only [if_neg c7]; exact K)
      · (try simp only [if_pos c7] at K)
        refine g_iconst (v := (1 : Int32)) X dX4_isShelfEmpty_19 (by decide) ?_
        refine g_goto X 24 dX4_isShelfEmpty_20 (by decide) ?_
        refine G.drop [false, false] rfl ?_
        first | exact K | (simp only [if_pos c7]; exact K)
    cases hF
    exact g_zret X hr (by (repeat' split) <;> rfl) dX4_isShelfEmpty_24
def F_X4_asksShelf (this : Nat) (a1 : Int32) (h0 : HH) : Option (Int32 × HH) :=
  Option.bind (isO h0 1 (some this)) fun ob1 =>
  b2 (F_X4_asks ob1 (F_X4_isSlot a1) h0) fun v3 h2 =>
  if v3 = 0 then (
    some ((0 : Int32), h2)
  ) else (
    Option.bind (isO h2 1 (some this)) fun ob5 =>
    Option.bind (F_X4_hasZone ob5 a1 h2) fun v6 =>
    Option.bind (putV h2 1 8 (some this) (.int (if v6 = 0 then (2 : Int32) else (0 : Int32)))) fun h8 =>
    Option.bind (getI h8 1 8 (some this)) fun v9 =>
    some ((if v9 = 0 then (1 : Int32) else (0 : Int32)), h8)
  )
set_option maxHeartbeats 4000000 in
theorem w_X4_asksShelf (l : Launch) (hl : l.stackTraces = false) (D : va_G) (dA : Nat → ClassId) (h0 : HH) (this : Nat) (a1 : Int32) (rE : Int32) (hE : HH) (hF : F_X4_asksShelf this a1 h0 = some (rE, hE)) : MC D dA l yX4_asksShelf cX4_asksShelf 2 (Option.some Jvm.ClassFile.FieldType.boolean) [] 2 42 [va_rf (some this), .int a1] h0 (.inr (some (.int rE)), hE) := by
  refine mc_of hl (plainFor_of_name pn_X4) (by simp [lg_sl, cat_rf, cat_i, cat_j, cat_f, cat_d]) ?_
  intro p e s m args below meth c R hRf hRl X hr hnm
  unfold F_X4_asksShelf at hF
  rw [show argL [va_rf (some this), .int a1] = [some (va_rf (some this)), some (.int a1)] from by simp [argL, cat_rf, cat_i, cat_j, cat_f, cat_d]]
  refine g_aload_n X dX4_asksShelf_0 rfl rfl ?_
  refine g_iload_n X dX4_asksShelf_1 rfl rfl ?_
  refine g_callS X (w_X4_isSlot l hl D dA h0 a1) q2019 q2020 q103 q2021 okn_X4_isSlot ⟨by rw [hRf]; exact Nat.le_of_ble_eq_true rfl, by rw [hRl]; exact Nat.le_of_ble_eq_true rfl⟩ (As := [.int a1]) (rest := [va_rf (some this)]) rfl (by first | exact Nat.le_of_ble_eq_true rfl | simp [cat_rf, cat_i, cat_j, cat_f, cat_d]) dX4_asksShelf_2 (ac_v ?_)
  obtain ⟨ob1, eob1, hF⟩ := bnd hF
  obtain ⟨v3, h2, eh2, hF⟩ := b2_some hF
  refine g_callV X eob1 rfl rfl (w_X4_asks l hl D dA h0 ob1 (F_X4_isSlot a1) v3 h2 eh2) q2076 q2078 qs60 q103 q2079 okn_X4_asks ⟨by rw [hRf]; exact Nat.le_of_ble_eq_true rfl, by rw [hRl]; exact Nat.le_of_ble_eq_true rfl⟩ (As := [.int (F_X4_isSlot a1)]) (rest := []) rfl (by first | exact Nat.le_of_ble_eq_true rfl | simp [cat_rf, cat_i, cat_j, cat_f, cat_d]) dX4_asksShelf_5 (ac_v ?_)
  refine g_if_ne X 13 dX4_asksShelf_8 (by decide) (fun c4 => ?_) (fun c4 => ?_)
  · have hF := (if_neg c4).symm.trans hF
    refine g_aload_n X dX4_asksShelf_13 rfl rfl ?_
    refine g_aload_n X dX4_asksShelf_14 rfl rfl ?_
    refine g_iload_n X dX4_asksShelf_15 rfl rfl ?_
    obtain ⟨ob5, eob5, hF⟩ := bnd hF
    obtain ⟨v6, ev6, hF⟩ := bnd hF
    refine g_callV X eob5 rfl rfl (w_X4_hasZone l hl D dA h2 ob5 a1 v6 ev6) q2026 q2028 qs55 q103 q2029 okn_X4_hasZone ⟨by rw [hRf]; exact Nat.le_of_ble_eq_true rfl, by rw [hRl]; exact Nat.le_of_ble_eq_true rfl⟩ (As := [.int a1]) (rest := [va_rf (some this)]) rfl (by first | exact Nat.le_of_ble_eq_true rfl | simp [cat_rf, cat_i, cat_j, cat_f, cat_d]) dX4_asksShelf_16 (ac_v ?_)
    suffices K : G p l e R s m args below meth c (RQ D dA h0 (.inr (some (.int rE)), hE) below s) D dA h0 2 h2 27 [some (va_rf (some this)), none] [.int (if v6 = 0 then (2 : Int32) else (0 : Int32)), va_rf (some this)] by
      refine g_if_eq X 26 dX4_asksShelf_19 (by decide) (fun c7 => ?_) (fun c7 => ?_)
      · (try simp only [if_pos c7] at K)
        refine g_iconst (v := (2 : Int32)) X dX4_asksShelf_26 (by decide) ?_
        refine G.drop [true, false] rfl ?_
        first | exact K | (simp only [if_pos c7]; exact K)
      · (try simp only [if_neg c7] at K)
        refine g_iconst (v := (0 : Int32)) X dX4_asksShelf_22 (by decide) ?_
        refine g_goto X 27 dX4_asksShelf_23 (by decide) ?_
        refine G.drop [true, false] rfl ?_
        first | exact K | (simp only [if_neg c7]; exact K)
    obtain ⟨h8, eh8, hF⟩ := bnd hF
    refine g_put (k := 8) X in_X4 tyX4 tyX4_ok nmX4 rfl (by decide) q1771 (Or.inl rfl) rfl (tyX4_ok 8 (by decide)) rfl rfl eh8 dX4_asksShelf_27 ?_
    refine g_aload_n X dX4_asksShelf_30 rfl rfl ?_
    obtain ⟨v9, ev9, hF⟩ := bnd hF
    refine g_get (k := 8) X in_X4 rfl (by decide) q1771 (Or.inl rfl) (getI_V ev9) dX4_asksShelf_31 ?_
    suffices K : G p l e R s m args below meth c (RQ D dA h0 (.inr (some (.int rE)), hE) below s) D dA h0 2 h8 42 [none, none] [.int (if v9 = 0 then (1 : Int32) else (0 : Int32))] by
      refine g_if_ne X 41 dX4_asksShelf_34 (by decide) (fun c10 => ?_) (fun c10 => ?_)
      · (try simp only [if_neg c10] at K)
        refine g_iconst (v := (0 : Int32)) X dX4_asksShelf_41 (by decide) ?_
        refine G.drop [false, false] rfl ?_
        first | exact K | (simp only [if_neg c10]; exact K)
      · (try simp only [if_pos c10] at K)
        refine g_iconst (v := (1 : Int32)) X dX4_asksShelf_37 (by decide) ?_
        refine g_goto X 42 dX4_asksShelf_38 (by decide) ?_
        refine G.drop [false, false] rfl ?_
        first | exact K | (simp only [if_pos c10]; exact K)
    cases hF
    exact g_zret X hr (by (repeat' split) <;> rfl) dX4_asksShelf_42
  · have hF := (if_pos c4).symm.trans hF
    refine g_iconst (v := (0 : Int32)) X dX4_asksShelf_11 (by decide) ?_
    cases hF
    exact g_zret X hr rfl dX4_asksShelf_12
def F_X4_isInside_B6 (a1 : Option Nat) (a2 : Int32) (a3 : Option Nat) (a4 : Int32) (x4_1 : Int32) (x5_1 : Int32) (h0 : HH) : Option ((Int32 × Int32) ⊕ Int32) :=
  if (16 : Int32) ≤ x5_1 then (
    some (.inr x4_1)
  ) else (
    if x4_1 = 0 then (
      some (.inl ((0 : Int32), (x5_1 + (1 : Int32))))
    ) else (
      Option.bind (aldI h0 0 a1 (a2 + x5_1)) fun v4 =>
      Option.bind (aldI h0 0 a3 (a4 + x5_1)) fun v5 =>
      some (.inl ((if v5 < v4 then (0 : Int32) else (1 : Int32)), (x5_1 + (1 : Int32))))
    )
  )
def F_X4_isInside (a1 : Option Nat) (a2 : Int32) (a3 : Option Nat) (a4 : Int32) (h0 : HH) : Option Int32 :=
  Option.bind (lp (fun z => F_X4_isInside_B6 a1 a2 a3 a4 z.1 z.2 h0) 100000 ((1 : Int32), (0 : Int32))) fun v7 =>
  Option.bind (okZ v7) fun _ =>
  some v7
set_option maxHeartbeats 4000000 in
theorem w_X4_isInside (l : Launch) (hl : l.stackTraces = false) (D : va_G) (dA : Nat → ClassId) (h0 : HH) (a1 : Option Nat) (a2 : Int32) (a3 : Option Nat) (a4 : Int32) (rE : Int32) (hF : F_X4_isInside a1 a2 a3 a4 h0 = some rE) : MC D dA l yX4_isInside cX4_isInside 6 (Option.some Jvm.ClassFile.FieldType.boolean) [] 0 0 [va_rf a1, .int a2, va_rf a3, .int a4] h0 (.inr (some (.int rE)), h0) := by
  refine mc_of hl (plainFor_of_name pn_X4) (by simp [lg_sl, cat_rf, cat_i, cat_j, cat_f, cat_d]) ?_
  intro p e s m args below meth c R hRf hRl X hr hnm
  unfold F_X4_isInside at hF
  rw [show argL [va_rf a1, .int a2, va_rf a3, .int a4] = [some (va_rf a1), some (.int a2), some (va_rf a3), some (.int a4)] from by simp [argL, cat_rf, cat_i, cat_j, cat_f, cat_d]]
  refine G.pad 2 (L' := [some (va_rf a1), some (.int a2), some (va_rf a3), some (.int a4), none, none]) rfl ?_
  refine g_iconst (v := (1 : Int32)) X dX4_isInside_0 (by decide) ?_
  refine g_istore (L' := [some (va_rf a1), some (.int a2), some (va_rf a3), some (.int a4), some (.int (1 : Int32)), none]) X dX4_isInside_1 (Nat.le_of_ble_eq_true rfl) (by first | rfl | simp [stL, rm1, clr2, cat_rf, cat_i, cat_j, cat_f, cat_d]) ?_
  refine g_iconst (v := (0 : Int32)) X dX4_isInside_3 (by decide) ?_
  refine g_istore (L' := [some (va_rf a1), some (.int a2), some (va_rf a3), some (.int a4), some (.int (1 : Int32)), some (.int (0 : Int32))]) X dX4_isInside_4 (Nat.le_of_ble_eq_true rfl) (by first | rfl | simp [stL, rm1, clr2, cat_rf, cat_i, cat_j, cat_f, cat_d]) ?_
  obtain ⟨v7, e9, hF⟩ := bnd hF
  refine lp_ind (Gs := (fun z => G p l e R s m args below meth c (RQ D dA h0 (.inr (some (.int rE)), h0) below s) D dA h0 6 h0 6 [some (va_rf a1), some (.int a2), some (va_rf a3), some (.int a4), some (.int z.1), some (.int z.2)] [])) (Ge := (fun z => G p l e R s m args below meth c (RQ D dA h0 (.inr (some (.int rE)), h0) below s) D dA h0 6 h0 46 [none, none, none, none, some (.int z), none] [])) ?_ _ _ _ e9 ?_
  · rintro ⟨x4_1, x5_1⟩ o hF hgo hr
    change F_X4_isInside_B6 a1 a2 a3 a4 x4_1 x5_1 h0 = some o at hF
    unfold F_X4_isInside_B6 at hF
    show G p l e R s m args below meth c (RQ D dA h0 (.inr (some (.int rE)), h0) below s) D dA h0 6 h0 6 [some (va_rf a1), some (.int a2), some (va_rf a3), some (.int a4), some (.int x4_1), some (.int x5_1)] []
    refine g_iload X dX4_isInside_6 rfl ?_
    refine g_bipush (v := (16 : Int32)) X dX4_isInside_8 (by decide) ?_
    refine g_icmp_ge X 46 dX4_isInside_10 (by decide) (fun c2 => ?_) (fun c2 => ?_)
    · have hF := (if_pos c2).symm.trans hF
      refine G.drop [false, false, false, false, true, false] rfl ?_
      cases hF
      exact hr _ rfl
    · have hF := (if_neg c2).symm.trans hF
      refine g_iload X dX4_isInside_13 rfl ?_
      refine g_if_eq X 37 dX4_isInside_15 (by decide) (fun c3 => ?_) (fun c3 => ?_)
      · have hF := (if_pos c3).symm.trans hF
        refine g_iconst (v := (0 : Int32)) X dX4_isInside_37 (by decide) ?_
        refine g_istore (L' := [some (va_rf a1), some (.int a2), some (va_rf a3), some (.int a4), some (.int (0 : Int32)), some (.int x5_1)]) X dX4_isInside_38 (Nat.le_of_ble_eq_true rfl) (by first | rfl | simp [stL, rm1, clr2, cat_rf, cat_i, cat_j, cat_f, cat_d]) ?_
        refine g_iinc (v := (x5_1 + (1 : Int32))) (L' := [some (va_rf a1), some (.int a2), some (va_rf a3), some (.int a4), some (.int (0 : Int32)), some (.int (x5_1 + (1 : Int32)))]) X dX4_isInside_40 (Nat.le_of_ble_eq_true rfl) rfl rfl (by first | rfl | simp [stL, rm1, clr2, cat_rf, cat_i, cat_j, cat_f, cat_d]) ?_
        refine g_goto X 6 dX4_isInside_43 (by decide) ?_
        cases hF
        exact hgo _ rfl
      · have hF := (if_neg c3).symm.trans hF
        refine g_aload_n X dX4_isInside_18 rfl rfl ?_
        refine g_iload_n X dX4_isInside_19 rfl rfl ?_
        refine g_iload X dX4_isInside_20 rfl ?_
        refine g_iadd X dX4_isInside_22 ?_
        obtain ⟨v4, ev4, hF⟩ := bnd hF
        refine g_iald X ev4 dX4_isInside_23 ?_
        refine g_aload_n X dX4_isInside_24 rfl rfl ?_
        refine g_iload_n X dX4_isInside_25 rfl rfl ?_
        refine g_iload X dX4_isInside_26 rfl ?_
        refine g_iadd X dX4_isInside_28 ?_
        obtain ⟨v5, ev5, hF⟩ := bnd hF
        refine g_iald X ev5 dX4_isInside_29 ?_
        suffices K : G p l e R s m args below meth c (RQ D dA h0 (.inr (some (.int rE)), h0) below s) D dA h0 6 h0 38 [some (va_rf a1), some (.int a2), some (va_rf a3), some (.int a4), none, some (.int x5_1)] [.int (if v5 < v4 then (0 : Int32) else (1 : Int32))] by
          refine g_icmp_gt X 37 dX4_isInside_30 (by decide) (fun c6 => ?_) (fun c6 => ?_)
          · (try simp only [if_pos c6] at K)
            refine g_iconst (v := (0 : Int32)) X dX4_isInside_37 (by decide) ?_
            refine G.drop [true, true, true, true, false, true] rfl ?_
            first | exact K | (simp only [if_pos c6]; exact K)
          · (try simp only [if_neg c6] at K)
            refine g_iconst (v := (1 : Int32)) X dX4_isInside_33 (by decide) ?_
            refine g_goto X 38 dX4_isInside_34 (by decide) ?_
            refine G.drop [true, true, true, true, false, true] rfl ?_
            first | exact K | (simp only [if_neg c6]; exact K)
        refine g_istore (L' := [some (va_rf a1), some (.int a2), some (va_rf a3), some (.int a4), some (.int (if v5 < v4 then (0 : Int32) else (1 : Int32))), some (.int x5_1)]) X dX4_isInside_38 (Nat.le_of_ble_eq_true rfl) (by first | rfl | simp [stL, rm1, clr2, cat_rf, cat_i, cat_j, cat_f, cat_d]) ?_
        refine g_iinc (v := (x5_1 + (1 : Int32))) (L' := [some (va_rf a1), some (.int a2), some (va_rf a3), some (.int a4), some (.int (if v5 < v4 then (0 : Int32) else (1 : Int32))), some (.int (x5_1 + (1 : Int32)))]) X dX4_isInside_40 (Nat.le_of_ble_eq_true rfl) rfl rfl (by first | rfl | simp [stL, rm1, clr2, cat_rf, cat_i, cat_j, cat_f, cat_d]) ?_
        refine g_goto X 6 dX4_isInside_43 (by decide) ?_
        cases hF
        exact hgo _ rfl
  show G p l e R s m args below meth c (RQ D dA h0 (.inr (some (.int rE)), h0) below s) D dA h0 6 h0 46 [none, none, none, none, some (.int v7), none] []
  refine g_iload X dX4_isInside_46 rfl ?_
  obtain ⟨_, z8, hF⟩ := bnd hF
  cases hF
  exact g_zret X hr (narZ z8) dX4_isInside_48
def F_X4_isWithin (this : Nat) (a1 : Int32) (h0 : HH) : Option (Int32 × HH) :=
  Option.bind (isO h0 1 (some this)) fun ob1 =>
  b2 (F_X4_asksShelf ob1 a1 h0) fun v3 h2 =>
  if v3 = 0 then (
    some ((0 : Int32), h2)
  ) else (
    Option.bind (isO h2 1 (some this)) fun ob5 =>
    b2 (F_X4_looks ob5 h2) fun v7 h6 =>
    if v7 = 0 then (
      some ((1 : Int32), h6)
    ) else (
      Option.bind (getR h6 1 9 (some this)) fun v9 =>
      Option.bind (getR h6 1 0 (some this)) fun v10 =>
      Option.bind (F_X4_isInside v9 (0 : Int32) v10 ((16 : Int32) + ((16 : Int32) * a1)) h6) fun v11 =>
      some ((if v11 = 0 then (0 : Int32) else (1 : Int32)), h6)
    )
  )
set_option maxHeartbeats 4000000 in
theorem w_X4_isWithin (l : Launch) (hl : l.stackTraces = false) (D : va_G) (dA : Nat → ClassId) (h0 : HH) (this : Nat) (a1 : Int32) (rE : Int32) (hE : HH) (hF : F_X4_isWithin this a1 h0 = some (rE, hE)) : MC D dA l yX4_isWithin cX4_isWithin 2 (Option.some Jvm.ClassFile.FieldType.boolean) [] 3 66 [va_rf (some this), .int a1] h0 (.inr (some (.int rE)), hE) := by
  refine mc_of hl (plainFor_of_name pn_X4) (by simp [lg_sl, cat_rf, cat_i, cat_j, cat_f, cat_d]) ?_
  intro p e s m args below meth c R hRf hRl X hr hnm
  unfold F_X4_isWithin at hF
  rw [show argL [va_rf (some this), .int a1] = [some (va_rf (some this)), some (.int a1)] from by simp [argL, cat_rf, cat_i, cat_j, cat_f, cat_d]]
  refine g_aload_n X dX4_isWithin_0 rfl rfl ?_
  refine g_iload_n X dX4_isWithin_1 rfl rfl ?_
  obtain ⟨ob1, eob1, hF⟩ := bnd hF
  obtain ⟨v3, h2, eh2, hF⟩ := b2_some hF
  refine g_callV X eob1 rfl rfl (w_X4_asksShelf l hl D dA h0 ob1 a1 v3 h2 eh2) q2163 q2165 qs67 q103 q2166 okn_X4_asksShelf ⟨by rw [hRf]; exact Nat.le_of_ble_eq_true rfl, by rw [hRl]; exact Nat.le_of_ble_eq_true rfl⟩ (As := [.int a1]) (rest := []) rfl (by first | exact Nat.le_of_ble_eq_true rfl | simp [cat_rf, cat_i, cat_j, cat_f, cat_d]) dX4_isWithin_2 (ac_v ?_)
  refine g_if_eq X 41 dX4_isWithin_5 (by decide) (fun c4 => ?_) (fun c4 => ?_)
  · have hF := (if_pos c4).symm.trans hF
    refine g_iconst (v := (0 : Int32)) X dX4_isWithin_41 (by decide) ?_
    cases hF
    exact g_zret X hr rfl dX4_isWithin_42
  · have hF := (if_neg c4).symm.trans hF
    refine g_aload_n X dX4_isWithin_8 rfl rfl ?_
    obtain ⟨ob5, eob5, hF⟩ := bnd hF
    obtain ⟨v7, h6, eh6, hF⟩ := b2_some hF
    refine g_callV X eob5 rfl rfl (w_X4_looks l hl D dA h2 ob5  v7 h6 eh6) q1880 q1882 qs34 q103 q1883 okn_X4_looks ⟨by rw [hRf]; exact Nat.le_of_ble_eq_true rfl, by rw [hRl]; exact Nat.le_of_ble_eq_true rfl⟩ (As := []) (rest := []) rfl (by first | exact Nat.le_of_ble_eq_true rfl | simp [cat_rf, cat_i, cat_j, cat_f, cat_d]) dX4_isWithin_9 (ac_v ?_)
    refine g_if_eq X 37 dX4_isWithin_12 (by decide) (fun c8 => ?_) (fun c8 => ?_)
    · have hF := (if_pos c8).symm.trans hF
      refine g_iconst (v := (1 : Int32)) X dX4_isWithin_37 (by decide) ?_
      refine g_goto X 42 dX4_isWithin_38 (by decide) ?_
      cases hF
      exact g_zret X hr rfl dX4_isWithin_42
    · have hF := (if_neg c8).symm.trans hF
      refine g_aload_n X dX4_isWithin_15 rfl rfl ?_
      obtain ⟨v9, ev9, hF⟩ := bnd hF
      refine g_get (k := 9) X in_X4 rfl (by decide) q1772 (Or.inl rfl) (getR_V ev9) dX4_isWithin_16 ?_
      refine g_iconst (v := (0 : Int32)) X dX4_isWithin_19 (by decide) ?_
      refine g_aload_n X dX4_isWithin_20 rfl rfl ?_
      obtain ⟨v10, ev10, hF⟩ := bnd hF
      refine g_get (k := 0) X in_X4 rfl (by decide) q1763 (Or.inl rfl) (getR_V ev10) dX4_isWithin_21 ?_
      refine g_bipush (v := (16 : Int32)) X dX4_isWithin_24 (by decide) ?_
      refine g_bipush (v := (16 : Int32)) X dX4_isWithin_26 (by decide) ?_
      refine g_iload_n X dX4_isWithin_28 rfl rfl ?_
      refine g_imul X dX4_isWithin_29 ?_
      refine g_iadd X dX4_isWithin_30 ?_
      obtain ⟨v11, ev11, hF⟩ := bnd hF
      refine g_callS X (w_X4_isInside l hl D dA h6 v9 (0 : Int32) v10 ((16 : Int32) + ((16 : Int32) * a1)) v11 ev11) q2167 q2168 q103 q2169 okn_X4_isInside ⟨by rw [hRf]; exact Nat.le_of_ble_eq_true rfl, by rw [hRl]; exact Nat.le_of_ble_eq_true rfl⟩ (As := [va_rf v9, .int (0 : Int32), va_rf v10, .int ((16 : Int32) + ((16 : Int32) * a1))]) (rest := []) rfl (by first | exact Nat.le_of_ble_eq_true rfl | simp [cat_rf, cat_i, cat_j, cat_f, cat_d]) dX4_isWithin_31 (ac_v ?_)
      suffices K : G p l e R s m args below meth c (RQ D dA h0 (.inr (some (.int rE)), hE) below s) D dA h0 2 h6 42 [none, none] [.int (if v11 = 0 then (0 : Int32) else (1 : Int32))] by
        refine g_if_eq X 41 dX4_isWithin_34 (by decide) (fun c12 => ?_) (fun c12 => ?_)
        · (try simp only [if_pos c12] at K)
          refine g_iconst (v := (0 : Int32)) X dX4_isWithin_41 (by decide) ?_
          refine G.drop [false, false] rfl ?_
          first | exact K | (simp only [if_pos c12]; exact K)
        · (try simp only [if_neg c12] at K)
          refine g_iconst (v := (1 : Int32)) X dX4_isWithin_37 (by decide) ?_
          refine g_goto X 42 dX4_isWithin_38 (by decide) ?_
          refine G.drop [false, false] rfl ?_
          first | exact K | (simp only [if_neg c12]; exact K)
      cases hF
      exact g_zret X hr (by (repeat' split) <;> rfl) dX4_isWithin_42
def F_X4_momentsBeyond (this : Nat) (a1 : Int32) (h0 : HH) : Option (Int32 × HH) :=
  Option.bind (isO h0 1 (some this)) fun ob1 =>
  b2 (F_X4_asksShelf ob1 a1 h0) fun v3 h2 =>
  if v3 = 0 then (
    some ((0 : Int32), h2)
  ) else (
    Option.bind (isO h2 1 (some this)) fun ob5 =>
    Option.bind (F_X4_looksAtMoments ob5 (0 : Int32) a1 h2) fun h6 =>
    Option.bind (getI h6 1 11 (some this)) fun v7 =>
    some (v7, h6)
  )
set_option maxHeartbeats 4000000 in
theorem w_X4_momentsBeyond (l : Launch) (hl : l.stackTraces = false) (D : va_G) (dA : Nat → ClassId) (h0 : HH) (this : Nat) (a1 : Int32) (rE : Int32) (hE : HH) (hF : F_X4_momentsBeyond this a1 h0 = some (rE, hE)) : MC D dA l yX4_momentsBeyond cX4_momentsBeyond 2 (Option.some Jvm.ClassFile.FieldType.int) [] 3 63 [va_rf (some this), .int a1] h0 (.inr (some (.int rE)), hE) := by
  refine mc_of hl (plainFor_of_name pn_X4) (by simp [lg_sl, cat_rf, cat_i, cat_j, cat_f, cat_d]) ?_
  intro p e s m args below meth c R hRf hRl X hr hnm
  unfold F_X4_momentsBeyond at hF
  rw [show argL [va_rf (some this), .int a1] = [some (va_rf (some this)), some (.int a1)] from by simp [argL, cat_rf, cat_i, cat_j, cat_f, cat_d]]
  refine g_aload_n X dX4_momentsBeyond_0 rfl rfl ?_
  refine g_iload_n X dX4_momentsBeyond_1 rfl rfl ?_
  obtain ⟨ob1, eob1, hF⟩ := bnd hF
  obtain ⟨v3, h2, eh2, hF⟩ := b2_some hF
  refine g_callV X eob1 rfl rfl (w_X4_asksShelf l hl D dA h0 ob1 a1 v3 h2 eh2) q2163 q2165 qs67 q103 q2166 okn_X4_asksShelf ⟨by rw [hRf]; exact Nat.le_of_ble_eq_true rfl, by rw [hRl]; exact Nat.le_of_ble_eq_true rfl⟩ (As := [.int a1]) (rest := []) rfl (by first | exact Nat.le_of_ble_eq_true rfl | simp [cat_rf, cat_i, cat_j, cat_f, cat_d]) dX4_momentsBeyond_2 (ac_v ?_)
  refine g_if_ne X 10 dX4_momentsBeyond_5 (by decide) (fun c4 => ?_) (fun c4 => ?_)
  · have hF := (if_neg c4).symm.trans hF
    refine g_aload_n X dX4_momentsBeyond_10 rfl rfl ?_
    refine g_iconst (v := (0 : Int32)) X dX4_momentsBeyond_11 (by decide) ?_
    refine g_iload_n X dX4_momentsBeyond_12 rfl rfl ?_
    obtain ⟨ob5, eob5, hF⟩ := bnd hF
    obtain ⟨h6, eh6, hF⟩ := bnd hF
    refine g_callV X eob5 rfl rfl (w_X4_looksAtMoments l hl D dA h2 ob5 (0 : Int32) a1 h6 eh6) q2126 q2128 qs65 q103 q2129 okn_X4_looksAtMoments ⟨by rw [hRf]; exact Nat.le_of_ble_eq_true rfl, by rw [hRl]; exact Nat.le_of_ble_eq_true rfl⟩ (As := [.int (0 : Int32), .int a1]) (rest := []) rfl (by first | exact Nat.le_of_ble_eq_true rfl | simp [cat_rf, cat_i, cat_j, cat_f, cat_d]) dX4_momentsBeyond_13 (ac_0 ?_)
    refine g_aload_n X dX4_momentsBeyond_16 rfl rfl ?_
    obtain ⟨v7, ev7, hF⟩ := bnd hF
    refine g_get (k := 11) X in_X4 rfl (by decide) q1774 (Or.inl rfl) (getI_V ev7) dX4_momentsBeyond_17 ?_
    cases hF
    exact g_iret X hr dX4_momentsBeyond_20
  · have hF := (if_pos c4).symm.trans hF
    refine g_iconst (v := (0 : Int32)) X dX4_momentsBeyond_8 (by decide) ?_
    cases hF
    exact g_iret X hr dX4_momentsBeyond_9
def F_X4_doMeet_B12 (this : Nat) (a1 : Int32) (x2_5 : Int32) (h_5 : HH) : Option ((Int32 × HH) ⊕ HH) :=
  if (16 : Int32) ≤ x2_5 then (
    some (.inr h_5)
  ) else (
    Option.bind (getR h_5 1 10 (some this)) fun v7 =>
    Option.bind (getR h_5 1 0 (some this)) fun v8 =>
    Option.bind (aldI h_5 0 v8 ((0 : Int32) + x2_5)) fun v9 =>
    Option.bind (getR h_5 1 0 (some this)) fun v10 =>
    Option.bind (aldI h_5 0 v10 (((16 : Int32) + ((16 : Int32) * a1)) + x2_5)) fun v11 =>
    Option.bind (astI h_5 v7 x2_5 (F_X4_less v9 v11)) fun h12 =>
    some (.inl ((x2_5 + (1 : Int32)), h12))
  )
def F_X4_doMeet (this : Nat) (a1 : Int32) (h0 : HH) : Option (Int32 × HH) :=
  Option.bind (isO h0 1 (some this)) fun ob1 =>
  b2 (F_X4_asksShelf ob1 a1 h0) fun v3 h2 =>
  if v3 = 0 then (
    some ((0 : Int32), h2)
  ) else (
    Option.bind (lp (fun z => F_X4_doMeet_B12 this a1 z.1 z.2) 100000 ((0 : Int32), h2)) fun h13 =>
    Option.bind (getR h13 1 10 (some this)) fun v14 =>
    b2 (F_X4_tightens v14 (0 : Int32) h13) fun v16 h15 =>
    Option.bind (okZ v16) fun _ =>
    some (v16, h15)
  )
set_option maxHeartbeats 4000000 in
theorem w_X4_doMeet (l : Launch) (hl : l.stackTraces = false) (D : va_G) (dA : Nat → ClassId) (h0 : HH) (this : Nat) (a1 : Int32) (rE : Int32) (hE : HH) (hF : F_X4_doMeet this a1 h0 = some (rE, hE)) : MC D dA l yX4_doMeet cX4_doMeet 3 (Option.some Jvm.ClassFile.FieldType.boolean) [] 3 63 [va_rf (some this), .int a1] h0 (.inr (some (.int rE)), hE) := by
  refine mc_of hl (plainFor_of_name pn_X4) (by simp [lg_sl, cat_rf, cat_i, cat_j, cat_f, cat_d]) ?_
  intro p e s m args below meth c R hRf hRl X hr hnm
  unfold F_X4_doMeet at hF
  rw [show argL [va_rf (some this), .int a1] = [some (va_rf (some this)), some (.int a1)] from by simp [argL, cat_rf, cat_i, cat_j, cat_f, cat_d]]
  refine G.pad 1 (L' := [some (va_rf (some this)), some (.int a1), none]) rfl ?_
  refine g_aload_n X dX4_doMeet_0 rfl rfl ?_
  refine g_iload_n X dX4_doMeet_1 rfl rfl ?_
  obtain ⟨ob1, eob1, hF⟩ := bnd hF
  obtain ⟨v3, h2, eh2, hF⟩ := b2_some hF
  refine g_callV X eob1 rfl rfl (w_X4_asksShelf l hl D dA h0 ob1 a1 v3 h2 eh2) q2163 q2165 qs67 q103 q2166 okn_X4_asksShelf ⟨by rw [hRf]; exact Nat.le_of_ble_eq_true rfl, by rw [hRl]; exact Nat.le_of_ble_eq_true rfl⟩ (As := [.int a1]) (rest := []) rfl (by first | exact Nat.le_of_ble_eq_true rfl | simp [cat_rf, cat_i, cat_j, cat_f, cat_d]) dX4_doMeet_2 (ac_v ?_)
  refine g_if_ne X 10 dX4_doMeet_5 (by decide) (fun c4 => ?_) (fun c4 => ?_)
  · have hF := (if_neg c4).symm.trans hF
    refine g_iconst (v := (0 : Int32)) X dX4_doMeet_10 (by decide) ?_
    refine g_istore_n (L' := [some (va_rf (some this)), some (.int a1), some (.int (0 : Int32))]) X dX4_doMeet_11 rfl (Nat.le_of_ble_eq_true rfl) (by first | rfl | simp [stL, rm1, clr2, cat_rf, cat_i, cat_j, cat_f, cat_d]) ?_
    obtain ⟨h13, e18, hF⟩ := bnd hF
    refine lp_ind (Gs := (fun z => G p l e R s m args below meth c (RQ D dA h0 (.inr (some (.int rE)), hE) below s) D dA h0 3 z.2 12 [some (va_rf (some this)), some (.int a1), some (.int z.1)] [])) (Ge := (fun z => G p l e R s m args below meth c (RQ D dA h0 (.inr (some (.int rE)), hE) below s) D dA h0 3 z 55 [some (va_rf (some this)), none, none] [])) ?_ _ _ _ e18 ?_
    · rintro ⟨x2_5, h_5⟩ o hF hgo hr
      change F_X4_doMeet_B12 this a1 x2_5 h_5 = some o at hF
      unfold F_X4_doMeet_B12 at hF
      show G p l e R s m args below meth c (RQ D dA h0 (.inr (some (.int rE)), hE) below s) D dA h0 3 h_5 12 [some (va_rf (some this)), some (.int a1), some (.int x2_5)] []
      refine g_iload_n X dX4_doMeet_12 rfl rfl ?_
      refine g_bipush (v := (16 : Int32)) X dX4_doMeet_13 (by decide) ?_
      refine g_icmp_ge X 55 dX4_doMeet_15 (by decide) (fun c6 => ?_) (fun c6 => ?_)
      · have hF := (if_pos c6).symm.trans hF
        refine G.drop [true, false, false] rfl ?_
        cases hF
        exact hr _ rfl
      · have hF := (if_neg c6).symm.trans hF
        refine g_aload_n X dX4_doMeet_18 rfl rfl ?_
        obtain ⟨v7, ev7, hF⟩ := bnd hF
        refine g_get (k := 10) X in_X4 rfl (by decide) q1773 (Or.inl rfl) (getR_V ev7) dX4_doMeet_19 ?_
        refine g_iload_n X dX4_doMeet_22 rfl rfl ?_
        refine g_aload_n X dX4_doMeet_23 rfl rfl ?_
        obtain ⟨v8, ev8, hF⟩ := bnd hF
        refine g_get (k := 0) X in_X4 rfl (by decide) q1763 (Or.inl rfl) (getR_V ev8) dX4_doMeet_24 ?_
        refine g_iconst (v := (0 : Int32)) X dX4_doMeet_27 (by decide) ?_
        refine g_iload_n X dX4_doMeet_28 rfl rfl ?_
        refine g_iadd X dX4_doMeet_29 ?_
        obtain ⟨v9, ev9, hF⟩ := bnd hF
        refine g_iald X ev9 dX4_doMeet_30 ?_
        refine g_aload_n X dX4_doMeet_31 rfl rfl ?_
        obtain ⟨v10, ev10, hF⟩ := bnd hF
        refine g_get (k := 0) X in_X4 rfl (by decide) q1763 (Or.inl rfl) (getR_V ev10) dX4_doMeet_32 ?_
        refine g_bipush (v := (16 : Int32)) X dX4_doMeet_35 (by decide) ?_
        refine g_bipush (v := (16 : Int32)) X dX4_doMeet_37 (by decide) ?_
        refine g_iload_n X dX4_doMeet_39 rfl rfl ?_
        refine g_imul X dX4_doMeet_40 ?_
        refine g_iadd X dX4_doMeet_41 ?_
        refine g_iload_n X dX4_doMeet_42 rfl rfl ?_
        refine g_iadd X dX4_doMeet_43 ?_
        obtain ⟨v11, ev11, hF⟩ := bnd hF
        refine g_iald X ev11 dX4_doMeet_44 ?_
        refine g_callS X (w_X4_less l hl D dA h_5 v9 v11) q1893 q1894 q103 q1895 okn_X4_less ⟨by rw [hRf]; exact Nat.le_of_ble_eq_true rfl, by rw [hRl]; exact Nat.le_of_ble_eq_true rfl⟩ (As := [.int v9, .int v11]) (rest := [.int x2_5, va_rf v7]) rfl (by first | exact Nat.le_of_ble_eq_true rfl | simp [cat_rf, cat_i, cat_j, cat_f, cat_d]) dX4_doMeet_45 (ac_v ?_)
        obtain ⟨h12, eh12, hF⟩ := bnd hF
        refine g_iast X eh12 dX4_doMeet_48 ?_
        refine g_iinc (v := (x2_5 + (1 : Int32))) (L' := [some (va_rf (some this)), some (.int a1), some (.int (x2_5 + (1 : Int32)))]) X dX4_doMeet_49 (Nat.le_of_ble_eq_true rfl) rfl rfl (by first | rfl | simp [stL, rm1, clr2, cat_rf, cat_i, cat_j, cat_f, cat_d]) ?_
        refine g_goto X 12 dX4_doMeet_52 (by decide) ?_
        cases hF
        exact hgo _ rfl
    show G p l e R s m args below meth c (RQ D dA h0 (.inr (some (.int rE)), hE) below s) D dA h0 3 h13 55 [some (va_rf (some this)), none, none] []
    refine g_aload_n X dX4_doMeet_55 rfl rfl ?_
    obtain ⟨v14, ev14, hF⟩ := bnd hF
    refine g_get (k := 10) X in_X4 rfl (by decide) q1773 (Or.inl rfl) (getR_V ev14) dX4_doMeet_56 ?_
    refine g_iconst (v := (0 : Int32)) X dX4_doMeet_59 (by decide) ?_
    obtain ⟨v16, h15, eh15, hF⟩ := b2_some hF
    refine g_callS X (w_X4_tightens l hl D dA h13 v14 (0 : Int32) v16 h15 eh15) q1887 q1888 q103 q1889 okn_X4_tightens ⟨by rw [hRf]; exact Nat.le_of_ble_eq_true rfl, by rw [hRl]; exact Nat.le_of_ble_eq_true rfl⟩ (As := [va_rf v14, .int (0 : Int32)]) (rest := []) rfl (by first | exact Nat.le_of_ble_eq_true rfl | simp [cat_rf, cat_i, cat_j, cat_f, cat_d]) dX4_doMeet_60 (ac_v ?_)
    obtain ⟨_, z17, hF⟩ := bnd hF
    cases hF
    exact g_zret X hr (narZ z17) dX4_doMeet_63
  · have hF := (if_pos c4).symm.trans hF
    refine g_iconst (v := (0 : Int32)) X dX4_doMeet_8 (by decide) ?_
    cases hF
    exact g_zret X hr rfl dX4_doMeet_9
def F_X4_stay (this : Nat) (a1 : Int32) (a2 : Int32) (h0 : HH) : Option Int32 :=
  Option.bind (getR h0 1 0 (some this)) fun v1 =>
  Option.bind (aldI h0 0 v1 (((84 : Int32) + ((3 : Int32) * a1)) + a2)) fun v2 =>
  some v2
set_option maxHeartbeats 4000000 in
theorem w_X4_stay (l : Launch) (hl : l.stackTraces = false) (D : va_G) (dA : Nat → ClassId) (h0 : HH) (this : Nat) (a1 : Int32) (a2 : Int32) (rE : Int32) (hF : F_X4_stay this a1 a2 h0 = some rE) : MC D dA l yX4_stay cX4_stay 3 (Option.some Jvm.ClassFile.FieldType.int) [] 0 0 [va_rf (some this), .int a1, .int a2] h0 (.inr (some (.int rE)), h0) := by
  refine mc_of hl (plainFor_of_name pn_X4) (by simp [lg_sl, cat_rf, cat_i, cat_j, cat_f, cat_d]) ?_
  intro p e s m args below meth c R hRf hRl X hr hnm
  unfold F_X4_stay at hF
  rw [show argL [va_rf (some this), .int a1, .int a2] = [some (va_rf (some this)), some (.int a1), some (.int a2)] from by simp [argL, cat_rf, cat_i, cat_j, cat_f, cat_d]]
  refine g_aload_n X dX4_stay_0 rfl rfl ?_
  obtain ⟨v1, ev1, hF⟩ := bnd hF
  refine g_get (k := 0) X in_X4 rfl (by decide) q1763 (Or.inl rfl) (getR_V ev1) dX4_stay_1 ?_
  refine g_bipush (v := (84 : Int32)) X dX4_stay_4 (by decide) ?_
  refine g_iconst (v := (3 : Int32)) X dX4_stay_6 (by decide) ?_
  refine g_iload_n X dX4_stay_7 rfl rfl ?_
  refine g_imul X dX4_stay_8 ?_
  refine g_iadd X dX4_stay_9 ?_
  refine g_iload_n X dX4_stay_10 rfl rfl ?_
  refine g_iadd X dX4_stay_11 ?_
  obtain ⟨v2, ev2, hF⟩ := bnd hF
  refine g_iald X ev2 dX4_stay_12 ?_
  cases hF
  exact g_iret X hr dX4_stay_13
def F_X4_stayOf (this : Nat) (a1 : Int32) (a2 : Int32) (h0 : HH) : Option (Int32 × HH) :=
  Option.bind (isO h0 1 (some this)) fun ob3 =>
  b2 (F_X4_asks ob3 (if (F_X4_isHarbour a1) = 0 then (0 : Int32) else (if (F_X4_isClock a2) = 0 then (0 : Int32) else (1 : Int32))) h0) fun v5 h4 =>
  if v5 = 0 then (
    some ((0 : Int32), h4)
  ) else (
    Option.bind (isO h4 1 (some this)) fun ob7 =>
    Option.bind (F_X4_stay ob7 a1 a2 h4) fun v8 =>
    some (v8, h4)
  )
set_option maxHeartbeats 4000000 in
theorem w_X4_stayOf (l : Launch) (hl : l.stackTraces = false) (D : va_G) (dA : Nat → ClassId) (h0 : HH) (this : Nat) (a1 : Int32) (a2 : Int32) (rE : Int32) (hE : HH) (hF : F_X4_stayOf this a1 a2 h0 = some (rE, hE)) : MC D dA l yX4_stayOf cX4_stayOf 3 (Option.some Jvm.ClassFile.FieldType.int) [] 2 42 [va_rf (some this), .int a1, .int a2] h0 (.inr (some (.int rE)), hE) := by
  refine mc_of hl (plainFor_of_name pn_X4) (by simp [lg_sl, cat_rf, cat_i, cat_j, cat_f, cat_d]) ?_
  intro p e s m args below meth c R hRf hRl X hr hnm
  unfold F_X4_stayOf at hF
  rw [show argL [va_rf (some this), .int a1, .int a2] = [some (va_rf (some this)), some (.int a1), some (.int a2)] from by simp [argL, cat_rf, cat_i, cat_j, cat_f, cat_d]]
  refine g_aload_n X dX4_stayOf_0 rfl rfl ?_
  refine g_iload_n X dX4_stayOf_1 rfl rfl ?_
  refine g_callS X (w_X4_isHarbour l hl D dA h0 a1) q2045 q2046 q103 q2047 okn_X4_isHarbour ⟨by rw [hRf]; exact Nat.le_of_ble_eq_true rfl, by rw [hRl]; exact Nat.le_of_ble_eq_true rfl⟩ (As := [.int a1]) (rest := [va_rf (some this)]) rfl (by first | exact Nat.le_of_ble_eq_true rfl | simp [cat_rf, cat_i, cat_j, cat_f, cat_d]) dX4_stayOf_2 (ac_v ?_)
  suffices K : G p l e R s m args below meth c (RQ D dA h0 (.inr (some (.int rE)), hE) below s) D dA h0 3 h0 20 [some (va_rf (some this)), some (.int a1), some (.int a2)] [.int (if (F_X4_isHarbour a1) = 0 then (0 : Int32) else (if (F_X4_isClock a2) = 0 then (0 : Int32) else (1 : Int32))), va_rf (some this)] by
    refine g_if_eq X 19 dX4_stayOf_5 (by decide) (fun c1 => ?_) (fun c1 => ?_)
    · (try simp only [if_pos c1] at K)
      refine g_iconst (v := (0 : Int32)) X dX4_stayOf_19 (by decide) ?_
      first | exact K | (simp only [if_pos c1]; exact K)
    · (try simp only [if_neg c1] at K)
      refine g_iload_n X dX4_stayOf_8 rfl rfl ?_
      refine g_callS X (w_X4_isClock l hl D dA h0 a2) q1948 q1949 q103 q1950 okn_X4_isClock ⟨by rw [hRf]; exact Nat.le_of_ble_eq_true rfl, by rw [hRl]; exact Nat.le_of_ble_eq_true rfl⟩ (As := [.int a2]) (rest := [va_rf (some this)]) rfl (by first | exact Nat.le_of_ble_eq_true rfl | simp [cat_rf, cat_i, cat_j, cat_f, cat_d]) dX4_stayOf_9 (ac_v ?_)
      refine g_if_eq X 19 dX4_stayOf_12 (by decide) (fun c2 => ?_) (fun c2 => ?_)
      · (try simp only [if_pos c2] at K)
        refine g_iconst (v := (0 : Int32)) X dX4_stayOf_19 (by decide) ?_
        first | exact K | (simp only [if_neg c1, if_pos c2]; exact K)
      · (try simp only [if_neg c2] at K)
        refine g_iconst (v := (1 : Int32)) X dX4_stayOf_15 (by decide) ?_
        refine g_goto X 20 dX4_stayOf_16 (by decide) ?_
        first | exact K | (simp only [if_neg c1, if_neg c2]; exact K)
  obtain ⟨ob3, eob3, hF⟩ := bnd hF
  obtain ⟨v5, h4, eh4, hF⟩ := b2_some hF
  refine g_callV X eob3 rfl rfl (w_X4_asks l hl D dA h0 ob3 (if (F_X4_isHarbour a1) = 0 then (0 : Int32) else (if (F_X4_isClock a2) = 0 then (0 : Int32) else (1 : Int32))) v5 h4 eh4) q2076 q2078 qs60 q103 q2079 okn_X4_asks ⟨by rw [hRf]; exact Nat.le_of_ble_eq_true rfl, by rw [hRl]; exact Nat.le_of_ble_eq_true rfl⟩ (As := [.int (if (F_X4_isHarbour a1) = 0 then (0 : Int32) else (if (F_X4_isClock a2) = 0 then (0 : Int32) else (1 : Int32)))]) (rest := []) rfl (by first | exact Nat.le_of_ble_eq_true rfl | simp [cat_rf, cat_i, cat_j, cat_f, cat_d]) dX4_stayOf_20 (ac_v ?_)
  refine g_if_eq X 35 dX4_stayOf_23 (by decide) (fun c6 => ?_) (fun c6 => ?_)
  · have hF := (if_pos c6).symm.trans hF
    refine g_iconst (v := (0 : Int32)) X dX4_stayOf_35 (by decide) ?_
    cases hF
    exact g_iret X hr dX4_stayOf_36
  · have hF := (if_neg c6).symm.trans hF
    refine g_aload_n X dX4_stayOf_26 rfl rfl ?_
    refine g_iload_n X dX4_stayOf_27 rfl rfl ?_
    refine g_iload_n X dX4_stayOf_28 rfl rfl ?_
    obtain ⟨ob7, eob7, hF⟩ := bnd hF
    obtain ⟨v8, ev8, hF⟩ := bnd hF
    refine g_callV X eob7 rfl rfl (w_X4_stay l hl D dA h4 ob7 a1 a2 v8 ev8) q2182 q2184 qs68 q103 q2185 okn_X4_stay ⟨by rw [hRf]; exact Nat.le_of_ble_eq_true rfl, by rw [hRl]; exact Nat.le_of_ble_eq_true rfl⟩ (As := [.int a1, .int a2]) (rest := []) rfl (by first | exact Nat.le_of_ble_eq_true rfl | simp [cat_rf, cat_i, cat_j, cat_f, cat_d]) dX4_stayOf_29 (ac_v ?_)
    refine g_goto X 36 dX4_stayOf_32 (by decide) ?_
    cases hF
    exact g_iret X hr dX4_stayOf_36
def F_X4_lines (this : Nat) (h0 : HH) : Option (Int32 × HH) :=
  Option.bind (putV h0 1 8 (some this) (.int (0 : Int32))) fun h1 =>
  Option.bind (getR h1 1 0 (some this)) fun v2 =>
  Option.bind (aldI h1 0 v2 (102 : Int32)) fun v3 =>
  some (v3, h1)
set_option maxHeartbeats 4000000 in
theorem w_X4_lines (l : Launch) (hl : l.stackTraces = false) (D : va_G) (dA : Nat → ClassId) (h0 : HH) (this : Nat) (rE : Int32) (hE : HH) (hF : F_X4_lines this h0 = some (rE, hE)) : MC D dA l yX4_lines cX4_lines 1 (Option.some Jvm.ClassFile.FieldType.int) [] 0 0 [va_rf (some this)] h0 (.inr (some (.int rE)), hE) := by
  refine mc_of hl (plainFor_of_name pn_X4) (by simp [lg_sl, cat_rf, cat_i, cat_j, cat_f, cat_d]) ?_
  intro p e s m args below meth c R hRf hRl X hr hnm
  unfold F_X4_lines at hF
  rw [show argL [va_rf (some this)] = [some (va_rf (some this))] from by simp [argL, cat_rf, cat_i, cat_j, cat_f, cat_d]]
  refine g_aload_n X dX4_lines_0 rfl rfl ?_
  refine g_iconst (v := (0 : Int32)) X dX4_lines_1 (by decide) ?_
  obtain ⟨h1, eh1, hF⟩ := bnd hF
  refine g_put (k := 8) X in_X4 tyX4 tyX4_ok nmX4 rfl (by decide) q1771 (Or.inl rfl) rfl (tyX4_ok 8 (by decide)) rfl rfl eh1 dX4_lines_2 ?_
  refine g_aload_n X dX4_lines_5 rfl rfl ?_
  obtain ⟨v2, ev2, hF⟩ := bnd hF
  refine g_get (k := 0) X in_X4 rfl (by decide) q1763 (Or.inl rfl) (getR_V ev2) dX4_lines_6 ?_
  refine g_bipush (v := (102 : Int32)) X dX4_lines_9 (by decide) ?_
  obtain ⟨v3, ev3, hF⟩ := bnd hF
  refine g_iald X ev3 dX4_lines_11 ?_
  cases hF
  exact g_iret X hr dX4_lines_12
def F_X4_fromOf (this : Nat) (a1 : Int32) (h0 : HH) : Option (Int32 × HH) :=
  Option.bind (isO h0 1 (some this)) fun ob1 =>
  Option.bind (F_X4_isLine ob1 a1 h0) fun v2 =>
  Option.bind (isO h0 1 (some this)) fun ob3 =>
  b2 (F_X4_asks ob3 v2 h0) fun v5 h4 =>
  if v5 = 0 then (
    some ((0 : Int32), h4)
  ) else (
    Option.bind (isO h4 1 (some this)) fun ob7 =>
    Option.bind (F_X4_line ob7 a1 (0 : Int32) h4) fun v8 =>
    some (v8, h4)
  )
set_option maxHeartbeats 4000000 in
theorem w_X4_fromOf (l : Launch) (hl : l.stackTraces = false) (D : va_G) (dA : Nat → ClassId) (h0 : HH) (this : Nat) (a1 : Int32) (rE : Int32) (hE : HH) (hF : F_X4_fromOf this a1 h0 = some (rE, hE)) : MC D dA l yX4_fromOf cX4_fromOf 2 (Option.some Jvm.ClassFile.FieldType.int) [] 2 43 [va_rf (some this), .int a1] h0 (.inr (some (.int rE)), hE) := by
  refine mc_of hl (plainFor_of_name pn_X4) (by simp [lg_sl, cat_rf, cat_i, cat_j, cat_f, cat_d]) ?_
  intro p e s m args below meth c R hRf hRl X hr hnm
  unfold F_X4_fromOf at hF
  rw [show argL [va_rf (some this), .int a1] = [some (va_rf (some this)), some (.int a1)] from by simp [argL, cat_rf, cat_i, cat_j, cat_f, cat_d]]
  refine g_aload_n X dX4_fromOf_0 rfl rfl ?_
  refine g_aload_n X dX4_fromOf_1 rfl rfl ?_
  refine g_iload_n X dX4_fromOf_2 rfl rfl ?_
  obtain ⟨ob1, eob1, hF⟩ := bnd hF
  obtain ⟨v2, ev2, hF⟩ := bnd hF
  refine g_callV X eob1 rfl rfl (w_X4_isLine l hl D dA h0 ob1 a1 v2 ev2) q2060 q2062 qs58 q103 q2063 okn_X4_isLine ⟨by rw [hRf]; exact Nat.le_of_ble_eq_true rfl, by rw [hRl]; exact Nat.le_of_ble_eq_true rfl⟩ (As := [.int a1]) (rest := [va_rf (some this)]) rfl (by first | exact Nat.le_of_ble_eq_true rfl | simp [cat_rf, cat_i, cat_j, cat_f, cat_d]) dX4_fromOf_3 (ac_v ?_)
  obtain ⟨ob3, eob3, hF⟩ := bnd hF
  obtain ⟨v5, h4, eh4, hF⟩ := b2_some hF
  refine g_callV X eob3 rfl rfl (w_X4_asks l hl D dA h0 ob3 v2 v5 h4 eh4) q2076 q2078 qs60 q103 q2079 okn_X4_asks ⟨by rw [hRf]; exact Nat.le_of_ble_eq_true rfl, by rw [hRl]; exact Nat.le_of_ble_eq_true rfl⟩ (As := [.int v2]) (rest := []) rfl (by first | exact Nat.le_of_ble_eq_true rfl | simp [cat_rf, cat_i, cat_j, cat_f, cat_d]) dX4_fromOf_6 (ac_v ?_)
  refine g_if_eq X 21 dX4_fromOf_9 (by decide) (fun c6 => ?_) (fun c6 => ?_)
  · have hF := (if_pos c6).symm.trans hF
    refine g_iconst (v := (0 : Int32)) X dX4_fromOf_21 (by decide) ?_
    cases hF
    exact g_iret X hr dX4_fromOf_22
  · have hF := (if_neg c6).symm.trans hF
    refine g_aload_n X dX4_fromOf_12 rfl rfl ?_
    refine g_iload_n X dX4_fromOf_13 rfl rfl ?_
    refine g_iconst (v := (0 : Int32)) X dX4_fromOf_14 (by decide) ?_
    obtain ⟨ob7, eob7, hF⟩ := bnd hF
    obtain ⟨v8, ev8, hF⟩ := bnd hF
    refine g_callV X eob7 rfl rfl (w_X4_line l hl D dA h4 ob7 a1 (0 : Int32) v8 ev8) q2064 q2066 qs59 q103 q2067 okn_X4_line ⟨by rw [hRf]; exact Nat.le_of_ble_eq_true rfl, by rw [hRl]; exact Nat.le_of_ble_eq_true rfl⟩ (As := [.int a1, .int (0 : Int32)]) (rest := []) rfl (by first | exact Nat.le_of_ble_eq_true rfl | simp [cat_rf, cat_i, cat_j, cat_f, cat_d]) dX4_fromOf_15 (ac_v ?_)
    refine g_goto X 22 dX4_fromOf_18 (by decide) ?_
    cases hF
    exact g_iret X hr dX4_fromOf_22
def F_X4_toOf (this : Nat) (a1 : Int32) (h0 : HH) : Option (Int32 × HH) :=
  Option.bind (isO h0 1 (some this)) fun ob1 =>
  Option.bind (F_X4_isLine ob1 a1 h0) fun v2 =>
  Option.bind (isO h0 1 (some this)) fun ob3 =>
  b2 (F_X4_asks ob3 v2 h0) fun v5 h4 =>
  if v5 = 0 then (
    some ((0 : Int32), h4)
  ) else (
    Option.bind (isO h4 1 (some this)) fun ob7 =>
    Option.bind (F_X4_line ob7 a1 (1 : Int32) h4) fun v8 =>
    some (v8, h4)
  )
set_option maxHeartbeats 4000000 in
theorem w_X4_toOf (l : Launch) (hl : l.stackTraces = false) (D : va_G) (dA : Nat → ClassId) (h0 : HH) (this : Nat) (a1 : Int32) (rE : Int32) (hE : HH) (hF : F_X4_toOf this a1 h0 = some (rE, hE)) : MC D dA l yX4_toOf cX4_toOf 2 (Option.some Jvm.ClassFile.FieldType.int) [] 2 43 [va_rf (some this), .int a1] h0 (.inr (some (.int rE)), hE) := by
  refine mc_of hl (plainFor_of_name pn_X4) (by simp [lg_sl, cat_rf, cat_i, cat_j, cat_f, cat_d]) ?_
  intro p e s m args below meth c R hRf hRl X hr hnm
  unfold F_X4_toOf at hF
  rw [show argL [va_rf (some this), .int a1] = [some (va_rf (some this)), some (.int a1)] from by simp [argL, cat_rf, cat_i, cat_j, cat_f, cat_d]]
  refine g_aload_n X dX4_toOf_0 rfl rfl ?_
  refine g_aload_n X dX4_toOf_1 rfl rfl ?_
  refine g_iload_n X dX4_toOf_2 rfl rfl ?_
  obtain ⟨ob1, eob1, hF⟩ := bnd hF
  obtain ⟨v2, ev2, hF⟩ := bnd hF
  refine g_callV X eob1 rfl rfl (w_X4_isLine l hl D dA h0 ob1 a1 v2 ev2) q2060 q2062 qs58 q103 q2063 okn_X4_isLine ⟨by rw [hRf]; exact Nat.le_of_ble_eq_true rfl, by rw [hRl]; exact Nat.le_of_ble_eq_true rfl⟩ (As := [.int a1]) (rest := [va_rf (some this)]) rfl (by first | exact Nat.le_of_ble_eq_true rfl | simp [cat_rf, cat_i, cat_j, cat_f, cat_d]) dX4_toOf_3 (ac_v ?_)
  obtain ⟨ob3, eob3, hF⟩ := bnd hF
  obtain ⟨v5, h4, eh4, hF⟩ := b2_some hF
  refine g_callV X eob3 rfl rfl (w_X4_asks l hl D dA h0 ob3 v2 v5 h4 eh4) q2076 q2078 qs60 q103 q2079 okn_X4_asks ⟨by rw [hRf]; exact Nat.le_of_ble_eq_true rfl, by rw [hRl]; exact Nat.le_of_ble_eq_true rfl⟩ (As := [.int v2]) (rest := []) rfl (by first | exact Nat.le_of_ble_eq_true rfl | simp [cat_rf, cat_i, cat_j, cat_f, cat_d]) dX4_toOf_6 (ac_v ?_)
  refine g_if_eq X 21 dX4_toOf_9 (by decide) (fun c6 => ?_) (fun c6 => ?_)
  · have hF := (if_pos c6).symm.trans hF
    refine g_iconst (v := (0 : Int32)) X dX4_toOf_21 (by decide) ?_
    cases hF
    exact g_iret X hr dX4_toOf_22
  · have hF := (if_neg c6).symm.trans hF
    refine g_aload_n X dX4_toOf_12 rfl rfl ?_
    refine g_iload_n X dX4_toOf_13 rfl rfl ?_
    refine g_iconst (v := (1 : Int32)) X dX4_toOf_14 (by decide) ?_
    obtain ⟨ob7, eob7, hF⟩ := bnd hF
    obtain ⟨v8, ev8, hF⟩ := bnd hF
    refine g_callV X eob7 rfl rfl (w_X4_line l hl D dA h4 ob7 a1 (1 : Int32) v8 ev8) q2064 q2066 qs59 q103 q2067 okn_X4_line ⟨by rw [hRf]; exact Nat.le_of_ble_eq_true rfl, by rw [hRl]; exact Nat.le_of_ble_eq_true rfl⟩ (As := [.int a1, .int (1 : Int32)]) (rest := []) rfl (by first | exact Nat.le_of_ble_eq_true rfl | simp [cat_rf, cat_i, cat_j, cat_f, cat_d]) dX4_toOf_15 (ac_v ?_)
    refine g_goto X 22 dX4_toOf_18 (by decide) ?_
    cases hF
    exact g_iret X hr dX4_toOf_22
def F_X4_doesReset (this : Nat) (a1 : Int32) (a2 : Int32) (h0 : HH) : Option (Int32 × HH) :=
  Option.bind (isO h0 1 (some this)) fun ob1 =>
  Option.bind (F_X4_isLine ob1 a1 h0) fun v2 =>
  Option.bind (isO h0 1 (some this)) fun ob5 =>
  b2 (F_X4_asks ob5 (if v2 = 0 then (0 : Int32) else (if (F_X4_isClock a2) = 0 then (0 : Int32) else (1 : Int32))) h0) fun v7 h6 =>
  if v7 = 0 then (
    some ((0 : Int32), h6)
  ) else (
    Option.bind (isO h6 1 (some this)) fun ob9 =>
    Option.bind (F_X4_line ob9 a1 (8 : Int32) h6) fun v10 =>
    some ((if ((v10 >>> (a2 &&& 31)) &&& (1 : Int32)) = (1 : Int32) then (1 : Int32) else (0 : Int32)), h6)
  )
set_option maxHeartbeats 4000000 in
theorem w_X4_doesReset (l : Launch) (hl : l.stackTraces = false) (D : va_G) (dA : Nat → ClassId) (h0 : HH) (this : Nat) (a1 : Int32) (a2 : Int32) (rE : Int32) (hE : HH) (hF : F_X4_doesReset this a1 a2 h0 = some (rE, hE)) : MC D dA l yX4_doesReset cX4_doesReset 3 (Option.some Jvm.ClassFile.FieldType.boolean) [] 2 43 [va_rf (some this), .int a1, .int a2] h0 (.inr (some (.int rE)), hE) := by
  refine mc_of hl (plainFor_of_name pn_X4) (by simp [lg_sl, cat_rf, cat_i, cat_j, cat_f, cat_d]) ?_
  intro p e s m args below meth c R hRf hRl X hr hnm
  unfold F_X4_doesReset at hF
  rw [show argL [va_rf (some this), .int a1, .int a2] = [some (va_rf (some this)), some (.int a1), some (.int a2)] from by simp [argL, cat_rf, cat_i, cat_j, cat_f, cat_d]]
  refine g_aload_n X dX4_doesReset_0 rfl rfl ?_
  refine g_aload_n X dX4_doesReset_1 rfl rfl ?_
  refine g_iload_n X dX4_doesReset_2 rfl rfl ?_
  obtain ⟨ob1, eob1, hF⟩ := bnd hF
  obtain ⟨v2, ev2, hF⟩ := bnd hF
  refine g_callV X eob1 rfl rfl (w_X4_isLine l hl D dA h0 ob1 a1 v2 ev2) q2060 q2062 qs58 q103 q2063 okn_X4_isLine ⟨by rw [hRf]; exact Nat.le_of_ble_eq_true rfl, by rw [hRl]; exact Nat.le_of_ble_eq_true rfl⟩ (As := [.int a1]) (rest := [va_rf (some this)]) rfl (by first | exact Nat.le_of_ble_eq_true rfl | simp [cat_rf, cat_i, cat_j, cat_f, cat_d]) dX4_doesReset_3 (ac_v ?_)
  suffices K : G p l e R s m args below meth c (RQ D dA h0 (.inr (some (.int rE)), hE) below s) D dA h0 3 h0 21 [some (va_rf (some this)), some (.int a1), some (.int a2)] [.int (if v2 = 0 then (0 : Int32) else (if (F_X4_isClock a2) = 0 then (0 : Int32) else (1 : Int32))), va_rf (some this)] by
    refine g_if_eq X 20 dX4_doesReset_6 (by decide) (fun c3 => ?_) (fun c3 => ?_)
    · (try simp only [if_pos c3] at K)
      refine g_iconst (v := (0 : Int32)) X dX4_doesReset_20 (by decide) ?_
      first | exact K | (simp only [if_pos c3]; exact K)
    · (try simp only [if_neg c3] at K)
      refine g_iload_n X dX4_doesReset_9 rfl rfl ?_
      refine g_callS X (w_X4_isClock l hl D dA h0 a2) q1948 q1949 q103 q1950 okn_X4_isClock ⟨by rw [hRf]; exact Nat.le_of_ble_eq_true rfl, by rw [hRl]; exact Nat.le_of_ble_eq_true rfl⟩ (As := [.int a2]) (rest := [va_rf (some this)]) rfl (by first | exact Nat.le_of_ble_eq_true rfl | simp [cat_rf, cat_i, cat_j, cat_f, cat_d]) dX4_doesReset_10 (ac_v ?_)
      refine g_if_eq X 20 dX4_doesReset_13 (by decide) (fun c4 => ?_) (fun c4 => ?_)
      · (try simp only [if_pos c4] at K)
        refine g_iconst (v := (0 : Int32)) X dX4_doesReset_20 (by decide) ?_
        first | exact K | (simp only [if_neg c3, if_pos c4]; exact K)
      · (try simp only [if_neg c4] at K)
        refine g_iconst (v := (1 : Int32)) X dX4_doesReset_16 (by decide) ?_
        refine g_goto X 21 dX4_doesReset_17 (by decide) ?_
        first | exact K | (simp only [if_neg c3, if_neg c4]; exact K)
  obtain ⟨ob5, eob5, hF⟩ := bnd hF
  obtain ⟨v7, h6, eh6, hF⟩ := b2_some hF
  refine g_callV X eob5 rfl rfl (w_X4_asks l hl D dA h0 ob5 (if v2 = 0 then (0 : Int32) else (if (F_X4_isClock a2) = 0 then (0 : Int32) else (1 : Int32))) v7 h6 eh6) q2076 q2078 qs60 q103 q2079 okn_X4_asks ⟨by rw [hRf]; exact Nat.le_of_ble_eq_true rfl, by rw [hRl]; exact Nat.le_of_ble_eq_true rfl⟩ (As := [.int (if v2 = 0 then (0 : Int32) else (if (F_X4_isClock a2) = 0 then (0 : Int32) else (1 : Int32)))]) (rest := []) rfl (by first | exact Nat.le_of_ble_eq_true rfl | simp [cat_rf, cat_i, cat_j, cat_f, cat_d]) dX4_doesReset_21 (ac_v ?_)
  refine g_if_eq X 46 dX4_doesReset_24 (by decide) (fun c8 => ?_) (fun c8 => ?_)
  · have hF := (if_pos c8).symm.trans hF
    refine g_iconst (v := (0 : Int32)) X dX4_doesReset_46 (by decide) ?_
    cases hF
    exact g_zret X hr rfl dX4_doesReset_47
  · have hF := (if_neg c8).symm.trans hF
    refine g_aload_n X dX4_doesReset_27 rfl rfl ?_
    refine g_iload_n X dX4_doesReset_28 rfl rfl ?_
    refine g_bipush (v := (8 : Int32)) X dX4_doesReset_29 (by decide) ?_
    obtain ⟨ob9, eob9, hF⟩ := bnd hF
    obtain ⟨v10, ev10, hF⟩ := bnd hF
    refine g_callV X eob9 rfl rfl (w_X4_line l hl D dA h6 ob9 a1 (8 : Int32) v10 ev10) q2064 q2066 qs59 q103 q2067 okn_X4_line ⟨by rw [hRf]; exact Nat.le_of_ble_eq_true rfl, by rw [hRl]; exact Nat.le_of_ble_eq_true rfl⟩ (As := [.int a1, .int (8 : Int32)]) (rest := []) rfl (by first | exact Nat.le_of_ble_eq_true rfl | simp [cat_rf, cat_i, cat_j, cat_f, cat_d]) dX4_doesReset_31 (ac_v ?_)
    refine g_iload_n X dX4_doesReset_34 rfl rfl ?_
    refine g_ishr X dX4_doesReset_35 ?_
    refine g_iconst (v := (1 : Int32)) X dX4_doesReset_36 (by decide) ?_
    refine g_iand X dX4_doesReset_37 ?_
    refine g_iconst (v := (1 : Int32)) X dX4_doesReset_38 (by decide) ?_
    suffices K : G p l e R s m args below meth c (RQ D dA h0 (.inr (some (.int rE)), hE) below s) D dA h0 3 h6 47 [none, none, none] [.int (if ((v10 >>> (a2 &&& 31)) &&& (1 : Int32)) = (1 : Int32) then (1 : Int32) else (0 : Int32))] by
      refine g_icmp_ne X 46 dX4_doesReset_39 (by decide) (fun c11 => ?_) (fun c11 => ?_)
      · (try simp only [if_neg c11] at K)
        refine g_iconst (v := (0 : Int32)) X dX4_doesReset_46 (by decide) ?_
        refine G.drop [false, false, false] rfl ?_
        first | exact K | (simp only [if_neg c11]; exact K)
      · (try simp only [if_pos c11] at K)
        refine g_iconst (v := (1 : Int32)) X dX4_doesReset_42 (by decide) ?_
        refine g_goto X 47 dX4_doesReset_43 (by decide) ?_
        refine G.drop [false, false, false] rfl ?_
        first | exact K | (simp only [if_pos c11]; exact K)
    cases hF
    exact g_zret X hr (by (repeat' split) <;> rfl) dX4_doesReset_47
def F_X4_adds (this : Nat) (a1 : Int32) (a2 : Int32) (h0 : HH) : Option HH :=
  Option.bind (getR h0 1 9 (some this)) fun v1 =>
  Option.bind (getR h0 1 13 (some this)) fun v2 =>
  Option.bind (getI h0 1 16 (some this)) fun v3 =>
  Option.bind (F_X4_carries v1 (0 : Int32) v2 ((16 : Int32) * v3) h0) fun h4 =>
  Option.bind (getR h4 1 14 (some this)) fun v5 =>
  Option.bind (getI h4 1 16 (some this)) fun v6 =>
  Option.bind (astI h4 v5 v6 a1) fun h7 =>
  Option.bind (getR h7 1 15 (some this)) fun v8 =>
  Option.bind (getI h7 1 16 (some this)) fun v9 =>
  Option.bind (astI h7 v8 v9 a2) fun h10 =>
  Option.bind (getI h10 1 16 (some this)) fun v11 =>
  Option.bind (putV h10 1 16 (some this) (.int (v11 + (1 : Int32)))) fun h12 =>
  some h12
set_option maxHeartbeats 4000000 in
theorem w_X4_adds (l : Launch) (hl : l.stackTraces = false) (D : va_G) (dA : Nat → ClassId) (h0 : HH) (this : Nat) (a1 : Int32) (a2 : Int32) (hE : HH) (hF : F_X4_adds this a1 a2 h0 = some hE) : MC D dA l yX4_adds cX4_adds 3 (Option.none : Option Jvm.ClassFile.FieldType) [] 1 24 [va_rf (some this), .int a1, .int a2] h0 (.inr none, hE) := by
  refine mc_of hl (plainFor_of_name pn_X4) (by simp [lg_sl, cat_rf, cat_i, cat_j, cat_f, cat_d]) ?_
  intro p e s m args below meth c R hRf hRl X hr hnm
  unfold F_X4_adds at hF
  rw [show argL [va_rf (some this), .int a1, .int a2] = [some (va_rf (some this)), some (.int a1), some (.int a2)] from by simp [argL, cat_rf, cat_i, cat_j, cat_f, cat_d]]
  refine g_aload_n X dX4_adds_0 rfl rfl ?_
  obtain ⟨v1, ev1, hF⟩ := bnd hF
  refine g_get (k := 9) X in_X4 rfl (by decide) q1772 (Or.inl rfl) (getR_V ev1) dX4_adds_1 ?_
  refine g_iconst (v := (0 : Int32)) X dX4_adds_4 (by decide) ?_
  refine g_aload_n X dX4_adds_5 rfl rfl ?_
  obtain ⟨v2, ev2, hF⟩ := bnd hF
  refine g_get (k := 13) X in_X4 rfl (by decide) q1776 (Or.inl rfl) (getR_V ev2) dX4_adds_6 ?_
  refine g_bipush (v := (16 : Int32)) X dX4_adds_9 (by decide) ?_
  refine g_aload_n X dX4_adds_11 rfl rfl ?_
  obtain ⟨v3, ev3, hF⟩ := bnd hF
  refine g_get (k := 16) X in_X4 rfl (by decide) q1779 (Or.inl rfl) (getI_V ev3) dX4_adds_12 ?_
  refine g_imul X dX4_adds_15 ?_
  obtain ⟨h4, eh4, hF⟩ := bnd hF
  refine g_callS X (w_X4_carries l hl D dA h0 v1 (0 : Int32) v2 ((16 : Int32) * v3) h4 eh4) q1884 q1885 q103 q1886 okn_X4_carries ⟨by rw [hRf]; exact Nat.le_of_ble_eq_true rfl, by rw [hRl]; exact Nat.le_of_ble_eq_true rfl⟩ (As := [va_rf v1, .int (0 : Int32), va_rf v2, .int ((16 : Int32) * v3)]) (rest := []) rfl (by first | exact Nat.le_of_ble_eq_true rfl | simp [cat_rf, cat_i, cat_j, cat_f, cat_d]) dX4_adds_16 (ac_0 ?_)
  refine g_aload_n X dX4_adds_19 rfl rfl ?_
  obtain ⟨v5, ev5, hF⟩ := bnd hF
  refine g_get (k := 14) X in_X4 rfl (by decide) q1777 (Or.inl rfl) (getR_V ev5) dX4_adds_20 ?_
  refine g_aload_n X dX4_adds_23 rfl rfl ?_
  obtain ⟨v6, ev6, hF⟩ := bnd hF
  refine g_get (k := 16) X in_X4 rfl (by decide) q1779 (Or.inl rfl) (getI_V ev6) dX4_adds_24 ?_
  refine g_iload_n X dX4_adds_27 rfl rfl ?_
  obtain ⟨h7, eh7, hF⟩ := bnd hF
  refine g_iast X eh7 dX4_adds_28 ?_
  refine g_aload_n X dX4_adds_29 rfl rfl ?_
  obtain ⟨v8, ev8, hF⟩ := bnd hF
  refine g_get (k := 15) X in_X4 rfl (by decide) q1778 (Or.inl rfl) (getR_V ev8) dX4_adds_30 ?_
  refine g_aload_n X dX4_adds_33 rfl rfl ?_
  obtain ⟨v9, ev9, hF⟩ := bnd hF
  refine g_get (k := 16) X in_X4 rfl (by decide) q1779 (Or.inl rfl) (getI_V ev9) dX4_adds_34 ?_
  refine g_iload_n X dX4_adds_37 rfl rfl ?_
  obtain ⟨h10, eh10, hF⟩ := bnd hF
  refine g_iast X eh10 dX4_adds_38 ?_
  refine g_aload_n X dX4_adds_39 rfl rfl ?_
  refine g_dup X dX4_adds_40 (cat_rf _) ?_
  obtain ⟨v11, ev11, hF⟩ := bnd hF
  refine g_get (k := 16) X in_X4 rfl (by decide) q1779 (Or.inl rfl) (getI_V ev11) dX4_adds_41 ?_
  refine g_iconst (v := (1 : Int32)) X dX4_adds_44 (by decide) ?_
  refine g_iadd X dX4_adds_45 ?_
  obtain ⟨h12, eh12, hF⟩ := bnd hF
  refine g_put (k := 16) X in_X4 tyX4 tyX4_ok nmX4 rfl (by decide) q1779 (Or.inl rfl) rfl (tyX4_ok 16 (by decide)) rfl rfl eh12 dX4_adds_46 ?_
  cases hF
  exact g_vret X hr dX4_adds_49
def F_X4_needs_T58 (this : Nat) (a1 : Int32) (x2_1 : Int32) (y0_58 : Int32) (y1_58 : Int32) (y2_58 : Option Nat) (h_58 : HH) : Option ((Int32 × HH) ⊕ HH) :=
  Option.bind (astI h_58 y2_58 y1_58 y0_58) fun h6 =>
  Option.bind (getR h6 1 9 (some this)) fun v7 =>
  Option.bind (getR h6 1 9 (some this)) fun v8 =>
  Option.bind (aldI h6 0 v8 ((12 : Int32) + x2_1)) fun v9 =>
  Option.bind (isO h6 1 (some this)) fun ob10 =>
  Option.bind (F_X4_line ob10 a1 ((2 : Int32) + x2_1) h6) fun v11 =>
  Option.bind (astI h6 v7 ((12 : Int32) + x2_1) (F_X4_less v9 (-v11))) fun h12 =>
  some (.inl ((x2_1 + (1 : Int32)), h12))
def F_X4_needs_B2 (this : Nat) (a1 : Int32) (x2_1 : Int32) (h_1 : HH) : Option ((Int32 × HH) ⊕ HH) :=
  if (3 : Int32) ≤ x2_1 then (
    some (.inr h_1)
  ) else (
    Option.bind (isO h_1 1 (some this)) fun ob3 =>
    Option.bind (F_X4_line ob3 a1 ((5 : Int32) + x2_1) h_1) fun v4 =>
    Option.bind (getR h_1 1 9 (some this)) fun v5 =>
    if v4 = (10 : Int32) then (
      Option.bind (getR h_1 1 9 (some this)) fun v16 =>
      Option.bind (aldI h_1 0 v16 (((4 : Int32) * x2_1) + (3 : Int32))) fun v17 =>
      F_X4_needs_T58 this a1 x2_1 v17 (((4 : Int32) * x2_1) + (3 : Int32)) v5 h_1
    ) else (
      Option.bind (getR h_1 1 9 (some this)) fun v14 =>
      Option.bind (aldI h_1 0 v14 (((4 : Int32) * x2_1) + (3 : Int32))) fun v15 =>
      F_X4_needs_T58 this a1 x2_1 (F_X4_less v15 v4) (((4 : Int32) * x2_1) + (3 : Int32)) v5 h_1
    )
  )
def F_X4_needs (this : Nat) (a1 : Int32) (h0 : HH) : Option (Int32 × HH) :=
  Option.bind (lp (fun z => F_X4_needs_B2 this a1 z.1 z.2) 100000 ((0 : Int32), h0)) fun h18 =>
  Option.bind (getR h18 1 9 (some this)) fun v19 =>
  b2 (F_X4_tightens v19 (0 : Int32) h18) fun v21 h20 =>
  Option.bind (okZ v21) fun _ =>
  some (v21, h20)
set_option maxHeartbeats 4000000 in
theorem w_X4_needs (l : Launch) (hl : l.stackTraces = false) (D : va_G) (dA : Nat → ClassId) (h0 : HH) (this : Nat) (a1 : Int32) (rE : Int32) (hE : HH) (hF : F_X4_needs this a1 h0 = some (rE, hE)) : MC D dA l yX4_needs cX4_needs 4 (Option.some Jvm.ClassFile.FieldType.boolean) [] 2 46 [va_rf (some this), .int a1] h0 (.inr (some (.int rE)), hE) := by
  refine mc_of hl (plainFor_of_name pn_X4) (by simp [lg_sl, cat_rf, cat_i, cat_j, cat_f, cat_d]) ?_
  intro p e s m args below meth c R hRf hRl X hr hnm
  unfold F_X4_needs at hF
  rw [show argL [va_rf (some this), .int a1] = [some (va_rf (some this)), some (.int a1)] from by simp [argL, cat_rf, cat_i, cat_j, cat_f, cat_d]]
  refine G.pad 2 (L' := [some (va_rf (some this)), some (.int a1), none, none]) rfl ?_
  refine g_iconst (v := (0 : Int32)) X dX4_needs_0 (by decide) ?_
  refine g_istore_n (L' := [some (va_rf (some this)), some (.int a1), some (.int (0 : Int32)), none]) X dX4_needs_1 rfl (Nat.le_of_ble_eq_true rfl) (by first | rfl | simp [stL, rm1, clr2, cat_rf, cat_i, cat_j, cat_f, cat_d]) ?_
  obtain ⟨h18, e23, hF⟩ := bnd hF
  refine lp_ind (Gs := (fun z => G p l e R s m args below meth c (RQ D dA h0 (.inr (some (.int rE)), hE) below s) D dA h0 4 z.2 2 [some (va_rf (some this)), some (.int a1), some (.int z.1), none] [])) (Ge := (fun z => G p l e R s m args below meth c (RQ D dA h0 (.inr (some (.int rE)), hE) below s) D dA h0 4 z 95 [some (va_rf (some this)), none, none, none] [])) ?_ _ _ _ e23 ?_
  · rintro ⟨x2_1, h_1⟩ o hF hgo hr
    change F_X4_needs_B2 this a1 x2_1 h_1 = some o at hF
    unfold F_X4_needs_B2 at hF
    show G p l e R s m args below meth c (RQ D dA h0 (.inr (some (.int rE)), hE) below s) D dA h0 4 h_1 2 [some (va_rf (some this)), some (.int a1), some (.int x2_1), none] []
    refine g_iload_n X dX4_needs_2 rfl rfl ?_
    refine g_iconst (v := (3 : Int32)) X dX4_needs_3 (by decide) ?_
    refine g_icmp_ge X 95 dX4_needs_4 (by decide) (fun c2 => ?_) (fun c2 => ?_)
    · have hF := (if_pos c2).symm.trans hF
      refine G.drop [true, false, false, false] rfl ?_
      cases hF
      exact hr _ rfl
    · have hF := (if_neg c2).symm.trans hF
      refine g_aload_n X dX4_needs_7 rfl rfl ?_
      refine g_iload_n X dX4_needs_8 rfl rfl ?_
      refine g_iconst (v := (5 : Int32)) X dX4_needs_9 (by decide) ?_
      refine g_iload_n X dX4_needs_10 rfl rfl ?_
      refine g_iadd X dX4_needs_11 ?_
      obtain ⟨ob3, eob3, hF⟩ := bnd hF
      obtain ⟨v4, ev4, hF⟩ := bnd hF
      refine g_callV X eob3 rfl rfl (w_X4_line l hl D dA h_1 ob3 a1 ((5 : Int32) + x2_1) v4 ev4) q2064 q2066 qs59 q103 q2067 okn_X4_line ⟨by rw [hRf]; exact Nat.le_of_ble_eq_true rfl, by rw [hRl]; exact Nat.le_of_ble_eq_true rfl⟩ (As := [.int a1, .int ((5 : Int32) + x2_1)]) (rest := []) rfl (by first | exact Nat.le_of_ble_eq_true rfl | simp [cat_rf, cat_i, cat_j, cat_f, cat_d]) dX4_needs_12 (ac_v ?_)
      refine g_istore_n (L' := [some (va_rf (some this)), some (.int a1), some (.int x2_1), some (.int v4)]) X dX4_needs_15 rfl (Nat.le_of_ble_eq_true rfl) (by first | rfl | simp [stL, rm1, clr2, cat_rf, cat_i, cat_j, cat_f, cat_d]) ?_
      refine g_aload_n X dX4_needs_16 rfl rfl ?_
      obtain ⟨v5, ev5, hF⟩ := bnd hF
      refine g_get (k := 9) X in_X4 rfl (by decide) q1772 (Or.inl rfl) (getR_V ev5) dX4_needs_17 ?_
      refine g_iconst (v := (4 : Int32)) X dX4_needs_20 (by decide) ?_
      refine g_iload_n X dX4_needs_21 rfl rfl ?_
      refine g_imul X dX4_needs_22 ?_
      refine g_iconst (v := (3 : Int32)) X dX4_needs_23 (by decide) ?_
      refine g_iadd X dX4_needs_24 ?_
      refine g_iload_n X dX4_needs_25 rfl rfl ?_
      refine g_bipush (v := (10 : Int32)) X dX4_needs_26 (by decide) ?_
      have T58 : ∀ (y0_58 : Int32) (y1_58 : Int32) (y2_58 : Option Nat) (h_58 : HH) (o : (Int32 × HH) ⊕ HH), F_X4_needs_T58 this a1 x2_1 y0_58 y1_58 y2_58 h_58 = some o → (∀ y, o = .inl y → (fun z => G p l e R s m args below meth c (RQ D dA h0 (.inr (some (.int rE)), hE) below s) D dA h0 4 z.2 2 [some (va_rf (some this)), some (.int a1), some (.int z.1), none] []) y) → (∀ r, o = .inr r → (fun z => G p l e R s m args below meth c (RQ D dA h0 (.inr (some (.int rE)), hE) below s) D dA h0 4 z 95 [some (va_rf (some this)), none, none, none] []) r) → G p l e R s m args below meth c (RQ D dA h0 (.inr (some (.int rE)), hE) below s) D dA h0 4 h_58 58 [some (va_rf (some this)), some (.int a1), some (.int x2_1), none] [.int y0_58, .int y1_58, va_rf y2_58] := by
        intro y0_58 y1_58 y2_58 h_58 o hF hgo hr
        unfold F_X4_needs_T58 at hF
        obtain ⟨h6, eh6, hF⟩ := bnd hF
        refine g_iast X eh6 dX4_needs_58 ?_
        refine g_aload_n X dX4_needs_59 rfl rfl ?_
        obtain ⟨v7, ev7, hF⟩ := bnd hF
        refine g_get (k := 9) X in_X4 rfl (by decide) q1772 (Or.inl rfl) (getR_V ev7) dX4_needs_60 ?_
        refine g_bipush (v := (12 : Int32)) X dX4_needs_63 (by decide) ?_
        refine g_iload_n X dX4_needs_65 rfl rfl ?_
        refine g_iadd X dX4_needs_66 ?_
        refine g_aload_n X dX4_needs_67 rfl rfl ?_
        obtain ⟨v8, ev8, hF⟩ := bnd hF
        refine g_get (k := 9) X in_X4 rfl (by decide) q1772 (Or.inl rfl) (getR_V ev8) dX4_needs_68 ?_
        refine g_bipush (v := (12 : Int32)) X dX4_needs_71 (by decide) ?_
        refine g_iload_n X dX4_needs_73 rfl rfl ?_
        refine g_iadd X dX4_needs_74 ?_
        obtain ⟨v9, ev9, hF⟩ := bnd hF
        refine g_iald X ev9 dX4_needs_75 ?_
        refine g_aload_n X dX4_needs_76 rfl rfl ?_
        refine g_iload_n X dX4_needs_77 rfl rfl ?_
        refine g_iconst (v := (2 : Int32)) X dX4_needs_78 (by decide) ?_
        refine g_iload_n X dX4_needs_79 rfl rfl ?_
        refine g_iadd X dX4_needs_80 ?_
        obtain ⟨ob10, eob10, hF⟩ := bnd hF
        obtain ⟨v11, ev11, hF⟩ := bnd hF
        refine g_callV X eob10 rfl rfl (w_X4_line l hl D dA h6 ob10 a1 ((2 : Int32) + x2_1) v11 ev11) q2064 q2066 qs59 q103 q2067 okn_X4_line ⟨by rw [hRf]; exact Nat.le_of_ble_eq_true rfl, by rw [hRl]; exact Nat.le_of_ble_eq_true rfl⟩ (As := [.int a1, .int ((2 : Int32) + x2_1)]) (rest := [.int v9, .int ((12 : Int32) + x2_1), va_rf v7]) rfl (by first | exact Nat.le_of_ble_eq_true rfl | simp [cat_rf, cat_i, cat_j, cat_f, cat_d]) dX4_needs_81 (ac_v ?_)
        refine g_ineg X dX4_needs_84 ?_
        refine g_callS X (w_X4_less l hl D dA h6 v9 (-v11)) q1893 q1894 q103 q1895 okn_X4_less ⟨by rw [hRf]; exact Nat.le_of_ble_eq_true rfl, by rw [hRl]; exact Nat.le_of_ble_eq_true rfl⟩ (As := [.int v9, .int (-v11)]) (rest := [.int ((12 : Int32) + x2_1), va_rf v7]) rfl (by first | exact Nat.le_of_ble_eq_true rfl | simp [cat_rf, cat_i, cat_j, cat_f, cat_d]) dX4_needs_85 (ac_v ?_)
        obtain ⟨h12, eh12, hF⟩ := bnd hF
        refine g_iast X eh12 dX4_needs_88 ?_
        refine g_iinc (v := (x2_1 + (1 : Int32))) (L' := [some (va_rf (some this)), some (.int a1), some (.int (x2_1 + (1 : Int32))), none]) X dX4_needs_89 (Nat.le_of_ble_eq_true rfl) rfl rfl (by first | rfl | simp [stL, rm1, clr2, cat_rf, cat_i, cat_j, cat_f, cat_d]) ?_
        refine g_goto X 2 dX4_needs_92 (by decide) ?_
        cases hF
        exact hgo _ rfl
      refine g_icmp_ne X 44 dX4_needs_28 (by decide) (fun c13 => ?_) (fun c13 => ?_)
      · have hF := (if_neg c13).symm.trans hF
        refine g_aload_n X dX4_needs_44 rfl rfl ?_
        obtain ⟨v14, ev14, hF⟩ := bnd hF
        refine g_get (k := 9) X in_X4 rfl (by decide) q1772 (Or.inl rfl) (getR_V ev14) dX4_needs_45 ?_
        refine g_iconst (v := (4 : Int32)) X dX4_needs_48 (by decide) ?_
        refine g_iload_n X dX4_needs_49 rfl rfl ?_
        refine g_imul X dX4_needs_50 ?_
        refine g_iconst (v := (3 : Int32)) X dX4_needs_51 (by decide) ?_
        refine g_iadd X dX4_needs_52 ?_
        obtain ⟨v15, ev15, hF⟩ := bnd hF
        refine g_iald X ev15 dX4_needs_53 ?_
        refine g_iload_n X dX4_needs_54 rfl rfl ?_
        refine g_callS X (w_X4_less l hl D dA h_1 v15 v4) q1893 q1894 q103 q1895 okn_X4_less ⟨by rw [hRf]; exact Nat.le_of_ble_eq_true rfl, by rw [hRl]; exact Nat.le_of_ble_eq_true rfl⟩ (As := [.int v15, .int v4]) (rest := [.int (((4 : Int32) * x2_1) + (3 : Int32)), va_rf v5]) rfl (by first | exact Nat.le_of_ble_eq_true rfl | simp [cat_rf, cat_i, cat_j, cat_f, cat_d]) dX4_needs_55 (ac_v ?_)
        refine G.drop [true, true, true, false] rfl ?_
        exact T58 _ _ _ _ _ hF hgo hr
      · have hF := (if_pos c13).symm.trans hF
        refine g_aload_n X dX4_needs_31 rfl rfl ?_
        obtain ⟨v16, ev16, hF⟩ := bnd hF
        refine g_get (k := 9) X in_X4 rfl (by decide) q1772 (Or.inl rfl) (getR_V ev16) dX4_needs_32 ?_
        refine g_iconst (v := (4 : Int32)) X dX4_needs_35 (by decide) ?_
        refine g_iload_n X dX4_needs_36 rfl rfl ?_
        refine g_imul X dX4_needs_37 ?_
        refine g_iconst (v := (3 : Int32)) X dX4_needs_38 (by decide) ?_
        refine g_iadd X dX4_needs_39 ?_
        obtain ⟨v17, ev17, hF⟩ := bnd hF
        refine g_iald X ev17 dX4_needs_40 ?_
        refine g_goto X 58 dX4_needs_41 (by decide) ?_
        refine G.drop [true, true, true, false] rfl ?_
        exact T58 _ _ _ _ _ hF hgo hr
  show G p l e R s m args below meth c (RQ D dA h0 (.inr (some (.int rE)), hE) below s) D dA h0 4 h18 95 [some (va_rf (some this)), none, none, none] []
  refine g_aload_n X dX4_needs_95 rfl rfl ?_
  obtain ⟨v19, ev19, hF⟩ := bnd hF
  refine g_get (k := 9) X in_X4 rfl (by decide) q1772 (Or.inl rfl) (getR_V ev19) dX4_needs_96 ?_
  refine g_iconst (v := (0 : Int32)) X dX4_needs_99 (by decide) ?_
  obtain ⟨v21, h20, eh20, hF⟩ := b2_some hF
  refine g_callS X (w_X4_tightens l hl D dA h18 v19 (0 : Int32) v21 h20 eh20) q1887 q1888 q103 q1889 okn_X4_tightens ⟨by rw [hRf]; exact Nat.le_of_ble_eq_true rfl, by rw [hRl]; exact Nat.le_of_ble_eq_true rfl⟩ (As := [va_rf v19, .int (0 : Int32)]) (rest := []) rfl (by first | exact Nat.le_of_ble_eq_true rfl | simp [cat_rf, cat_i, cat_j, cat_f, cat_d]) dX4_needs_100 (ac_v ?_)
  obtain ⟨_, z22, hF⟩ := bnd hF
  cases hF
  exact g_zret X hr (narZ z22) dX4_needs_103
def F_X4_staysIn_B2 (this : Nat) (a1 : Int32) (x2_1 : Int32) (h_1 : HH) : Option ((Int32 × HH) ⊕ HH) :=
  if (3 : Int32) ≤ x2_1 then (
    some (.inr h_1)
  ) else (
    Option.bind (isO h_1 1 (some this)) fun ob3 =>
    Option.bind (F_X4_stay ob3 a1 x2_1 h_1) fun v4 =>
    Option.bind (getR h_1 1 9 (some this)) fun v5 =>
    if v4 = (10 : Int32) then (
      Option.bind (getR h_1 1 9 (some this)) fun v10 =>
      Option.bind (aldI h_1 0 v10 (((4 : Int32) * x2_1) + (3 : Int32))) fun v11 =>
      Option.bind (astI h_1 v5 (((4 : Int32) * x2_1) + (3 : Int32)) v11) fun h12 =>
      some (.inl ((x2_1 + (1 : Int32)), h12))
    ) else (
      Option.bind (getR h_1 1 9 (some this)) fun v7 =>
      Option.bind (aldI h_1 0 v7 (((4 : Int32) * x2_1) + (3 : Int32))) fun v8 =>
      Option.bind (astI h_1 v5 (((4 : Int32) * x2_1) + (3 : Int32)) (F_X4_less v8 v4)) fun h9 =>
      some (.inl ((x2_1 + (1 : Int32)), h9))
    )
  )
def F_X4_staysIn (this : Nat) (a1 : Int32) (h0 : HH) : Option (Int32 × HH) :=
  Option.bind (lp (fun z => F_X4_staysIn_B2 this a1 z.1 z.2) 100000 ((0 : Int32), h0)) fun h13 =>
  Option.bind (getR h13 1 9 (some this)) fun v14 =>
  b2 (F_X4_tightens v14 (0 : Int32) h13) fun v16 h15 =>
  Option.bind (okZ v16) fun _ =>
  some (v16, h15)
set_option maxHeartbeats 4000000 in
theorem w_X4_staysIn (l : Launch) (hl : l.stackTraces = false) (D : va_G) (dA : Nat → ClassId) (h0 : HH) (this : Nat) (a1 : Int32) (rE : Int32) (hE : HH) (hF : F_X4_staysIn this a1 h0 = some (rE, hE)) : MC D dA l yX4_staysIn cX4_staysIn 4 (Option.some Jvm.ClassFile.FieldType.boolean) [] 2 46 [va_rf (some this), .int a1] h0 (.inr (some (.int rE)), hE) := by
  refine mc_of hl (plainFor_of_name pn_X4) (by simp [lg_sl, cat_rf, cat_i, cat_j, cat_f, cat_d]) ?_
  intro p e s m args below meth c R hRf hRl X hr hnm
  unfold F_X4_staysIn at hF
  rw [show argL [va_rf (some this), .int a1] = [some (va_rf (some this)), some (.int a1)] from by simp [argL, cat_rf, cat_i, cat_j, cat_f, cat_d]]
  refine G.pad 2 (L' := [some (va_rf (some this)), some (.int a1), none, none]) rfl ?_
  refine g_iconst (v := (0 : Int32)) X dX4_staysIn_0 (by decide) ?_
  refine g_istore_n (L' := [some (va_rf (some this)), some (.int a1), some (.int (0 : Int32)), none]) X dX4_staysIn_1 rfl (Nat.le_of_ble_eq_true rfl) (by first | rfl | simp [stL, rm1, clr2, cat_rf, cat_i, cat_j, cat_f, cat_d]) ?_
  obtain ⟨h13, e18, hF⟩ := bnd hF
  refine lp_ind (Gs := (fun z => G p l e R s m args below meth c (RQ D dA h0 (.inr (some (.int rE)), hE) below s) D dA h0 4 z.2 2 [some (va_rf (some this)), some (.int a1), some (.int z.1), none] [])) (Ge := (fun z => G p l e R s m args below meth c (RQ D dA h0 (.inr (some (.int rE)), hE) below s) D dA h0 4 z 63 [some (va_rf (some this)), none, none, none] [])) ?_ _ _ _ e18 ?_
  · rintro ⟨x2_1, h_1⟩ o hF hgo hr
    change F_X4_staysIn_B2 this a1 x2_1 h_1 = some o at hF
    unfold F_X4_staysIn_B2 at hF
    show G p l e R s m args below meth c (RQ D dA h0 (.inr (some (.int rE)), hE) below s) D dA h0 4 h_1 2 [some (va_rf (some this)), some (.int a1), some (.int x2_1), none] []
    refine g_iload_n X dX4_staysIn_2 rfl rfl ?_
    refine g_iconst (v := (3 : Int32)) X dX4_staysIn_3 (by decide) ?_
    refine g_icmp_ge X 63 dX4_staysIn_4 (by decide) (fun c2 => ?_) (fun c2 => ?_)
    · have hF := (if_pos c2).symm.trans hF
      refine G.drop [true, false, false, false] rfl ?_
      cases hF
      exact hr _ rfl
    · have hF := (if_neg c2).symm.trans hF
      refine g_aload_n X dX4_staysIn_7 rfl rfl ?_
      refine g_iload_n X dX4_staysIn_8 rfl rfl ?_
      refine g_iload_n X dX4_staysIn_9 rfl rfl ?_
      obtain ⟨ob3, eob3, hF⟩ := bnd hF
      obtain ⟨v4, ev4, hF⟩ := bnd hF
      refine g_callV X eob3 rfl rfl (w_X4_stay l hl D dA h_1 ob3 a1 x2_1 v4 ev4) q2182 q2184 qs68 q103 q2185 okn_X4_stay ⟨by rw [hRf]; exact Nat.le_of_ble_eq_true rfl, by rw [hRl]; exact Nat.le_of_ble_eq_true rfl⟩ (As := [.int a1, .int x2_1]) (rest := []) rfl (by first | exact Nat.le_of_ble_eq_true rfl | simp [cat_rf, cat_i, cat_j, cat_f, cat_d]) dX4_staysIn_10 (ac_v ?_)
      refine g_istore_n (L' := [some (va_rf (some this)), some (.int a1), some (.int x2_1), some (.int v4)]) X dX4_staysIn_13 rfl (Nat.le_of_ble_eq_true rfl) (by first | rfl | simp [stL, rm1, clr2, cat_rf, cat_i, cat_j, cat_f, cat_d]) ?_
      refine g_aload_n X dX4_staysIn_14 rfl rfl ?_
      obtain ⟨v5, ev5, hF⟩ := bnd hF
      refine g_get (k := 9) X in_X4 rfl (by decide) q1772 (Or.inl rfl) (getR_V ev5) dX4_staysIn_15 ?_
      refine g_iconst (v := (4 : Int32)) X dX4_staysIn_18 (by decide) ?_
      refine g_iload_n X dX4_staysIn_19 rfl rfl ?_
      refine g_imul X dX4_staysIn_20 ?_
      refine g_iconst (v := (3 : Int32)) X dX4_staysIn_21 (by decide) ?_
      refine g_iadd X dX4_staysIn_22 ?_
      refine g_iload_n X dX4_staysIn_23 rfl rfl ?_
      refine g_bipush (v := (10 : Int32)) X dX4_staysIn_24 (by decide) ?_
      refine g_icmp_ne X 42 dX4_staysIn_26 (by decide) (fun c6 => ?_) (fun c6 => ?_)
      · have hF := (if_neg c6).symm.trans hF
        refine g_aload_n X dX4_staysIn_42 rfl rfl ?_
        obtain ⟨v7, ev7, hF⟩ := bnd hF
        refine g_get (k := 9) X in_X4 rfl (by decide) q1772 (Or.inl rfl) (getR_V ev7) dX4_staysIn_43 ?_
        refine g_iconst (v := (4 : Int32)) X dX4_staysIn_46 (by decide) ?_
        refine g_iload_n X dX4_staysIn_47 rfl rfl ?_
        refine g_imul X dX4_staysIn_48 ?_
        refine g_iconst (v := (3 : Int32)) X dX4_staysIn_49 (by decide) ?_
        refine g_iadd X dX4_staysIn_50 ?_
        obtain ⟨v8, ev8, hF⟩ := bnd hF
        refine g_iald X ev8 dX4_staysIn_51 ?_
        refine g_iload_n X dX4_staysIn_52 rfl rfl ?_
        refine g_callS X (w_X4_less l hl D dA h_1 v8 v4) q1893 q1894 q103 q1895 okn_X4_less ⟨by rw [hRf]; exact Nat.le_of_ble_eq_true rfl, by rw [hRl]; exact Nat.le_of_ble_eq_true rfl⟩ (As := [.int v8, .int v4]) (rest := [.int (((4 : Int32) * x2_1) + (3 : Int32)), va_rf v5]) rfl (by first | exact Nat.le_of_ble_eq_true rfl | simp [cat_rf, cat_i, cat_j, cat_f, cat_d]) dX4_staysIn_53 (ac_v ?_)
        obtain ⟨h9, eh9, hF⟩ := bnd hF
        refine g_iast X eh9 dX4_staysIn_56 ?_
        refine g_iinc (v := (x2_1 + (1 : Int32))) (L' := [some (va_rf (some this)), some (.int a1), some (.int (x2_1 + (1 : Int32))), some (.int v4)]) X dX4_staysIn_57 (Nat.le_of_ble_eq_true rfl) rfl rfl (by first | rfl | simp [stL, rm1, clr2, cat_rf, cat_i, cat_j, cat_f, cat_d]) ?_
        refine g_goto X 2 dX4_staysIn_60 (by decide) ?_
        refine G.drop [true, true, true, false] rfl ?_
        cases hF
        exact hgo _ rfl
      · have hF := (if_pos c6).symm.trans hF
        refine g_aload_n X dX4_staysIn_29 rfl rfl ?_
        obtain ⟨v10, ev10, hF⟩ := bnd hF
        refine g_get (k := 9) X in_X4 rfl (by decide) q1772 (Or.inl rfl) (getR_V ev10) dX4_staysIn_30 ?_
        refine g_iconst (v := (4 : Int32)) X dX4_staysIn_33 (by decide) ?_
        refine g_iload_n X dX4_staysIn_34 rfl rfl ?_
        refine g_imul X dX4_staysIn_35 ?_
        refine g_iconst (v := (3 : Int32)) X dX4_staysIn_36 (by decide) ?_
        refine g_iadd X dX4_staysIn_37 ?_
        obtain ⟨v11, ev11, hF⟩ := bnd hF
        refine g_iald X ev11 dX4_staysIn_38 ?_
        refine g_goto X 56 dX4_staysIn_39 (by decide) ?_
        obtain ⟨h12, eh12, hF⟩ := bnd hF
        refine g_iast X eh12 dX4_staysIn_56 ?_
        refine g_iinc (v := (x2_1 + (1 : Int32))) (L' := [some (va_rf (some this)), some (.int a1), some (.int (x2_1 + (1 : Int32))), some (.int v4)]) X dX4_staysIn_57 (Nat.le_of_ble_eq_true rfl) rfl rfl (by first | rfl | simp [stL, rm1, clr2, cat_rf, cat_i, cat_j, cat_f, cat_d]) ?_
        refine g_goto X 2 dX4_staysIn_60 (by decide) ?_
        refine G.drop [true, true, true, false] rfl ?_
        cases hF
        exact hgo _ rfl
  show G p l e R s m args below meth c (RQ D dA h0 (.inr (some (.int rE)), hE) below s) D dA h0 4 h13 63 [some (va_rf (some this)), none, none, none] []
  refine g_aload_n X dX4_staysIn_63 rfl rfl ?_
  obtain ⟨v14, ev14, hF⟩ := bnd hF
  refine g_get (k := 9) X in_X4 rfl (by decide) q1772 (Or.inl rfl) (getR_V ev14) dX4_staysIn_64 ?_
  refine g_iconst (v := (0 : Int32)) X dX4_staysIn_67 (by decide) ?_
  obtain ⟨v16, h15, eh15, hF⟩ := b2_some hF
  refine g_callS X (w_X4_tightens l hl D dA h13 v14 (0 : Int32) v16 h15 eh15) q1887 q1888 q103 q1889 okn_X4_tightens ⟨by rw [hRf]; exact Nat.le_of_ble_eq_true rfl, by rw [hRl]; exact Nat.le_of_ble_eq_true rfl⟩ (As := [va_rf v14, .int (0 : Int32)]) (rest := []) rfl (by first | exact Nat.le_of_ble_eq_true rfl | simp [cat_rf, cat_i, cat_j, cat_f, cat_d]) dX4_staysIn_68 (ac_v ?_)
  obtain ⟨_, z17, hF⟩ := bnd hF
  cases hF
  exact g_zret X hr (narZ z17) dX4_staysIn_71
def F_X4_widens_T33 (this : Nat) (x1_1 : Int32) (y0_33 : Int32) (h_33 : HH) : Option ((Int32 × HH) ⊕ HH) :=
  Option.bind (getR h_33 1 9 (some this)) fun v3 =>
  if y0_33 = 0 then (
    Option.bind (getR h_33 1 9 (some this)) fun v5 =>
    Option.bind (aldI h_33 0 v5 x1_1) fun v6 =>
    Option.bind (astI h_33 v3 x1_1 (F_X4_more v6 (-10 : Int32))) fun h7 =>
    some (.inl ((x1_1 + (1 : Int32)), h7))
  ) else (
    Option.bind (astI h_33 v3 x1_1 (100000 : Int32)) fun h8 =>
    some (.inl ((x1_1 + (1 : Int32)), h8))
  )
def F_X4_widens_B2 (this : Nat) (x1_1 : Int32) (h_1 : HH) : Option ((Int32 × HH) ⊕ HH) :=
  if (16 : Int32) ≤ x1_1 then (
    some (.inr h_1)
  ) else (
    if (x1_1 / (4 : Int32)) = (x1_1 - x1_1 / (4 : Int32) * (4 : Int32)) then (
      F_X4_widens_T33 this x1_1 (0 : Int32) h_1
    ) else (
      Option.bind (getR h_1 1 9 (some this)) fun v10 =>
      Option.bind (aldI h_1 0 v10 x1_1) fun v11 =>
      if v11 ≤ (9 : Int32) then (
        F_X4_widens_T33 this x1_1 (0 : Int32) h_1
      ) else (
        F_X4_widens_T33 this x1_1 (1 : Int32) h_1
      )
    )
  )
def F_X4_widens (this : Nat) (h0 : HH) : Option HH :=
  Option.bind (lp (fun z => F_X4_widens_B2 this z.1 z.2) 100000 ((0 : Int32), h0)) fun h13 =>
  Option.bind (getR h13 1 9 (some this)) fun v14 =>
  b2 (F_X4_tightens v14 (0 : Int32) h13) fun v16 h15 =>
  some h15
set_option maxHeartbeats 4000000 in
theorem w_X4_widens (l : Launch) (hl : l.stackTraces = false) (D : va_G) (dA : Nat → ClassId) (h0 : HH) (this : Nat) (hE : HH) (hF : F_X4_widens this h0 = some hE) : MC D dA l yX4_widens cX4_widens 3 (Option.none : Option Jvm.ClassFile.FieldType) [] 2 46 [va_rf (some this)] h0 (.inr none, hE) := by
  refine mc_of hl (plainFor_of_name pn_X4) (by simp [lg_sl, cat_rf, cat_i, cat_j, cat_f, cat_d]) ?_
  intro p e s m args below meth c R hRf hRl X hr hnm
  unfold F_X4_widens at hF
  rw [show argL [va_rf (some this)] = [some (va_rf (some this))] from by simp [argL, cat_rf, cat_i, cat_j, cat_f, cat_d]]
  refine G.pad 2 (L' := [some (va_rf (some this)), none, none]) rfl ?_
  refine g_iconst (v := (0 : Int32)) X dX4_widens_0 (by decide) ?_
  refine g_istore_n (L' := [some (va_rf (some this)), some (.int (0 : Int32)), none]) X dX4_widens_1 rfl (Nat.le_of_ble_eq_true rfl) (by first | rfl | simp [stL, rm1, clr2, cat_rf, cat_i, cat_j, cat_f, cat_d]) ?_
  obtain ⟨h13, e17, hF⟩ := bnd hF
  refine lp_ind (Gs := (fun z => G p l e R s m args below meth c (RQ D dA h0 (.inr none, hE) below s) D dA h0 3 z.2 2 [some (va_rf (some this)), some (.int z.1), none] [])) (Ge := (fun z => G p l e R s m args below meth c (RQ D dA h0 (.inr none, hE) below s) D dA h0 3 z 66 [some (va_rf (some this)), none, none] [])) ?_ _ _ _ e17 ?_
  · rintro ⟨x1_1, h_1⟩ o hF hgo hr
    change F_X4_widens_B2 this x1_1 h_1 = some o at hF
    unfold F_X4_widens_B2 at hF
    show G p l e R s m args below meth c (RQ D dA h0 (.inr none, hE) below s) D dA h0 3 h_1 2 [some (va_rf (some this)), some (.int x1_1), none] []
    refine g_iload_n X dX4_widens_2 rfl rfl ?_
    refine g_bipush (v := (16 : Int32)) X dX4_widens_3 (by decide) ?_
    refine g_icmp_ge X 66 dX4_widens_5 (by decide) (fun c2 => ?_) (fun c2 => ?_)
    · have hF := (if_pos c2).symm.trans hF
      refine G.drop [true, false, false] rfl ?_
      cases hF
      exact hr _ rfl
    · have hF := (if_neg c2).symm.trans hF
      refine g_iload_n X dX4_widens_8 rfl rfl ?_
      refine g_iconst (v := (4 : Int32)) X dX4_widens_9 (by decide) ?_
      refine g_idiv X dX4_widens_10 (by decide) ?_
      refine g_iload_n X dX4_widens_11 rfl rfl ?_
      refine g_iconst (v := (4 : Int32)) X dX4_widens_12 (by decide) ?_
      refine g_irem X dX4_widens_13 (by decide) ?_
      have T33 : ∀ (y0_33 : Int32) (h_33 : HH) (o : (Int32 × HH) ⊕ HH), F_X4_widens_T33 this x1_1 y0_33 h_33 = some o → (∀ y, o = .inl y → (fun z => G p l e R s m args below meth c (RQ D dA h0 (.inr none, hE) below s) D dA h0 3 z.2 2 [some (va_rf (some this)), some (.int z.1), none] []) y) → (∀ r, o = .inr r → (fun z => G p l e R s m args below meth c (RQ D dA h0 (.inr none, hE) below s) D dA h0 3 z 66 [some (va_rf (some this)), none, none] []) r) → G p l e R s m args below meth c (RQ D dA h0 (.inr none, hE) below s) D dA h0 3 h_33 33 [some (va_rf (some this)), some (.int x1_1), none] [.int y0_33] := by
        intro y0_33 h_33 o hF hgo hr
        unfold F_X4_widens_T33 at hF
        refine g_istore_n (L' := [some (va_rf (some this)), some (.int x1_1), some (.int y0_33)]) X dX4_widens_33 rfl (Nat.le_of_ble_eq_true rfl) (by first | rfl | simp [stL, rm1, clr2, cat_rf, cat_i, cat_j, cat_f, cat_d]) ?_
        refine g_aload_n X dX4_widens_34 rfl rfl ?_
        obtain ⟨v3, ev3, hF⟩ := bnd hF
        refine g_get (k := 9) X in_X4 rfl (by decide) q1772 (Or.inl rfl) (getR_V ev3) dX4_widens_35 ?_
        refine g_iload_n X dX4_widens_38 rfl rfl ?_
        refine g_iload_n X dX4_widens_39 rfl rfl ?_
        refine g_if_eq X 48 dX4_widens_40 (by decide) (fun c4 => ?_) (fun c4 => ?_)
        · have hF := (if_pos c4).symm.trans hF
          refine g_aload_n X dX4_widens_48 rfl rfl ?_
          obtain ⟨v5, ev5, hF⟩ := bnd hF
          refine g_get (k := 9) X in_X4 rfl (by decide) q1772 (Or.inl rfl) (getR_V ev5) dX4_widens_49 ?_
          refine g_iload_n X dX4_widens_52 rfl rfl ?_
          obtain ⟨v6, ev6, hF⟩ := bnd hF
          refine g_iald X ev6 dX4_widens_53 ?_
          refine g_bipush (v := (-10 : Int32)) X dX4_widens_54 (by decide) ?_
          refine g_callS X (w_X4_more l hl D dA h_33 v6 (-10 : Int32)) q2038 q2039 q103 q2040 okn_X4_more ⟨by rw [hRf]; exact Nat.le_of_ble_eq_true rfl, by rw [hRl]; exact Nat.le_of_ble_eq_true rfl⟩ (As := [.int v6, .int (-10 : Int32)]) (rest := [.int x1_1, va_rf v3]) rfl (by first | exact Nat.le_of_ble_eq_true rfl | simp [cat_rf, cat_i, cat_j, cat_f, cat_d]) dX4_widens_56 (ac_v ?_)
          obtain ⟨h7, eh7, hF⟩ := bnd hF
          refine g_iast X eh7 dX4_widens_59 ?_
          refine g_iinc (v := (x1_1 + (1 : Int32))) (L' := [some (va_rf (some this)), some (.int (x1_1 + (1 : Int32))), some (.int y0_33)]) X dX4_widens_60 (Nat.le_of_ble_eq_true rfl) rfl rfl (by first | rfl | simp [stL, rm1, clr2, cat_rf, cat_i, cat_j, cat_f, cat_d]) ?_
          refine g_goto X 2 dX4_widens_63 (by decide) ?_
          refine G.drop [true, true, false] rfl ?_
          cases hF
          exact hgo _ rfl
        · have hF := (if_neg c4).symm.trans hF
          refine g_ldc (v := (100000 : Int32)) X q1762 dX4_widens_43 ?_
          refine g_goto X 59 dX4_widens_45 (by decide) ?_
          obtain ⟨h8, eh8, hF⟩ := bnd hF
          refine g_iast X eh8 dX4_widens_59 ?_
          refine g_iinc (v := (x1_1 + (1 : Int32))) (L' := [some (va_rf (some this)), some (.int (x1_1 + (1 : Int32))), some (.int y0_33)]) X dX4_widens_60 (Nat.le_of_ble_eq_true rfl) rfl rfl (by first | rfl | simp [stL, rm1, clr2, cat_rf, cat_i, cat_j, cat_f, cat_d]) ?_
          refine g_goto X 2 dX4_widens_63 (by decide) ?_
          refine G.drop [true, true, false] rfl ?_
          cases hF
          exact hgo _ rfl
      refine g_icmp_eq X 32 dX4_widens_14 (by decide) (fun c9 => ?_) (fun c9 => ?_)
      · have hF := (if_pos c9).symm.trans hF
        refine g_iconst (v := (0 : Int32)) X dX4_widens_32 (by decide) ?_
        exact T33 _ _ _ hF hgo hr
      · have hF := (if_neg c9).symm.trans hF
        refine g_aload_n X dX4_widens_17 rfl rfl ?_
        obtain ⟨v10, ev10, hF⟩ := bnd hF
        refine g_get (k := 9) X in_X4 rfl (by decide) q1772 (Or.inl rfl) (getR_V ev10) dX4_widens_18 ?_
        refine g_iload_n X dX4_widens_21 rfl rfl ?_
        obtain ⟨v11, ev11, hF⟩ := bnd hF
        refine g_iald X ev11 dX4_widens_22 ?_
        refine g_bipush (v := (9 : Int32)) X dX4_widens_23 (by decide) ?_
        refine g_icmp_le X 32 dX4_widens_25 (by decide) (fun c12 => ?_) (fun c12 => ?_)
        · have hF := (if_pos c12).symm.trans hF
          refine g_iconst (v := (0 : Int32)) X dX4_widens_32 (by decide) ?_
          exact T33 _ _ _ hF hgo hr
        · have hF := (if_neg c12).symm.trans hF
          refine g_iconst (v := (1 : Int32)) X dX4_widens_28 (by decide) ?_
          refine g_goto X 33 dX4_widens_29 (by decide) ?_
          exact T33 _ _ _ hF hgo hr
  show G p l e R s m args below meth c (RQ D dA h0 (.inr none, hE) below s) D dA h0 3 h13 66 [some (va_rf (some this)), none, none] []
  refine g_aload_n X dX4_widens_66 rfl rfl ?_
  obtain ⟨v14, ev14, hF⟩ := bnd hF
  refine g_get (k := 9) X in_X4 rfl (by decide) q1772 (Or.inl rfl) (getR_V ev14) dX4_widens_67 ?_
  refine g_iconst (v := (0 : Int32)) X dX4_widens_70 (by decide) ?_
  obtain ⟨v16, h15, eh15, hF⟩ := b2_some hF
  refine g_callS X (w_X4_tightens l hl D dA h13 v14 (0 : Int32) v16 h15 eh15) q1887 q1888 q103 q1889 okn_X4_tightens ⟨by rw [hRf]; exact Nat.le_of_ble_eq_true rfl, by rw [hRl]; exact Nat.le_of_ble_eq_true rfl⟩ (As := [va_rf v14, .int (0 : Int32)]) (rest := []) rfl (by first | exact Nat.le_of_ble_eq_true rfl | simp [cat_rf, cat_i, cat_j, cat_f, cat_d]) dX4_widens_71 (ac_v ?_)
  refine g_pop X dX4_widens_74 rfl ?_
  cases hF
  exact g_vret X hr dX4_widens_75
def F_X4_goes_B28 (this : Nat) (a1 : Int32) (a2 : Int32) (x3_8 : Int32) (h_8 : HH) : Option ((Int32 × HH) ⊕ HH) :=
  if (3 : Int32) ≤ x3_8 then (
    some (.inr h_8)
  ) else (
    Option.bind (isO h_8 1 (some this)) fun ob10 =>
    Option.bind (F_X4_line ob10 a2 (8 : Int32) h_8) fun v11 =>
    if ((v11 >>> (x3_8 &&& 31)) &&& (1 : Int32)) = (1 : Int32) then (
      Option.bind (isO h_8 1 (some this)) fun ob13 =>
      Option.bind (F_X4_resets ob13 x3_8 (0 : Int32) h_8) fun h14 =>
      some (.inl ((x3_8 + (1 : Int32)), h14))
    ) else (
      some (.inl ((x3_8 + (1 : Int32)), h_8))
    )
  )
def F_X4_goes (this : Nat) (a1 : Int32) (a2 : Int32) (h0 : HH) : Option (Int32 × HH) :=
  Option.bind (getR h0 1 13 (some this)) fun v1 =>
  Option.bind (getR h0 1 9 (some this)) fun v2 =>
  Option.bind (F_X4_carries v1 ((16 : Int32) * a1) v2 (0 : Int32) h0) fun h3 =>
  Option.bind (isO h3 1 (some this)) fun ob4 =>
  b2 (F_X4_needs ob4 a2 h3) fun v6 h5 =>
  if v6 = 0 then (
    some ((0 : Int32), h5)
  ) else (
    Option.bind (lp (fun z => F_X4_goes_B28 this a1 a2 z.1 z.2) 100000 ((0 : Int32), h5)) fun h15 =>
    Option.bind (isO h15 1 (some this)) fun ob16 =>
    Option.bind (F_X4_line ob16 a2 (1 : Int32) h15) fun v17 =>
    Option.bind (isO h15 1 (some this)) fun ob18 =>
    b2 (F_X4_staysIn ob18 v17 h15) fun v20 h19 =>
    if v20 = 0 then (
      some ((0 : Int32), h19)
    ) else (
      Option.bind (isO h19 1 (some this)) fun ob22 =>
      b2 (F_X4_delays ob22 h19) fun v24 h23 =>
      Option.bind (isO h23 1 (some this)) fun ob25 =>
      Option.bind (F_X4_line ob25 a2 (1 : Int32) h23) fun v26 =>
      Option.bind (isO h23 1 (some this)) fun ob27 =>
      b2 (F_X4_staysIn ob27 v26 h23) fun v29 h28 =>
      Option.bind (isO h28 1 (some this)) fun ob30 =>
      Option.bind (F_X4_widens ob30 h28) fun h31 =>
      some ((if v29 = 0 then (0 : Int32) else (if v24 < 0 then (0 : Int32) else (1 : Int32))), h31)
    )
  )
set_option maxHeartbeats 4000000 in
theorem w_X4_goes (l : Launch) (hl : l.stackTraces = false) (D : va_G) (dA : Nat → ClassId) (h0 : HH) (this : Nat) (a1 : Int32) (a2 : Int32) (rE : Int32) (hE : HH) (hF : F_X4_goes this a1 a2 h0 = some (rE, hE)) : MC D dA l yX4_goes cX4_goes 5 (Option.some Jvm.ClassFile.FieldType.boolean) [] 3 69 [va_rf (some this), .int a1, .int a2] h0 (.inr (some (.int rE)), hE) := by
  refine mc_of hl (plainFor_of_name pn_X4) (by simp [lg_sl, cat_rf, cat_i, cat_j, cat_f, cat_d]) ?_
  intro p e s m args below meth c R hRf hRl X hr hnm
  unfold F_X4_goes at hF
  rw [show argL [va_rf (some this), .int a1, .int a2] = [some (va_rf (some this)), some (.int a1), some (.int a2)] from by simp [argL, cat_rf, cat_i, cat_j, cat_f, cat_d]]
  refine G.pad 2 (L' := [some (va_rf (some this)), some (.int a1), some (.int a2), none, none]) rfl ?_
  refine g_aload_n X dX4_goes_0 rfl rfl ?_
  obtain ⟨v1, ev1, hF⟩ := bnd hF
  refine g_get (k := 13) X in_X4 rfl (by decide) q1776 (Or.inl rfl) (getR_V ev1) dX4_goes_1 ?_
  refine g_bipush (v := (16 : Int32)) X dX4_goes_4 (by decide) ?_
  refine g_iload_n X dX4_goes_6 rfl rfl ?_
  refine g_imul X dX4_goes_7 ?_
  refine g_aload_n X dX4_goes_8 rfl rfl ?_
  obtain ⟨v2, ev2, hF⟩ := bnd hF
  refine g_get (k := 9) X in_X4 rfl (by decide) q1772 (Or.inl rfl) (getR_V ev2) dX4_goes_9 ?_
  refine g_iconst (v := (0 : Int32)) X dX4_goes_12 (by decide) ?_
  obtain ⟨h3, eh3, hF⟩ := bnd hF
  refine g_callS X (w_X4_carries l hl D dA h0 v1 ((16 : Int32) * a1) v2 (0 : Int32) h3 eh3) q1884 q1885 q103 q1886 okn_X4_carries ⟨by rw [hRf]; exact Nat.le_of_ble_eq_true rfl, by rw [hRl]; exact Nat.le_of_ble_eq_true rfl⟩ (As := [va_rf v1, .int ((16 : Int32) * a1), va_rf v2, .int (0 : Int32)]) (rest := []) rfl (by first | exact Nat.le_of_ble_eq_true rfl | simp [cat_rf, cat_i, cat_j, cat_f, cat_d]) dX4_goes_13 (ac_0 ?_)
  refine g_aload_n X dX4_goes_16 rfl rfl ?_
  refine g_iload_n X dX4_goes_17 rfl rfl ?_
  obtain ⟨ob4, eob4, hF⟩ := bnd hF
  obtain ⟨v6, h5, eh5, hF⟩ := b2_some hF
  refine g_callV X eob4 rfl rfl (w_X4_needs l hl D dA h3 ob4 a2 v6 h5 eh5) q2222 q2224 qs73 q103 q2225 okn_X4_needs ⟨by rw [hRf]; exact Nat.le_of_ble_eq_true rfl, by rw [hRl]; exact Nat.le_of_ble_eq_true rfl⟩ (As := [.int a2]) (rest := []) rfl (by first | exact Nat.le_of_ble_eq_true rfl | simp [cat_rf, cat_i, cat_j, cat_f, cat_d]) dX4_goes_18 (ac_v ?_)
  refine g_if_ne X 26 dX4_goes_21 (by decide) (fun c7 => ?_) (fun c7 => ?_)
  · have hF := (if_neg c7).symm.trans hF
    refine g_iconst (v := (0 : Int32)) X dX4_goes_26 (by decide) ?_
    refine g_istore_n (L' := [some (va_rf (some this)), some (.int a1), some (.int a2), some (.int (0 : Int32)), none]) X dX4_goes_27 rfl (Nat.le_of_ble_eq_true rfl) (by first | rfl | simp [stL, rm1, clr2, cat_rf, cat_i, cat_j, cat_f, cat_d]) ?_
    refine G.drop [true, false, true, true, false] rfl ?_
    obtain ⟨h15, e34, hF⟩ := bnd hF
    refine lp_ind (Gs := (fun z => G p l e R s m args below meth c (RQ D dA h0 (.inr (some (.int rE)), hE) below s) D dA h0 5 z.2 28 [some (va_rf (some this)), none, some (.int a2), some (.int z.1), none] [])) (Ge := (fun z => G p l e R s m args below meth c (RQ D dA h0 (.inr (some (.int rE)), hE) below s) D dA h0 5 z 60 [some (va_rf (some this)), none, some (.int a2), none, none] [])) ?_ _ _ _ e34 ?_
    · rintro ⟨x3_8, h_8⟩ o hF hgo hr
      change F_X4_goes_B28 this a1 a2 x3_8 h_8 = some o at hF
      unfold F_X4_goes_B28 at hF
      show G p l e R s m args below meth c (RQ D dA h0 (.inr (some (.int rE)), hE) below s) D dA h0 5 h_8 28 [some (va_rf (some this)), none, some (.int a2), some (.int x3_8), none] []
      refine g_iload_n X dX4_goes_28 rfl rfl ?_
      refine g_iconst (v := (3 : Int32)) X dX4_goes_29 (by decide) ?_
      refine g_icmp_ge X 60 dX4_goes_30 (by decide) (fun c9 => ?_) (fun c9 => ?_)
      · have hF := (if_pos c9).symm.trans hF
        refine G.drop [true, false, true, false, false] rfl ?_
        cases hF
        exact hr _ rfl
      · have hF := (if_neg c9).symm.trans hF
        refine g_aload_n X dX4_goes_33 rfl rfl ?_
        refine g_iload_n X dX4_goes_34 rfl rfl ?_
        refine g_bipush (v := (8 : Int32)) X dX4_goes_35 (by decide) ?_
        obtain ⟨ob10, eob10, hF⟩ := bnd hF
        obtain ⟨v11, ev11, hF⟩ := bnd hF
        refine g_callV X eob10 rfl rfl (w_X4_line l hl D dA h_8 ob10 a2 (8 : Int32) v11 ev11) q2064 q2066 qs59 q103 q2067 okn_X4_line ⟨by rw [hRf]; exact Nat.le_of_ble_eq_true rfl, by rw [hRl]; exact Nat.le_of_ble_eq_true rfl⟩ (As := [.int a2, .int (8 : Int32)]) (rest := []) rfl (by first | exact Nat.le_of_ble_eq_true rfl | simp [cat_rf, cat_i, cat_j, cat_f, cat_d]) dX4_goes_37 (ac_v ?_)
        refine g_iload_n X dX4_goes_40 rfl rfl ?_
        refine g_ishr X dX4_goes_41 ?_
        refine g_iconst (v := (1 : Int32)) X dX4_goes_42 (by decide) ?_
        refine g_iand X dX4_goes_43 ?_
        refine g_iconst (v := (1 : Int32)) X dX4_goes_44 (by decide) ?_
        refine g_icmp_ne X 54 dX4_goes_45 (by decide) (fun c12 => ?_) (fun c12 => ?_)
        · have hF := (if_neg c12).symm.trans hF
          refine g_iinc (v := (x3_8 + (1 : Int32))) (L' := [some (va_rf (some this)), none, some (.int a2), some (.int (x3_8 + (1 : Int32))), none]) X dX4_goes_54 (Nat.le_of_ble_eq_true rfl) rfl rfl (by first | rfl | simp [stL, rm1, clr2, cat_rf, cat_i, cat_j, cat_f, cat_d]) ?_
          refine g_goto X 28 dX4_goes_57 (by decide) ?_
          cases hF
          exact hgo _ rfl
        · have hF := (if_pos c12).symm.trans hF
          refine g_aload_n X dX4_goes_48 rfl rfl ?_
          refine g_iload_n X dX4_goes_49 rfl rfl ?_
          refine g_iconst (v := (0 : Int32)) X dX4_goes_50 (by decide) ?_
          obtain ⟨ob13, eob13, hF⟩ := bnd hF
          obtain ⟨h14, eh14, hF⟩ := bnd hF
          refine g_callV X eob13 rfl rfl (w_X4_resets l hl D dA h_8 ob13 x3_8 (0 : Int32) h14 eh14) q1955 q1957 qs45 q103 q1958 okn_X4_resets ⟨by rw [hRf]; exact Nat.le_of_ble_eq_true rfl, by rw [hRl]; exact Nat.le_of_ble_eq_true rfl⟩ (As := [.int x3_8, .int (0 : Int32)]) (rest := []) rfl (by first | exact Nat.le_of_ble_eq_true rfl | simp [cat_rf, cat_i, cat_j, cat_f, cat_d]) dX4_goes_51 (ac_0 ?_)
          refine g_iinc (v := (x3_8 + (1 : Int32))) (L' := [some (va_rf (some this)), none, some (.int a2), some (.int (x3_8 + (1 : Int32))), none]) X dX4_goes_54 (Nat.le_of_ble_eq_true rfl) rfl rfl (by first | rfl | simp [stL, rm1, clr2, cat_rf, cat_i, cat_j, cat_f, cat_d]) ?_
          refine g_goto X 28 dX4_goes_57 (by decide) ?_
          cases hF
          exact hgo _ rfl
    show G p l e R s m args below meth c (RQ D dA h0 (.inr (some (.int rE)), hE) below s) D dA h0 5 h15 60 [some (va_rf (some this)), none, some (.int a2), none, none] []
    refine g_aload_n X dX4_goes_60 rfl rfl ?_
    refine g_aload_n X dX4_goes_61 rfl rfl ?_
    refine g_iload_n X dX4_goes_62 rfl rfl ?_
    refine g_iconst (v := (1 : Int32)) X dX4_goes_63 (by decide) ?_
    obtain ⟨ob16, eob16, hF⟩ := bnd hF
    obtain ⟨v17, ev17, hF⟩ := bnd hF
    refine g_callV X eob16 rfl rfl (w_X4_line l hl D dA h15 ob16 a2 (1 : Int32) v17 ev17) q2064 q2066 qs59 q103 q2067 okn_X4_line ⟨by rw [hRf]; exact Nat.le_of_ble_eq_true rfl, by rw [hRl]; exact Nat.le_of_ble_eq_true rfl⟩ (As := [.int a2, .int (1 : Int32)]) (rest := [va_rf (some this)]) rfl (by first | exact Nat.le_of_ble_eq_true rfl | simp [cat_rf, cat_i, cat_j, cat_f, cat_d]) dX4_goes_64 (ac_v ?_)
    obtain ⟨ob18, eob18, hF⟩ := bnd hF
    obtain ⟨v20, h19, eh19, hF⟩ := b2_some hF
    refine g_callV X eob18 rfl rfl (w_X4_staysIn l hl D dA h15 ob18 v17 v20 h19 eh19) q2210 q2212 qs70 q103 q2213 okn_X4_staysIn ⟨by rw [hRf]; exact Nat.le_of_ble_eq_true rfl, by rw [hRl]; exact Nat.le_of_ble_eq_true rfl⟩ (As := [.int v17]) (rest := []) rfl (by first | exact Nat.le_of_ble_eq_true rfl | simp [cat_rf, cat_i, cat_j, cat_f, cat_d]) dX4_goes_67 (ac_v ?_)
    refine g_if_ne X 75 dX4_goes_70 (by decide) (fun c21 => ?_) (fun c21 => ?_)
    · have hF := (if_neg c21).symm.trans hF
      refine g_aload_n X dX4_goes_75 rfl rfl ?_
      obtain ⟨ob22, eob22, hF⟩ := bnd hF
      obtain ⟨v24, h23, eh23, hF⟩ := b2_some hF
      refine g_callV X eob22 rfl rfl (w_X4_delays l hl D dA h19 ob22  v24 h23 eh23) q1971 q1973 qs48 q103 q1974 okn_X4_delays ⟨by rw [hRf]; exact Nat.le_of_ble_eq_true rfl, by rw [hRl]; exact Nat.le_of_ble_eq_true rfl⟩ (As := []) (rest := []) rfl (by first | exact Nat.le_of_ble_eq_true rfl | simp [cat_rf, cat_i, cat_j, cat_f, cat_d]) dX4_goes_76 (ac_v ?_)
      refine g_istore_n (L' := [some (va_rf (some this)), none, some (.int a2), some (.int v24), none]) X dX4_goes_79 rfl (Nat.le_of_ble_eq_true rfl) (by first | rfl | simp [stL, rm1, clr2, cat_rf, cat_i, cat_j, cat_f, cat_d]) ?_
      refine g_aload_n X dX4_goes_80 rfl rfl ?_
      refine g_aload_n X dX4_goes_81 rfl rfl ?_
      refine g_iload_n X dX4_goes_82 rfl rfl ?_
      refine g_iconst (v := (1 : Int32)) X dX4_goes_83 (by decide) ?_
      obtain ⟨ob25, eob25, hF⟩ := bnd hF
      obtain ⟨v26, ev26, hF⟩ := bnd hF
      refine g_callV X eob25 rfl rfl (w_X4_line l hl D dA h23 ob25 a2 (1 : Int32) v26 ev26) q2064 q2066 qs59 q103 q2067 okn_X4_line ⟨by rw [hRf]; exact Nat.le_of_ble_eq_true rfl, by rw [hRl]; exact Nat.le_of_ble_eq_true rfl⟩ (As := [.int a2, .int (1 : Int32)]) (rest := [va_rf (some this)]) rfl (by first | exact Nat.le_of_ble_eq_true rfl | simp [cat_rf, cat_i, cat_j, cat_f, cat_d]) dX4_goes_84 (ac_v ?_)
      obtain ⟨ob27, eob27, hF⟩ := bnd hF
      obtain ⟨v29, h28, eh28, hF⟩ := b2_some hF
      refine g_callV X eob27 rfl rfl (w_X4_staysIn l hl D dA h23 ob27 v26 v29 h28 eh28) q2210 q2212 qs70 q103 q2213 okn_X4_staysIn ⟨by rw [hRf]; exact Nat.le_of_ble_eq_true rfl, by rw [hRl]; exact Nat.le_of_ble_eq_true rfl⟩ (As := [.int v26]) (rest := []) rfl (by first | exact Nat.le_of_ble_eq_true rfl | simp [cat_rf, cat_i, cat_j, cat_f, cat_d]) dX4_goes_87 (ac_v ?_)
      refine g_istore (L' := [some (va_rf (some this)), none, some (.int a2), some (.int v24), some (.int v29)]) X dX4_goes_90 (Nat.le_of_ble_eq_true rfl) (by first | rfl | simp [stL, rm1, clr2, cat_rf, cat_i, cat_j, cat_f, cat_d]) ?_
      refine g_aload_n X dX4_goes_92 rfl rfl ?_
      obtain ⟨ob30, eob30, hF⟩ := bnd hF
      obtain ⟨h31, eh31, hF⟩ := bnd hF
      refine g_callV X eob30 rfl rfl (w_X4_widens l hl D dA h28 ob30  h31 eh31) q2226 q2228 qs74 q103 q2229 okn_X4_widens ⟨by rw [hRf]; exact Nat.le_of_ble_eq_true rfl, by rw [hRl]; exact Nat.le_of_ble_eq_true rfl⟩ (As := []) (rest := []) rfl (by first | exact Nat.le_of_ble_eq_true rfl | simp [cat_rf, cat_i, cat_j, cat_f, cat_d]) dX4_goes_93 (ac_0 ?_)
      refine g_iload X dX4_goes_96 rfl ?_
      suffices K : G p l e R s m args below meth c (RQ D dA h0 (.inr (some (.int rE)), hE) below s) D dA h0 5 h31 110 [none, none, none, none, none] [.int (if v29 = 0 then (0 : Int32) else (if v24 < 0 then (0 : Int32) else (1 : Int32)))] by
        refine g_if_eq X 109 dX4_goes_98 (by decide) (fun c32 => ?_) (fun c32 => ?_)
        · (try simp only [if_pos c32] at K)
          refine g_iconst (v := (0 : Int32)) X dX4_goes_109 (by decide) ?_
          refine G.drop [false, false, false, false, false] rfl ?_
          first | exact K | (simp only [if_pos c32]; exact K)
        · (try simp only [if_neg c32] at K)
          refine g_iload_n X dX4_goes_101 rfl rfl ?_
          refine g_if_lt X 109 dX4_goes_102 (by decide) (fun c33 => ?_) (fun c33 => ?_)
          · (try simp only [if_pos c33] at K)
            refine g_iconst (v := (0 : Int32)) X dX4_goes_109 (by decide) ?_
            refine G.drop [false, false, false, false, false] rfl ?_
            first | exact K | (simp only [if_neg c32, if_pos c33]; exact K)
          · (try simp only [if_neg c33] at K)
            refine g_iconst (v := (1 : Int32)) X dX4_goes_105 (by decide) ?_
            refine g_goto X 110 dX4_goes_106 (by decide) ?_
            refine G.drop [false, false, false, false, false] rfl ?_
            first | exact K | (simp only [if_neg c32, if_neg c33]; exact K)
      cases hF
      exact g_zret X hr (by (repeat' split) <;> rfl) dX4_goes_110
    · have hF := (if_pos c21).symm.trans hF
      refine g_iconst (v := (0 : Int32)) X dX4_goes_73 (by decide) ?_
      cases hF
      exact g_zret X hr rfl dX4_goes_74
  · have hF := (if_pos c7).symm.trans hF
    refine g_iconst (v := (0 : Int32)) X dX4_goes_24 (by decide) ?_
    cases hF
    exact g_zret X hr rfl dX4_goes_25
def F_X4_isNew_B4 (this : Nat) (a1 : Int32) (x2_1 : Int32) (x3_1 : Int32) (h0 : HH) : Option ((Int32 × Int32) ⊕ Int32) :=
  Option.bind (getI h0 1 16 (some this)) fun v2 =>
  if v2 ≤ x3_1 then (
    some (.inr x2_1)
  ) else (
    if x2_1 = 0 then (
      some (.inl ((0 : Int32), (x3_1 + (1 : Int32))))
    ) else (
      Option.bind (getR h0 1 14 (some this)) fun v5 =>
      Option.bind (aldI h0 0 v5 x3_1) fun v6 =>
      if v6 = a1 then (
        Option.bind (getR h0 1 9 (some this)) fun v8 =>
        Option.bind (getR h0 1 13 (some this)) fun v9 =>
        Option.bind (F_X4_isInside v8 (0 : Int32) v9 ((16 : Int32) * x3_1) h0) fun v10 =>
        some (.inl ((if v10 = 0 then (1 : Int32) else (0 : Int32)), (x3_1 + (1 : Int32))))
      ) else (
        some (.inl ((1 : Int32), (x3_1 + (1 : Int32))))
      )
    )
  )
def F_X4_isNew (this : Nat) (a1 : Int32) (h0 : HH) : Option Int32 :=
  Option.bind (lp (fun z => F_X4_isNew_B4 this a1 z.1 z.2 h0) 100000 ((1 : Int32), (0 : Int32))) fun v12 =>
  Option.bind (okZ v12) fun _ =>
  some v12
set_option maxHeartbeats 4000000 in
theorem w_X4_isNew (l : Launch) (hl : l.stackTraces = false) (D : va_G) (dA : Nat → ClassId) (h0 : HH) (this : Nat) (a1 : Int32) (rE : Int32) (hF : F_X4_isNew this a1 h0 = some rE) : MC D dA l yX4_isNew cX4_isNew 4 (Option.some Jvm.ClassFile.FieldType.boolean) [] 1 25 [va_rf (some this), .int a1] h0 (.inr (some (.int rE)), h0) := by
  refine mc_of hl (plainFor_of_name pn_X4) (by simp [lg_sl, cat_rf, cat_i, cat_j, cat_f, cat_d]) ?_
  intro p e s m args below meth c R hRf hRl X hr hnm
  unfold F_X4_isNew at hF
  rw [show argL [va_rf (some this), .int a1] = [some (va_rf (some this)), some (.int a1)] from by simp [argL, cat_rf, cat_i, cat_j, cat_f, cat_d]]
  refine G.pad 2 (L' := [some (va_rf (some this)), some (.int a1), none, none]) rfl ?_
  refine g_iconst (v := (1 : Int32)) X dX4_isNew_0 (by decide) ?_
  refine g_istore_n (L' := [some (va_rf (some this)), some (.int a1), some (.int (1 : Int32)), none]) X dX4_isNew_1 rfl (Nat.le_of_ble_eq_true rfl) (by first | rfl | simp [stL, rm1, clr2, cat_rf, cat_i, cat_j, cat_f, cat_d]) ?_
  refine g_iconst (v := (0 : Int32)) X dX4_isNew_2 (by decide) ?_
  refine g_istore_n (L' := [some (va_rf (some this)), some (.int a1), some (.int (1 : Int32)), some (.int (0 : Int32))]) X dX4_isNew_3 rfl (Nat.le_of_ble_eq_true rfl) (by first | rfl | simp [stL, rm1, clr2, cat_rf, cat_i, cat_j, cat_f, cat_d]) ?_
  obtain ⟨v12, e14, hF⟩ := bnd hF
  refine lp_ind (Gs := (fun z => G p l e R s m args below meth c (RQ D dA h0 (.inr (some (.int rE)), h0) below s) D dA h0 4 h0 4 [some (va_rf (some this)), some (.int a1), some (.int z.1), some (.int z.2)] [])) (Ge := (fun z => G p l e R s m args below meth c (RQ D dA h0 (.inr (some (.int rE)), h0) below s) D dA h0 4 h0 57 [none, none, some (.int z), none] [])) ?_ _ _ _ e14 ?_
  · rintro ⟨x2_1, x3_1⟩ o hF hgo hr
    change F_X4_isNew_B4 this a1 x2_1 x3_1 h0 = some o at hF
    unfold F_X4_isNew_B4 at hF
    show G p l e R s m args below meth c (RQ D dA h0 (.inr (some (.int rE)), h0) below s) D dA h0 4 h0 4 [some (va_rf (some this)), some (.int a1), some (.int x2_1), some (.int x3_1)] []
    refine g_iload_n X dX4_isNew_4 rfl rfl ?_
    refine g_aload_n X dX4_isNew_5 rfl rfl ?_
    obtain ⟨v2, ev2, hF⟩ := bnd hF
    refine g_get (k := 16) X in_X4 rfl (by decide) q1779 (Or.inl rfl) (getI_V ev2) dX4_isNew_6 ?_
    refine g_icmp_ge X 57 dX4_isNew_9 (by decide) (fun c3 => ?_) (fun c3 => ?_)
    · have hF := (if_pos c3).symm.trans hF
      refine G.drop [false, false, true, false] rfl ?_
      cases hF
      exact hr _ rfl
    · have hF := (if_neg c3).symm.trans hF
      refine g_iload_n X dX4_isNew_12 rfl rfl ?_
      refine g_if_eq X 49 dX4_isNew_13 (by decide) (fun c4 => ?_) (fun c4 => ?_)
      · have hF := (if_pos c4).symm.trans hF
        refine g_iconst (v := (0 : Int32)) X dX4_isNew_49 (by decide) ?_
        refine g_istore_n (L' := [some (va_rf (some this)), some (.int a1), some (.int (0 : Int32)), some (.int x3_1)]) X dX4_isNew_50 rfl (Nat.le_of_ble_eq_true rfl) (by first | rfl | simp [stL, rm1, clr2, cat_rf, cat_i, cat_j, cat_f, cat_d]) ?_
        refine g_iinc (v := (x3_1 + (1 : Int32))) (L' := [some (va_rf (some this)), some (.int a1), some (.int (0 : Int32)), some (.int (x3_1 + (1 : Int32)))]) X dX4_isNew_51 (Nat.le_of_ble_eq_true rfl) rfl rfl (by first | rfl | simp [stL, rm1, clr2, cat_rf, cat_i, cat_j, cat_f, cat_d]) ?_
        refine g_goto X 4 dX4_isNew_54 (by decide) ?_
        cases hF
        exact hgo _ rfl
      · have hF := (if_neg c4).symm.trans hF
        refine g_aload_n X dX4_isNew_16 rfl rfl ?_
        obtain ⟨v5, ev5, hF⟩ := bnd hF
        refine g_get (k := 14) X in_X4 rfl (by decide) q1777 (Or.inl rfl) (getR_V ev5) dX4_isNew_17 ?_
        refine g_iload_n X dX4_isNew_20 rfl rfl ?_
        obtain ⟨v6, ev6, hF⟩ := bnd hF
        refine g_iald X ev6 dX4_isNew_21 ?_
        refine g_iload_n X dX4_isNew_22 rfl rfl ?_
        refine g_icmp_ne X 45 dX4_isNew_23 (by decide) (fun c7 => ?_) (fun c7 => ?_)
        · have hF := (if_neg c7).symm.trans hF
          refine g_iconst (v := (1 : Int32)) X dX4_isNew_45 (by decide) ?_
          refine g_goto X 50 dX4_isNew_46 (by decide) ?_
          refine g_istore_n (L' := [some (va_rf (some this)), some (.int a1), some (.int (1 : Int32)), some (.int x3_1)]) X dX4_isNew_50 rfl (Nat.le_of_ble_eq_true rfl) (by first | rfl | simp [stL, rm1, clr2, cat_rf, cat_i, cat_j, cat_f, cat_d]) ?_
          refine g_iinc (v := (x3_1 + (1 : Int32))) (L' := [some (va_rf (some this)), some (.int a1), some (.int (1 : Int32)), some (.int (x3_1 + (1 : Int32)))]) X dX4_isNew_51 (Nat.le_of_ble_eq_true rfl) rfl rfl (by first | rfl | simp [stL, rm1, clr2, cat_rf, cat_i, cat_j, cat_f, cat_d]) ?_
          refine g_goto X 4 dX4_isNew_54 (by decide) ?_
          cases hF
          exact hgo _ rfl
        · have hF := (if_pos c7).symm.trans hF
          refine g_aload_n X dX4_isNew_26 rfl rfl ?_
          obtain ⟨v8, ev8, hF⟩ := bnd hF
          refine g_get (k := 9) X in_X4 rfl (by decide) q1772 (Or.inl rfl) (getR_V ev8) dX4_isNew_27 ?_
          refine g_iconst (v := (0 : Int32)) X dX4_isNew_30 (by decide) ?_
          refine g_aload_n X dX4_isNew_31 rfl rfl ?_
          obtain ⟨v9, ev9, hF⟩ := bnd hF
          refine g_get (k := 13) X in_X4 rfl (by decide) q1776 (Or.inl rfl) (getR_V ev9) dX4_isNew_32 ?_
          refine g_bipush (v := (16 : Int32)) X dX4_isNew_35 (by decide) ?_
          refine g_iload_n X dX4_isNew_37 rfl rfl ?_
          refine g_imul X dX4_isNew_38 ?_
          obtain ⟨v10, ev10, hF⟩ := bnd hF
          refine g_callS X (w_X4_isInside l hl D dA h0 v8 (0 : Int32) v9 ((16 : Int32) * x3_1) v10 ev10) q2167 q2168 q103 q2169 okn_X4_isInside ⟨by rw [hRf]; exact Nat.le_of_ble_eq_true rfl, by rw [hRl]; exact Nat.le_of_ble_eq_true rfl⟩ (As := [va_rf v8, .int (0 : Int32), va_rf v9, .int ((16 : Int32) * x3_1)]) (rest := []) rfl (by first | exact Nat.le_of_ble_eq_true rfl | simp [cat_rf, cat_i, cat_j, cat_f, cat_d]) dX4_isNew_39 (ac_v ?_)
          suffices K : G p l e R s m args below meth c (RQ D dA h0 (.inr (some (.int rE)), h0) below s) D dA h0 4 h0 50 [some (va_rf (some this)), some (.int a1), none, some (.int x3_1)] [.int (if v10 = 0 then (1 : Int32) else (0 : Int32))] by
            refine g_if_ne X 49 dX4_isNew_42 (by decide) (fun c11 => ?_) (fun c11 => ?_)
            · (try simp only [if_neg c11] at K)
              refine g_iconst (v := (0 : Int32)) X dX4_isNew_49 (by decide) ?_
              refine G.drop [true, true, false, true] rfl ?_
              first | exact K | (simp only [if_neg c11]; exact K)
            · (try simp only [if_pos c11] at K)
              refine g_iconst (v := (1 : Int32)) X dX4_isNew_45 (by decide) ?_
              refine g_goto X 50 dX4_isNew_46 (by decide) ?_
              refine G.drop [true, true, false, true] rfl ?_
              first | exact K | (simp only [if_pos c11]; exact K)
          refine g_istore_n (L' := [some (va_rf (some this)), some (.int a1), some (.int (if v10 = 0 then (1 : Int32) else (0 : Int32))), some (.int x3_1)]) X dX4_isNew_50 rfl (Nat.le_of_ble_eq_true rfl) (by first | rfl | simp [stL, rm1, clr2, cat_rf, cat_i, cat_j, cat_f, cat_d]) ?_
          refine g_iinc (v := (x3_1 + (1 : Int32))) (L' := [some (va_rf (some this)), some (.int a1), some (.int (if v10 = 0 then (1 : Int32) else (0 : Int32))), some (.int (x3_1 + (1 : Int32)))]) X dX4_isNew_51 (Nat.le_of_ble_eq_true rfl) rfl rfl (by first | rfl | simp [stL, rm1, clr2, cat_rf, cat_i, cat_j, cat_f, cat_d]) ?_
          refine g_goto X 4 dX4_isNew_54 (by decide) ?_
          cases hF
          exact hgo _ rfl
  show G p l e R s m args below meth c (RQ D dA h0 (.inr (some (.int rE)), h0) below s) D dA h0 4 h0 57 [none, none, some (.int v12), none] []
  refine g_iload_n X dX4_isNew_57 rfl rfl ?_
  obtain ⟨_, z13, hF⟩ := bnd hF
  cases hF
  exact g_zret X hr (narZ z13) dX4_isNew_58
