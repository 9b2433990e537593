def F_X0_tell (a1 : Option Nat) (a2 : Int32) (a3 : Int32) (a4 : Int32) (a5 : Option Nat) (h0 : HH) : Option (Int32 × HH) :=
  Option.bind (isO h0 0 a1) fun ob1 =>
  thr (F_X1_tell ob1 a2 a3 a4 h0) (fun q4 h2 =>
    if q4.2 = "java/lang/IllegalArgumentException" then (
      some ((1 : Int32), h2)
    ) else (
      if q4.2 = "java/lang/IllegalStateException" then (
        some ((2 : Int32), h2)
      ) else (
        none
      )
    )
  ) (fun v3 h2 =>
    Option.bind (astJ h2 a5 (0 : Int32) (if v3 = 0 then (0 : Int64) else (1 : Int64))) fun h7 =>
    some ((0 : Int32), h7)
  )
set_option maxHeartbeats 4000000 in
theorem w_X0_tell (l : Launch) (hl : l.stackTraces = false) (D : va_G) (dA : Nat → ClassId) (h0 : HH) (a1 : Option Nat) (a2 : Int32) (a3 : Int32) (a4 : Int32) (a5 : Option Nat) (rE : Int32) (hE : HH) (hF : F_X0_tell a1 a2 a3 a4 a5 h0 = some (rE, hE)) : MC D dA l yX0_tell cX0_tell 6 (Option.some Jvm.ClassFile.FieldType.int) [(0, 19, 22, 13), (0, 19, 26, 15)] 17 459 [va_rf a1, .int a2, .int a3, .int a4, va_rf a5] h0 (.inr (some (.int rE)), hE) := by
  refine mc_of hl (plainFor_of_name pn_X0) (by simp [lg_sl, cat_rf, cat_i, cat_j, cat_f, cat_d]) ?_
  intro p e s m args below meth c R hRf hRl X hr hnm
  unfold F_X0_tell at hF
  rw [show argL [va_rf a1, .int a2, .int a3, .int a4, va_rf a5] = [some (va_rf a1), some (.int a2), some (.int a3), some (.int a4), some (va_rf a5)] from by simp [argL, cat_rf, cat_i, cat_j, cat_f, cat_d]]
  refine G.pad 1 (L' := [some (va_rf a1), some (.int a2), some (.int a3), some (.int a4), some (va_rf a5), none]) rfl ?_
  refine g_aload X dX0_tell_0 rfl ?_
  refine g_iconst (v := (0 : Int32)) X dX0_tell_2 (by decide) ?_
  refine g_aload_n X dX0_tell_3 rfl rfl ?_
  refine g_iload_n X dX0_tell_4 rfl rfl ?_
  refine g_iload_n X dX0_tell_5 rfl rfl ?_
  refine g_iload_n X dX0_tell_6 rfl rfl ?_
  obtain ⟨ob1, eob1, hF⟩ := bnd hF
  rcases thr_some hF with ⟨q4, h2, e5, hF⟩ | ⟨v3, h2, e5, hF⟩
  · refine g_callV X eob1 rfl rfl (w_X1_tell l hl D dA h0 ob1 a2 a3 a4 (.inl q4) h2 e5) q1136 q1137 q1138 q92 q1139 okn_X1_tell ⟨by rw [hRf]; exact Nat.le_of_ble_eq_true rfl, by rw [hRl]; exact Nat.le_of_ble_eq_true rfl⟩ (As := [.int a2, .int a3, .int a4]) (rest := [.int (0 : Int32), va_rf a5]) rfl (by first | exact Nat.le_of_ble_eq_true rfl | simp [cat_rf, cat_i, cat_j, cat_f, cat_d]) dX0_tell_7 (ac_x ?_)
    by_cases c8 : q4.2 = "java/lang/IllegalArgumentException"
    · have hF := (if_pos c8).symm.trans hF
      refine gx_catch X (name := "java/lang/IllegalArgumentException") [] ⟨0, 19, 22, 13⟩ [⟨0, 19, 26, 15⟩] rfl (fun z hz => nomatch hz) rfl (by decide) q1134 (by rw [c8]; exact nw_in q757 rfl) ?_
      refine G.drop [false, false, false, false, false, false] rfl ?_
      refine g_astore (L' := [none, none, none, none, none, some (va_rf (some q4.1))]) X dX0_tell_22 (Nat.le_of_ble_eq_true rfl) (by first | rfl | simp [stL, rm1, clr2, cat_rf, cat_i, cat_j, cat_f, cat_d]) ?_
      refine g_iconst (v := (1 : Int32)) X dX0_tell_24 (by decide) ?_
      cases hF
      exact g_iret X hr dX0_tell_25
    · have hF := (if_neg c8).symm.trans hF
      by_cases c9 : q4.2 = "java/lang/IllegalStateException"
      · have hF := (if_pos c9).symm.trans hF
        refine gx_catch X (name := "java/lang/IllegalStateException") [⟨0, 19, 22, 13⟩] ⟨0, 19, 26, 15⟩ [] rfl (fun z hz => by rcases List.mem_singleton.mp hz with rfl; exact Or.inr ⟨by decide, "java/lang/IllegalArgumentException", q1134, by rw [c9]; exact FXnc X (by decide)⟩) rfl (by decide) q1135 (by rw [c9]; exact nw_in q694 rfl) ?_
        refine G.drop [false, false, false, false, false, false] rfl ?_
        refine g_astore (L' := [none, none, none, none, none, some (va_rf (some q4.1))]) X dX0_tell_26 (Nat.le_of_ble_eq_true rfl) (by first | rfl | simp [stL, rm1, clr2, cat_rf, cat_i, cat_j, cat_f, cat_d]) ?_
        refine g_iconst (v := (2 : Int32)) X dX0_tell_28 (by decide) ?_
        cases hF
        exact g_iret X hr dX0_tell_29
      · have hF := (if_neg c9).symm.trans hF
        cases hF
  · refine g_callV X eob1 rfl rfl (w_X1_tell l hl D dA h0 ob1 a2 a3 a4 (.inr v3) h2 e5) q1136 q1137 q1138 q92 q1139 okn_X1_tell ⟨by rw [hRf]; exact Nat.le_of_ble_eq_true rfl, by rw [hRl]; exact Nat.le_of_ble_eq_true rfl⟩ (As := [.int a2, .int a3, .int a4]) (rest := [.int (0 : Int32), va_rf a5]) rfl (by first | exact Nat.le_of_ble_eq_true rfl | simp [cat_rf, cat_i, cat_j, cat_f, cat_d]) dX0_tell_7 (ac_v ?_)
    suffices K : G p l e R s m args below meth c (RQ D dA h0 (.inr (some (.int rE)), hE) below s) D dA h0 6 h2 18 [none, none, none, none, none, none] [.long (if v3 = 0 then (0 : Int64) else (1 : Int64)), .int (0 : Int32), va_rf a5] by
      refine g_if_eq X 17 dX0_tell_10 (by decide) (fun c6 => ?_) (fun c6 => ?_)
      · (try simp only [if_pos c6] at K)
        refine g_lconst (v := (0 : Int64)) X dX0_tell_17 (by decide) ?_
        refine G.drop [false, false, false, false, false, false] rfl ?_
        first | exact K | (simp only [if_pos c6]; exact K)
      · (try simp only [if_neg c6] at K)
        refine g_lconst (v := (1 : Int64)) X dX0_tell_13 (by decide) ?_
        refine g_goto X 18 dX0_tell_14 (by decide) ?_
        refine G.drop [false, false, false, false, false, false] rfl ?_
        first | exact K | (simp only [if_neg c6]; exact K)
    obtain ⟨h7, eh7, hF⟩ := bnd hF
    refine g_last X eh7 dX0_tell_18 ?_
    refine g_goto X 30 dX0_tell_19 (by decide) ?_
    refine g_iconst (v := (0 : Int32)) X dX0_tell_30 (by decide) ?_
    cases hF
    exact g_iret X hr dX0_tell_31
def F_X0_forget (a1 : Option Nat) (a2 : Int32) (a3 : Int32) (a4 : Option Nat) (h0 : HH) : Option (Int32 × HH) :=
  Option.bind (isO h0 0 a1) fun ob1 =>
  thr (F_X1_forget ob1 a2 a3 h0) (fun q4 h2 =>
    if q4.2 = "java/lang/IllegalArgumentException" then (
      some ((1 : Int32), h2)
    ) else (
      if q4.2 = "java/lang/IllegalStateException" then (
        some ((2 : Int32), h2)
      ) else (
        none
      )
    )
  ) (fun v3 h2 =>
    Option.bind (astJ h2 a4 (0 : Int32) (if v3 = 0 then (0 : Int64) else (1 : Int64))) fun h7 =>
    some ((0 : Int32), h7)
  )
set_option maxHeartbeats 4000000 in
theorem w_X0_forget (l : Launch) (hl : l.stackTraces = false) (D : va_G) (dA : Nat → ClassId) (h0 : HH) (a1 : Option Nat) (a2 : Int32) (a3 : Int32) (a4 : Option Nat) (rE : Int32) (hE : HH) (hF : F_X0_forget a1 a2 a3 a4 h0 = some (rE, hE)) : MC D dA l yX0_forget cX0_forget 5 (Option.some Jvm.ClassFile.FieldType.int) [(0, 17, 20, 13), (0, 17, 24, 15)] 17 458 [va_rf a1, .int a2, .int a3, va_rf a4] h0 (.inr (some (.int rE)), hE) := by
  refine mc_of hl (plainFor_of_name pn_X0) (by simp [lg_sl, cat_rf, cat_i, cat_j, cat_f, cat_d]) ?_
  intro p e s m args below meth c R hRf hRl X hr hnm
  unfold F_X0_forget at hF
  rw [show argL [va_rf a1, .int a2, .int a3, va_rf a4] = [some (va_rf a1), some (.int a2), some (.int a3), some (va_rf a4)] from by simp [argL, cat_rf, cat_i, cat_j, cat_f, cat_d]]
  refine G.pad 1 (L' := [some (va_rf a1), some (.int a2), some (.int a3), some (va_rf a4), none]) rfl ?_
  refine g_aload_n X dX0_forget_0 rfl rfl ?_
  refine g_iconst (v := (0 : Int32)) X dX0_forget_1 (by decide) ?_
  refine g_aload_n X dX0_forget_2 rfl rfl ?_
  refine g_iload_n X dX0_forget_3 rfl rfl ?_
  refine g_iload_n X dX0_forget_4 rfl rfl ?_
  obtain ⟨ob1, eob1, hF⟩ := bnd hF
  rcases thr_some hF with ⟨q4, h2, e5, hF⟩ | ⟨v3, h2, e5, hF⟩
  · refine g_callV X eob1 rfl rfl (w_X1_forget l hl D dA h0 ob1 a2 a3 (.inl q4) h2 e5) q1143 q1144 q1145 q92 q1146 okn_X1_forget ⟨by rw [hRf]; exact Nat.le_of_ble_eq_true rfl, by rw [hRl]; exact Nat.le_of_ble_eq_true rfl⟩ (As := [.int a2, .int a3]) (rest := [.int (0 : Int32), va_rf a4]) rfl (by first | exact Nat.le_of_ble_eq_true rfl | simp [cat_rf, cat_i, cat_j, cat_f, cat_d]) dX0_forget_5 (ac_x ?_)
    by_cases c8 : q4.2 = "java/lang/IllegalArgumentException"
    · have hF := (if_pos c8).symm.trans hF
      refine gx_catch X (name := "java/lang/IllegalArgumentException") [] ⟨0, 17, 20, 13⟩ [⟨0, 17, 24, 15⟩] rfl (fun z hz => nomatch hz) rfl (by decide) q1134 (by rw [c8]; exact nw_in q757 rfl) ?_
      refine G.drop [false, false, false, false, false] rfl ?_
      refine g_astore (L' := [none, none, none, none, some (va_rf (some q4.1))]) X dX0_forget_20 (Nat.le_of_ble_eq_true rfl) (by first | rfl | simp [stL, rm1, clr2, cat_rf, cat_i, cat_j, cat_f, cat_d]) ?_
      refine g_iconst (v := (1 : Int32)) X dX0_forget_22 (by decide) ?_
      cases hF
      exact g_iret X hr dX0_forget_23
    · have hF := (if_neg c8).symm.trans hF
      by_cases c9 : q4.2 = "java/lang/IllegalStateException"
      · have hF := (if_pos c9).symm.trans hF
        refine gx_catch X (name := "java/lang/IllegalStateException") [⟨0, 17, 20, 13⟩] ⟨0, 17, 24, 15⟩ [] rfl (fun z hz => by rcases List.mem_singleton.mp hz with rfl; exact Or.inr ⟨by decide, "java/lang/IllegalArgumentException", q1134, by rw [c9]; exact FXnc X (by decide)⟩) rfl (by decide) q1135 (by rw [c9]; exact nw_in q694 rfl) ?_
        refine G.drop [false, false, false, false, false] rfl ?_
        refine g_astore (L' := [none, none, none, none, some (va_rf (some q4.1))]) X dX0_forget_24 (Nat.le_of_ble_eq_true rfl) (by first | rfl | simp [stL, rm1, clr2, cat_rf, cat_i, cat_j, cat_f, cat_d]) ?_
        refine g_iconst (v := (2 : Int32)) X dX0_forget_26 (by decide) ?_
        cases hF
        exact g_iret X hr dX0_forget_27
      · have hF := (if_neg c9).symm.trans hF
        cases hF
  · refine g_callV X eob1 rfl rfl (w_X1_forget l hl D dA h0 ob1 a2 a3 (.inr v3) h2 e5) q1143 q1144 q1145 q92 q1146 okn_X1_forget ⟨by rw [hRf]; exact Nat.le_of_ble_eq_true rfl, by rw [hRl]; exact Nat.le_of_ble_eq_true rfl⟩ (As := [.int a2, .int a3]) (rest := [.int (0 : Int32), va_rf a4]) rfl (by first | exact Nat.le_of_ble_eq_true rfl | simp [cat_rf, cat_i, cat_j, cat_f, cat_d]) dX0_forget_5 (ac_v ?_)
    suffices K : G p l e R s m args below meth c (RQ D dA h0 (.inr (some (.int rE)), hE) below s) D dA h0 5 h2 16 [none, none, none, none, none] [.long (if v3 = 0 then (0 : Int64) else (1 : Int64)), .int (0 : Int32), va_rf a4] by
      refine g_if_eq X 15 dX0_forget_8 (by decide) (fun c6 => ?_) (fun c6 => ?_)
      · (try simp only [if_pos c6] at K)
        refine g_lconst (v := (0 : Int64)) X dX0_forget_15 (by decide) ?_
        refine G.drop [false, false, false, false, false] rfl ?_
        first | exact K | (simp only [if_pos c6]; exact K)
      · (try simp only [if_neg c6] at K)
        refine g_lconst (v := (1 : Int64)) X dX0_forget_11 (by decide) ?_
        refine g_goto X 16 dX0_forget_12 (by decide) ?_
        refine G.drop [false, false, false, false, false] rfl ?_
        first | exact K | (simp only [if_neg c6]; exact K)
    obtain ⟨h7, eh7, hF⟩ := bnd hF
    refine g_last X eh7 dX0_forget_16 ?_
    refine g_goto X 28 dX0_forget_17 (by decide) ?_
    refine g_iconst (v := (0 : Int32)) X dX0_forget_28 (by decide) ?_
    cases hF
    exact g_iret X hr dX0_forget_29
def F_X0_tighten (a1 : Option Nat) (a2 : Option Nat) (h0 : HH) : Option (Int32 × HH) :=
  Option.bind (isO h0 0 a1) fun ob1 =>
  thr (F_X1_tighten ob1 h0) (fun q4 h2 =>
    if q4.2 = "java/lang/IllegalStateException" then (
      some ((1 : Int32), h2)
    ) else (
      none
    )
  ) (fun v3 h2 =>
    Option.bind (astJ h2 a2 (0 : Int32) (v3.toInt64)) fun h6 =>
    some ((0 : Int32), h6)
  )
set_option maxHeartbeats 4000000 in
theorem w_X0_tighten (l : Launch) (hl : l.stackTraces = false) (D : va_G) (dA : Nat → ClassId) (h0 : HH) (a1 : Option Nat) (a2 : Option Nat) (rE : Int32) (hE : HH) (hF : F_X0_tighten a1 a2 h0 = some (rE, hE)) : MC D dA l yX0_tighten cX0_tighten 3 (Option.some Jvm.ClassFile.FieldType.int) [(0, 8, 11, 15)] 17 456 [va_rf a1, va_rf a2] h0 (.inr (some (.int rE)), hE) := by
  refine mc_of hl (plainFor_of_name pn_X0) (by simp [lg_sl, cat_rf, cat_i, cat_j, cat_f, cat_d]) ?_
  intro p e s m args below meth c R hRf hRl X hr hnm
  unfold F_X0_tighten at hF
  rw [show argL [va_rf a1, va_rf a2] = [some (va_rf a1), some (va_rf a2)] from by simp [argL, cat_rf, cat_i, cat_j, cat_f, cat_d]]
  refine G.pad 1 (L' := [some (va_rf a1), some (va_rf a2), none]) rfl ?_
  refine g_aload_n X dX0_tighten_0 rfl rfl ?_
  refine g_iconst (v := (0 : Int32)) X dX0_tighten_1 (by decide) ?_
  refine g_aload_n X dX0_tighten_2 rfl rfl ?_
  obtain ⟨ob1, eob1, hF⟩ := bnd hF
  rcases thr_some hF with ⟨q4, h2, e5, hF⟩ | ⟨v3, h2, e5, hF⟩
  · refine g_callV X eob1 rfl rfl (w_X1_tighten l hl D dA h0 ob1  (.inl q4) h2 e5) q1150 q1151 q1152 q92 q1153 okn_X1_tighten ⟨by rw [hRf]; exact Nat.le_of_ble_eq_true rfl, by rw [hRl]; exact Nat.le_of_ble_eq_true rfl⟩ (As := []) (rest := [.int (0 : Int32), va_rf a2]) rfl (by first | exact Nat.le_of_ble_eq_true rfl | simp [cat_rf, cat_i, cat_j, cat_f, cat_d]) dX0_tighten_3 (ac_x ?_)
    by_cases c7 : q4.2 = "java/lang/IllegalStateException"
    · have hF := (if_pos c7).symm.trans hF
      refine gx_catch X (name := "java/lang/IllegalStateException") [] ⟨0, 8, 11, 15⟩ [] rfl (fun z hz => nomatch hz) rfl (by decide) q1135 (by rw [c7]; exact nw_in q694 rfl) ?_
      refine G.drop [false, false, false] rfl ?_
      refine g_astore_n (L' := [none, none, some (va_rf (some q4.1))]) X dX0_tighten_11 rfl (Nat.le_of_ble_eq_true rfl) (by first | rfl | simp [stL, rm1, clr2, cat_rf, cat_i, cat_j, cat_f, cat_d]) ?_
      refine g_iconst (v := (1 : Int32)) X dX0_tighten_12 (by decide) ?_
      cases hF
      exact g_iret X hr dX0_tighten_13
    · have hF := (if_neg c7).symm.trans hF
      cases hF
  · refine g_callV X eob1 rfl rfl (w_X1_tighten l hl D dA h0 ob1  (.inr v3) h2 e5) q1150 q1151 q1152 q92 q1153 okn_X1_tighten ⟨by rw [hRf]; exact Nat.le_of_ble_eq_true rfl, by rw [hRl]; exact Nat.le_of_ble_eq_true rfl⟩ (As := []) (rest := [.int (0 : Int32), va_rf a2]) rfl (by first | exact Nat.le_of_ble_eq_true rfl | simp [cat_rf, cat_i, cat_j, cat_f, cat_d]) dX0_tighten_3 (ac_v ?_)
    refine g_i2l X dX0_tighten_6 ?_
    obtain ⟨h6, eh6, hF⟩ := bnd hF
    refine g_last X eh6 dX0_tighten_7 ?_
    refine g_goto X 14 dX0_tighten_8 (by decide) ?_
    refine g_iconst (v := (0 : Int32)) X dX0_tighten_14 (by decide) ?_
    cases hF
    exact g_iret X hr dX0_tighten_15
def F_X0_reset (a1 : Option Nat) (a2 : Int32) (a3 : Int32) (a4 : Option Nat) (h0 : HH) : Option (Int32 × HH) :=
  Option.bind (isO h0 0 a1) fun ob1 =>
  thr (F_X1_reset ob1 a2 a3 h0) (fun q4 h2 =>
    if q4.2 = "java/lang/IllegalArgumentException" then (
      some ((1 : Int32), h2)
    ) else (
      if q4.2 = "java/lang/IllegalStateException" then (
        some ((2 : Int32), h2)
      ) else (
        none
      )
    )
  ) (fun v3 h2 =>
    Option.bind (astJ h2 a4 (0 : Int32) (v3.toInt64)) fun h6 =>
    some ((0 : Int32), h6)
  )
set_option maxHeartbeats 4000000 in
theorem w_X0_reset (l : Launch) (hl : l.stackTraces = false) (D : va_G) (dA : Nat → ClassId) (h0 : HH) (a1 : Option Nat) (a2 : Int32) (a3 : Int32) (a4 : Option Nat) (rE : Int32) (hE : HH) (hF : F_X0_reset a1 a2 a3 a4 h0 = some (rE, hE)) : MC D dA l yX0_reset cX0_reset 5 (Option.some Jvm.ClassFile.FieldType.int) [(0, 10, 13, 13), (0, 10, 17, 15)] 17 458 [va_rf a1, .int a2, .int a3, va_rf a4] h0 (.inr (some (.int rE)), hE) := by
  refine mc_of hl (plainFor_of_name pn_X0) (by simp [lg_sl, cat_rf, cat_i, cat_j, cat_f, cat_d]) ?_
  intro p e s m args below meth c R hRf hRl X hr hnm
  unfold F_X0_reset at hF
  rw [show argL [va_rf a1, .int a2, .int a3, va_rf a4] = [some (va_rf a1), some (.int a2), some (.int a3), some (va_rf a4)] from by simp [argL, cat_rf, cat_i, cat_j, cat_f, cat_d]]
  refine G.pad 1 (L' := [some (va_rf a1), some (.int a2), some (.int a3), some (va_rf a4), none]) rfl ?_
  refine g_aload_n X dX0_reset_0 rfl rfl ?_
  refine g_iconst (v := (0 : Int32)) X dX0_reset_1 (by decide) ?_
  refine g_aload_n X dX0_reset_2 rfl rfl ?_
  refine g_iload_n X dX0_reset_3 rfl rfl ?_
  refine g_iload_n X dX0_reset_4 rfl rfl ?_
  obtain ⟨ob1, eob1, hF⟩ := bnd hF
  rcases thr_some hF with ⟨q4, h2, e5, hF⟩ | ⟨v3, h2, e5, hF⟩
  · refine g_callV X eob1 rfl rfl (w_X1_reset l hl D dA h0 ob1 a2 a3 (.inl q4) h2 e5) q1157 q1158 q1159 q92 q1160 okn_X1_reset ⟨by rw [hRf]; exact Nat.le_of_ble_eq_true rfl, by rw [hRl]; exact Nat.le_of_ble_eq_true rfl⟩ (As := [.int a2, .int a3]) (rest := [.int (0 : Int32), va_rf a4]) rfl (by first | exact Nat.le_of_ble_eq_true rfl | simp [cat_rf, cat_i, cat_j, cat_f, cat_d]) dX0_reset_5 (ac_x ?_)
    by_cases c7 : q4.2 = "java/lang/IllegalArgumentException"
    · have hF := (if_pos c7).symm.trans hF
      refine gx_catch X (name := "java/lang/IllegalArgumentException") [] ⟨0, 10, 13, 13⟩ [⟨0, 10, 17, 15⟩] rfl (fun z hz => nomatch hz) rfl (by decide) q1134 (by rw [c7]; exact nw_in q757 rfl) ?_
      refine G.drop [false, false, false, false, false] rfl ?_
      refine g_astore (L' := [none, none, none, none, some (va_rf (some q4.1))]) X dX0_reset_13 (Nat.le_of_ble_eq_true rfl) (by first | rfl | simp [stL, rm1, clr2, cat_rf, cat_i, cat_j, cat_f, cat_d]) ?_
      refine g_iconst (v := (1 : Int32)) X dX0_reset_15 (by decide) ?_
      cases hF
      exact g_iret X hr dX0_reset_16
    · have hF := (if_neg c7).symm.trans hF
      by_cases c8 : q4.2 = "java/lang/IllegalStateException"
      · have hF := (if_pos c8).symm.trans hF
        refine gx_catch X (name := "java/lang/IllegalStateException") [⟨0, 10, 13, 13⟩] ⟨0, 10, 17, 15⟩ [] rfl (fun z hz => by rcases List.mem_singleton.mp hz with rfl; exact Or.inr ⟨by decide, "java/lang/IllegalArgumentException", q1134, by rw [c8]; exact FXnc X (by decide)⟩) rfl (by decide) q1135 (by rw [c8]; exact nw_in q694 rfl) ?_
        refine G.drop [false, false, false, false, false] rfl ?_
        refine g_astore (L' := [none, none, none, none, some (va_rf (some q4.1))]) X dX0_reset_17 (Nat.le_of_ble_eq_true rfl) (by first | rfl | simp [stL, rm1, clr2, cat_rf, cat_i, cat_j, cat_f, cat_d]) ?_
        refine g_iconst (v := (2 : Int32)) X dX0_reset_19 (by decide) ?_
        cases hF
        exact g_iret X hr dX0_reset_20
      · have hF := (if_neg c8).symm.trans hF
        cases hF
  · refine g_callV X eob1 rfl rfl (w_X1_reset l hl D dA h0 ob1 a2 a3 (.inr v3) h2 e5) q1157 q1158 q1159 q92 q1160 okn_X1_reset ⟨by rw [hRf]; exact Nat.le_of_ble_eq_true rfl, by rw [hRl]; exact Nat.le_of_ble_eq_true rfl⟩ (As := [.int a2, .int a3]) (rest := [.int (0 : Int32), va_rf a4]) rfl (by first | exact Nat.le_of_ble_eq_true rfl | simp [cat_rf, cat_i, cat_j, cat_f, cat_d]) dX0_reset_5 (ac_v ?_)
    refine g_i2l X dX0_reset_8 ?_
    obtain ⟨h6, eh6, hF⟩ := bnd hF
    refine g_last X eh6 dX0_reset_9 ?_
    refine g_goto X 21 dX0_reset_10 (by decide) ?_
    refine g_iconst (v := (0 : Int32)) X dX0_reset_21 (by decide) ?_
    cases hF
    exact g_iret X hr dX0_reset_22
def F_X0_delay (a1 : Option Nat) (a2 : Option Nat) (h0 : HH) : Option (Int32 × HH) :=
  Option.bind (isO h0 0 a1) fun ob1 =>
  thr (F_X1_delay ob1 h0) (fun q4 h2 =>
    if q4.2 = "java/lang/IllegalStateException" then (
      some ((1 : Int32), h2)
    ) else (
      none
    )
  ) (fun v3 h2 =>
    Option.bind (astJ h2 a2 (0 : Int32) (v3.toInt64)) fun h6 =>
    some ((0 : Int32), h6)
  )
set_option maxHeartbeats 4000000 in
theorem w_X0_delay (l : Launch) (hl : l.stackTraces = false) (D : va_G) (dA : Nat → ClassId) (h0 : HH) (a1 : Option Nat) (a2 : Option Nat) (rE : Int32) (hE : HH) (hF : F_X0_delay a1 a2 h0 = some (rE, hE)) : MC D dA l yX0_delay cX0_delay 3 (Option.some Jvm.ClassFile.FieldType.int) [(0, 8, 11, 15)] 17 456 [va_rf a1, va_rf a2] h0 (.inr (some (.int rE)), hE) := by
  refine mc_of hl (plainFor_of_name pn_X0) (by simp [lg_sl, cat_rf, cat_i, cat_j, cat_f, cat_d]) ?_
  intro p e s m args below meth c R hRf hRl X hr hnm
  unfold F_X0_delay at hF
  rw [show argL [va_rf a1, va_rf a2] = [some (va_rf a1), some (va_rf a2)] from by simp [argL, cat_rf, cat_i, cat_j, cat_f, cat_d]]
  refine G.pad 1 (L' := [some (va_rf a1), some (va_rf a2), none]) rfl ?_
  refine g_aload_n X dX0_delay_0 rfl rfl ?_
  refine g_iconst (v := (0 : Int32)) X dX0_delay_1 (by decide) ?_
  refine g_aload_n X dX0_delay_2 rfl rfl ?_
  obtain ⟨ob1, eob1, hF⟩ := bnd hF
  rcases thr_some hF with ⟨q4, h2, e5, hF⟩ | ⟨v3, h2, e5, hF⟩
  · refine g_callV X eob1 rfl rfl (w_X1_delay l hl D dA h0 ob1  (.inl q4) h2 e5) q1164 q1165 q1166 q92 q1167 okn_X1_delay ⟨by rw [hRf]; exact Nat.le_of_ble_eq_true rfl, by rw [hRl]; exact Nat.le_of_ble_eq_true rfl⟩ (As := []) (rest := [.int (0 : Int32), va_rf a2]) rfl (by first | exact Nat.le_of_ble_eq_true rfl | simp [cat_rf, cat_i, cat_j, cat_f, cat_d]) dX0_delay_3 (ac_x ?_)
    by_cases c7 : q4.2 = "java/lang/IllegalStateException"
    · have hF := (if_pos c7).symm.trans hF
      refine gx_catch X (name := "java/lang/IllegalStateException") [] ⟨0, 8, 11, 15⟩ [] rfl (fun z hz => nomatch hz) rfl (by decide) q1135 (by rw [c7]; exact nw_in q694 rfl) ?_
      refine G.drop [false, false, false] rfl ?_
      refine g_astore_n (L' := [none, none, some (va_rf (some q4.1))]) X dX0_delay_11 rfl (Nat.le_of_ble_eq_true rfl) (by first | rfl | simp [stL, rm1, clr2, cat_rf, cat_i, cat_j, cat_f, cat_d]) ?_
      refine g_iconst (v := (1 : Int32)) X dX0_delay_12 (by decide) ?_
      cases hF
      exact g_iret X hr dX0_delay_13
    · have hF := (if_neg c7).symm.trans hF
      cases hF
  · refine g_callV X eob1 rfl rfl (w_X1_delay l hl D dA h0 ob1  (.inr v3) h2 e5) q1164 q1165 q1166 q92 q1167 okn_X1_delay ⟨by rw [hRf]; exact Nat.le_of_ble_eq_true rfl, by rw [hRl]; exact Nat.le_of_ble_eq_true rfl⟩ (As := []) (rest := [.int (0 : Int32), va_rf a2]) rfl (by first | exact Nat.le_of_ble_eq_true rfl | simp [cat_rf, cat_i, cat_j, cat_f, cat_d]) dX0_delay_3 (ac_v ?_)
    refine g_i2l X dX0_delay_6 ?_
    obtain ⟨h6, eh6, hF⟩ := bnd hF
    refine g_last X eh6 dX0_delay_7 ?_
    refine g_goto X 14 dX0_delay_8 (by decide) ?_
    refine g_iconst (v := (0 : Int32)) X dX0_delay_14 (by decide) ?_
    cases hF
    exact g_iret X hr dX0_delay_15
def F_X0_goBackInTime (a1 : Option Nat) (a2 : Option Nat) (h0 : HH) : Option (Int32 × HH) :=
  Option.bind (isO h0 0 a1) fun ob1 =>
  thr (F_X1_goBackInTime ob1 h0) (fun q4 h2 =>
    if q4.2 = "java/lang/IllegalStateException" then (
      some ((1 : Int32), h2)
    ) else (
      none
    )
  ) (fun v3 h2 =>
    Option.bind (astJ h2 a2 (0 : Int32) (v3.toInt64)) fun h6 =>
    some ((0 : Int32), h6)
  )
set_option maxHeartbeats 4000000 in
theorem w_X0_goBackInTime (l : Launch) (hl : l.stackTraces = false) (D : va_G) (dA : Nat → ClassId) (h0 : HH) (a1 : Option Nat) (a2 : Option Nat) (rE : Int32) (hE : HH) (hF : F_X0_goBackInTime a1 a2 h0 = some (rE, hE)) : MC D dA l yX0_goBackInTime cX0_goBackInTime 3 (Option.some Jvm.ClassFile.FieldType.int) [(0, 8, 11, 15)] 17 456 [va_rf a1, va_rf a2] h0 (.inr (some (.int rE)), hE) := by
  refine mc_of hl (plainFor_of_name pn_X0) (by simp [lg_sl, cat_rf, cat_i, cat_j, cat_f, cat_d]) ?_
  intro p e s m args below meth c R hRf hRl X hr hnm
  unfold F_X0_goBackInTime at hF
  rw [show argL [va_rf a1, va_rf a2] = [some (va_rf a1), some (va_rf a2)] from by simp [argL, cat_rf, cat_i, cat_j, cat_f, cat_d]]
  refine G.pad 1 (L' := [some (va_rf a1), some (va_rf a2), none]) rfl ?_
  refine g_aload_n X dX0_goBackInTime_0 rfl rfl ?_
  refine g_iconst (v := (0 : Int32)) X dX0_goBackInTime_1 (by decide) ?_
  refine g_aload_n X dX0_goBackInTime_2 rfl rfl ?_
  obtain ⟨ob1, eob1, hF⟩ := bnd hF
  rcases thr_some hF with ⟨q4, h2, e5, hF⟩ | ⟨v3, h2, e5, hF⟩
  · refine g_callV X eob1 rfl rfl (w_X1_goBackInTime l hl D dA h0 ob1  (.inl q4) h2 e5) q1171 q1172 q1173 q92 q1174 okn_X1_goBackInTime ⟨by rw [hRf]; exact Nat.le_of_ble_eq_true rfl, by rw [hRl]; exact Nat.le_of_ble_eq_true rfl⟩ (As := []) (rest := [.int (0 : Int32), va_rf a2]) rfl (by first | exact Nat.le_of_ble_eq_true rfl | simp [cat_rf, cat_i, cat_j, cat_f, cat_d]) dX0_goBackInTime_3 (ac_x ?_)
    by_cases c7 : q4.2 = "java/lang/IllegalStateException"
    · have hF := (if_pos c7).symm.trans hF
      refine gx_catch X (name := "java/lang/IllegalStateException") [] ⟨0, 8, 11, 15⟩ [] rfl (fun z hz => nomatch hz) rfl (by decide) q1135 (by rw [c7]; exact nw_in q694 rfl) ?_
      refine G.drop [false, false, false] rfl ?_
      refine g_astore_n (L' := [none, none, some (va_rf (some q4.1))]) X dX0_goBackInTime_11 rfl (Nat.le_of_ble_eq_true rfl) (by first | rfl | simp [stL, rm1, clr2, cat_rf, cat_i, cat_j, cat_f, cat_d]) ?_
      refine g_iconst (v := (1 : Int32)) X dX0_goBackInTime_12 (by decide) ?_
      cases hF
      exact g_iret X hr dX0_goBackInTime_13
    · have hF := (if_neg c7).symm.trans hF
      cases hF
  · refine g_callV X eob1 rfl rfl (w_X1_goBackInTime l hl D dA h0 ob1  (.inr v3) h2 e5) q1171 q1172 q1173 q92 q1174 okn_X1_goBackInTime ⟨by rw [hRf]; exact Nat.le_of_ble_eq_true rfl, by rw [hRl]; exact Nat.le_of_ble_eq_true rfl⟩ (As := []) (rest := [.int (0 : Int32), va_rf a2]) rfl (by first | exact Nat.le_of_ble_eq_true rfl | simp [cat_rf, cat_i, cat_j, cat_f, cat_d]) dX0_goBackInTime_3 (ac_v ?_)
    refine g_i2l X dX0_goBackInTime_6 ?_
    obtain ⟨h6, eh6, hF⟩ := bnd hF
    refine g_last X eh6 dX0_goBackInTime_7 ?_
    refine g_goto X 14 dX0_goBackInTime_8 (by decide) ?_
    refine g_iconst (v := (0 : Int32)) X dX0_goBackInTime_14 (by decide) ?_
    cases hF
    exact g_iret X hr dX0_goBackInTime_15
def F_X0_setFree (a1 : Option Nat) (a2 : Int32) (a3 : Option Nat) (h0 : HH) : Option (Int32 × HH) :=
  Option.bind (isO h0 0 a1) fun ob1 =>
  thr (F_X1_setFree ob1 a2 h0) (fun q4 h2 =>
    if q4.2 = "java/lang/IllegalArgumentException" then (
      some ((1 : Int32), h2)
    ) else (
      if q4.2 = "java/lang/IllegalStateException" then (
        some ((2 : Int32), h2)
      ) else (
        none
      )
    )
  ) (fun v3 h2 =>
    Option.bind (astJ h2 a3 (0 : Int32) (v3.toInt64)) fun h6 =>
    some ((0 : Int32), h6)
  )
set_option maxHeartbeats 4000000 in
theorem w_X0_setFree (l : Launch) (hl : l.stackTraces = false) (D : va_G) (dA : Nat → ClassId) (h0 : HH) (a1 : Option Nat) (a2 : Int32) (a3 : Option Nat) (rE : Int32) (hE : HH) (hF : F_X0_setFree a1 a2 a3 h0 = some (rE, hE)) : MC D dA l yX0_setFree cX0_setFree 4 (Option.some Jvm.ClassFile.FieldType.int) [(0, 9, 12, 13), (0, 9, 15, 15)] 17 457 [va_rf a1, .int a2, va_rf a3] h0 (.inr (some (.int rE)), hE) := by
  refine mc_of hl (plainFor_of_name pn_X0) (by simp [lg_sl, cat_rf, cat_i, cat_j, cat_f, cat_d]) ?_
  intro p e s m args below meth c R hRf hRl X hr hnm
  unfold F_X0_setFree at hF
  rw [show argL [va_rf a1, .int a2, va_rf a3] = [some (va_rf a1), some (.int a2), some (va_rf a3)] from by simp [argL, cat_rf, cat_i, cat_j, cat_f, cat_d]]
  refine G.pad 1 (L' := [some (va_rf a1), some (.int a2), some (va_rf a3), none]) rfl ?_
  refine g_aload_n X dX0_setFree_0 rfl rfl ?_
  refine g_iconst (v := (0 : Int32)) X dX0_setFree_1 (by decide) ?_
  refine g_aload_n X dX0_setFree_2 rfl rfl ?_
  refine g_iload_n X dX0_setFree_3 rfl rfl ?_
  obtain ⟨ob1, eob1, hF⟩ := bnd hF
  rcases thr_some hF with ⟨q4, h2, e5, hF⟩ | ⟨v3, h2, e5, hF⟩
  · refine g_callV X eob1 rfl rfl (w_X1_setFree l hl D dA h0 ob1 a2 (.inl q4) h2 e5) q1178 q1179 q1180 q92 q1181 okn_X1_setFree ⟨by rw [hRf]; exact Nat.le_of_ble_eq_true rfl, by rw [hRl]; exact Nat.le_of_ble_eq_true rfl⟩ (As := [.int a2]) (rest := [.int (0 : Int32), va_rf a3]) rfl (by first | exact Nat.le_of_ble_eq_true rfl | simp [cat_rf, cat_i, cat_j, cat_f, cat_d]) dX0_setFree_4 (ac_x ?_)
    by_cases c7 : q4.2 = "java/lang/IllegalArgumentException"
    · have hF := (if_pos c7).symm.trans hF
      refine gx_catch X (name := "java/lang/IllegalArgumentException") [] ⟨0, 9, 12, 13⟩ [⟨0, 9, 15, 15⟩] rfl (fun z hz => nomatch hz) rfl (by decide) q1134 (by rw [c7]; exact nw_in q757 rfl) ?_
      refine G.drop [false, false, false, false] rfl ?_
      refine g_astore_n (L' := [none, none, none, some (va_rf (some q4.1))]) X dX0_setFree_12 rfl (Nat.le_of_ble_eq_true rfl) (by first | rfl | simp [stL, rm1, clr2, cat_rf, cat_i, cat_j, cat_f, cat_d]) ?_
      refine g_iconst (v := (1 : Int32)) X dX0_setFree_13 (by decide) ?_
      cases hF
      exact g_iret X hr dX0_setFree_14
    · have hF := (if_neg c7).symm.trans hF
      by_cases c8 : q4.2 = "java/lang/IllegalStateException"
      · have hF := (if_pos c8).symm.trans hF
        refine gx_catch X (name := "java/lang/IllegalStateException") [⟨0, 9, 12, 13⟩] ⟨0, 9, 15, 15⟩ [] rfl (fun z hz => by rcases List.mem_singleton.mp hz with rfl; exact Or.inr ⟨by decide, "java/lang/IllegalArgumentException", q1134, by rw [c8]; exact FXnc X (by decide)⟩) rfl (by decide) q1135 (by rw [c8]; exact nw_in q694 rfl) ?_
        refine G.drop [false, false, false, false] rfl ?_
        refine g_astore_n (L' := [none, none, none, some (va_rf (some q4.1))]) X dX0_setFree_15 rfl (Nat.le_of_ble_eq_true rfl) (by first | rfl | simp [stL, rm1, clr2, cat_rf, cat_i, cat_j, cat_f, cat_d]) ?_
        refine g_iconst (v := (2 : Int32)) X dX0_setFree_16 (by decide) ?_
        cases hF
        exact g_iret X hr dX0_setFree_17
      · have hF := (if_neg c8).symm.trans hF
        cases hF
  · refine g_callV X eob1 rfl rfl (w_X1_setFree l hl D dA h0 ob1 a2 (.inr v3) h2 e5) q1178 q1179 q1180 q92 q1181 okn_X1_setFree ⟨by rw [hRf]; exact Nat.le_of_ble_eq_true rfl, by rw [hRl]; exact Nat.le_of_ble_eq_true rfl⟩ (As := [.int a2]) (rest := [.int (0 : Int32), va_rf a3]) rfl (by first | exact Nat.le_of_ble_eq_true rfl | simp [cat_rf, cat_i, cat_j, cat_f, cat_d]) dX0_setFree_4 (ac_v ?_)
    refine g_i2l X dX0_setFree_7 ?_
    obtain ⟨h6, eh6, hF⟩ := bnd hF
    refine g_last X eh6 dX0_setFree_8 ?_
    refine g_goto X 18 dX0_setFree_9 (by decide) ?_
    refine g_iconst (v := (0 : Int32)) X dX0_setFree_18 (by decide) ?_
    cases hF
    exact g_iret X hr dX0_setFree_19
def F_X0_copyClock (a1 : Option Nat) (a2 : Int32) (a3 : Int32) (a4 : Option Nat) (h0 : HH) : Option (Int32 × HH) :=
  Option.bind (isO h0 0 a1) fun ob1 =>
  thr (F_X1_copyClock ob1 a2 a3 h0) (fun q4 h2 =>
    if q4.2 = "java/lang/IllegalArgumentException" then (
      some ((1 : Int32), h2)
    ) else (
      if q4.2 = "java/lang/IllegalStateException" then (
        some ((2 : Int32), h2)
      ) else (
        none
      )
    )
  ) (fun v3 h2 =>
    Option.bind (astJ h2 a4 (0 : Int32) (v3.toInt64)) fun h6 =>
    some ((0 : Int32), h6)
  )
set_option maxHeartbeats 4000000 in
theorem w_X0_copyClock (l : Launch) (hl : l.stackTraces = false) (D : va_G) (dA : Nat → ClassId) (h0 : HH) (a1 : Option Nat) (a2 : Int32) (a3 : Int32) (a4 : Option Nat) (rE : Int32) (hE : HH) (hF : F_X0_copyClock a1 a2 a3 a4 h0 = some (rE, hE)) : MC D dA l yX0_copyClock cX0_copyClock 5 (Option.some Jvm.ClassFile.FieldType.int) [(0, 10, 13, 13), (0, 10, 17, 15)] 17 458 [va_rf a1, .int a2, .int a3, va_rf a4] h0 (.inr (some (.int rE)), hE) := by
  refine mc_of hl (plainFor_of_name pn_X0) (by simp [lg_sl, cat_rf, cat_i, cat_j, cat_f, cat_d]) ?_
  intro p e s m args below meth c R hRf hRl X hr hnm
  unfold F_X0_copyClock at hF
  rw [show argL [va_rf a1, .int a2, .int a3, va_rf a4] = [some (va_rf a1), some (.int a2), some (.int a3), some (va_rf a4)] from by simp [argL, cat_rf, cat_i, cat_j, cat_f, cat_d]]
  refine G.pad 1 (L' := [some (va_rf a1), some (.int a2), some (.int a3), some (va_rf a4), none]) rfl ?_
  refine g_aload_n X dX0_copyClock_0 rfl rfl ?_
  refine g_iconst (v := (0 : Int32)) X dX0_copyClock_1 (by decide) ?_
  refine g_aload_n X dX0_copyClock_2 rfl rfl ?_
  refine g_iload_n X dX0_copyClock_3 rfl rfl ?_
  refine g_iload_n X dX0_copyClock_4 rfl rfl ?_
  obtain ⟨ob1, eob1, hF⟩ := bnd hF
  rcases thr_some hF with ⟨q4, h2, e5, hF⟩ | ⟨v3, h2, e5, hF⟩
  · refine g_callV X eob1 rfl rfl (w_X1_copyClock l hl D dA h0 ob1 a2 a3 (.inl q4) h2 e5) q1185 q1186 q1187 q92 q1188 okn_X1_copyClock ⟨by rw [hRf]; exact Nat.le_of_ble_eq_true rfl, by rw [hRl]; exact Nat.le_of_ble_eq_true rfl⟩ (As := [.int a2, .int a3]) (rest := [.int (0 : Int32), va_rf a4]) rfl (by first | exact Nat.le_of_ble_eq_true rfl | simp [cat_rf, cat_i, cat_j, cat_f, cat_d]) dX0_copyClock_5 (ac_x ?_)
    by_cases c7 : q4.2 = "java/lang/IllegalArgumentException"
    · have hF := (if_pos c7).symm.trans hF
      refine gx_catch X (name := "java/lang/IllegalArgumentException") [] ⟨0, 10, 13, 13⟩ [⟨0, 10, 17, 15⟩] rfl (fun z hz => nomatch hz) rfl (by decide) q1134 (by rw [c7]; exact nw_in q757 rfl) ?_
      refine G.drop [false, false, false, false, false] rfl ?_
      refine g_astore (L' := [none, none, none, none, some (va_rf (some q4.1))]) X dX0_copyClock_13 (Nat.le_of_ble_eq_true rfl) (by first | rfl | simp [stL, rm1, clr2, cat_rf, cat_i, cat_j, cat_f, cat_d]) ?_
      refine g_iconst (v := (1 : Int32)) X dX0_copyClock_15 (by decide) ?_
      cases hF
      exact g_iret X hr dX0_copyClock_16
    · have hF := (if_neg c7).symm.trans hF
      by_cases c8 : q4.2 = "java/lang/IllegalStateException"
      · have hF := (if_pos c8).symm.trans hF
        refine gx_catch X (name := "java/lang/IllegalStateException") [⟨0, 10, 13, 13⟩] ⟨0, 10, 17, 15⟩ [] rfl (fun z hz => by rcases List.mem_singleton.mp hz with rfl; exact Or.inr ⟨by decide, "java/lang/IllegalArgumentException", q1134, by rw [c8]; exact FXnc X (by decide)⟩) rfl (by decide) q1135 (by rw [c8]; exact nw_in q694 rfl) ?_
        refine G.drop [false, false, false, false, false] rfl ?_
        refine g_astore (L' := [none, none, none, none, some (va_rf (some q4.1))]) X dX0_copyClock_17 (Nat.le_of_ble_eq_true rfl) (by first | rfl | simp [stL, rm1, clr2, cat_rf, cat_i, cat_j, cat_f, cat_d]) ?_
        refine g_iconst (v := (2 : Int32)) X dX0_copyClock_19 (by decide) ?_
        cases hF
        exact g_iret X hr dX0_copyClock_20
      · have hF := (if_neg c8).symm.trans hF
        cases hF
  · refine g_callV X eob1 rfl rfl (w_X1_copyClock l hl D dA h0 ob1 a2 a3 (.inr v3) h2 e5) q1185 q1186 q1187 q92 q1188 okn_X1_copyClock ⟨by rw [hRf]; exact Nat.le_of_ble_eq_true rfl, by rw [hRl]; exact Nat.le_of_ble_eq_true rfl⟩ (As := [.int a2, .int a3]) (rest := [.int (0 : Int32), va_rf a4]) rfl (by first | exact Nat.le_of_ble_eq_true rfl | simp [cat_rf, cat_i, cat_j, cat_f, cat_d]) dX0_copyClock_5 (ac_v ?_)
    refine g_i2l X dX0_copyClock_8 ?_
    obtain ⟨h6, eh6, hF⟩ := bnd hF
    refine g_last X eh6 dX0_copyClock_9 ?_
    refine g_goto X 21 dX0_copyClock_10 (by decide) ?_
    refine g_iconst (v := (0 : Int32)) X dX0_copyClock_21 (by decide) ?_
    cases hF
    exact g_iret X hr dX0_copyClock_22
def F_X0_shift (a1 : Option Nat) (a2 : Int32) (a3 : Int32) (a4 : Option Nat) (h0 : HH) : Option (Int32 × HH) :=
  Option.bind (isO h0 0 a1) fun ob1 =>
  thr (F_X1_shift ob1 a2 a3 h0) (fun q4 h2 =>
    if q4.2 = "java/lang/IllegalArgumentException" then (
      some ((1 : Int32), h2)
    ) else (
      if q4.2 = "java/lang/IllegalStateException" then (
        some ((2 : Int32), h2)
      ) else (
        none
      )
    )
  ) (fun v3 h2 =>
    Option.bind (astJ h2 a4 (0 : Int32) (v3.toInt64)) fun h6 =>
    some ((0 : Int32), h6)
  )
set_option maxHeartbeats 4000000 in
theorem w_X0_shift (l : Launch) (hl : l.stackTraces = false) (D : va_G) (dA : Nat → ClassId) (h0 : HH) (a1 : Option Nat) (a2 : Int32) (a3 : Int32) (a4 : Option Nat) (rE : Int32) (hE : HH) (hF : F_X0_shift a1 a2 a3 a4 h0 = some (rE, hE)) : MC D dA l yX0_shift cX0_shift 5 (Option.some Jvm.ClassFile.FieldType.int) [(0, 10, 13, 13), (0, 10, 17, 15)] 17 458 [va_rf a1, .int a2, .int a3, va_rf a4] h0 (.inr (some (.int rE)), hE) := by
  refine mc_of hl (plainFor_of_name pn_X0) (by simp [lg_sl, cat_rf, cat_i, cat_j, cat_f, cat_d]) ?_
  intro p e s m args below meth c R hRf hRl X hr hnm
  unfold F_X0_shift at hF
  rw [show argL [va_rf a1, .int a2, .int a3, va_rf a4] = [some (va_rf a1), some (.int a2), some (.int a3), some (va_rf a4)] from by simp [argL, cat_rf, cat_i, cat_j, cat_f, cat_d]]
  refine G.pad 1 (L' := [some (va_rf a1), some (.int a2), some (.int a3), some (va_rf a4), none]) rfl ?_
  refine g_aload_n X dX0_shift_0 rfl rfl ?_
  refine g_iconst (v := (0 : Int32)) X dX0_shift_1 (by decide) ?_
  refine g_aload_n X dX0_shift_2 rfl rfl ?_
  refine g_iload_n X dX0_shift_3 rfl rfl ?_
  refine g_iload_n X dX0_shift_4 rfl rfl ?_
  obtain ⟨ob1, eob1, hF⟩ := bnd hF
  rcases thr_some hF with ⟨q4, h2, e5, hF⟩ | ⟨v3, h2, e5, hF⟩
  · refine g_callV X eob1 rfl rfl (w_X1_shift l hl D dA h0 ob1 a2 a3 (.inl q4) h2 e5) q1192 q1193 q1194 q92 q1195 okn_X1_shift ⟨by rw [hRf]; exact Nat.le_of_ble_eq_true rfl, by rw [hRl]; exact Nat.le_of_ble_eq_true rfl⟩ (As := [.int a2, .int a3]) (rest := [.int (0 : Int32), va_rf a4]) rfl (by first | exact Nat.le_of_ble_eq_true rfl | simp [cat_rf, cat_i, cat_j, cat_f, cat_d]) dX0_shift_5 (ac_x ?_)
    by_cases c7 : q4.2 = "java/lang/IllegalArgumentException"
    · have hF := (if_pos c7).symm.trans hF
      refine gx_catch X (name := "java/lang/IllegalArgumentException") [] ⟨0, 10, 13, 13⟩ [⟨0, 10, 17, 15⟩] rfl (fun z hz => nomatch hz) rfl (by decide) q1134 (by rw [c7]; exact nw_in q757 rfl) ?_
      refine G.drop [false, false, false, false, false] rfl ?_
      refine g_astore (L' := [none, none, none, none, some (va_rf (some q4.1))]) X dX0_shift_13 (Nat.le_of_ble_eq_true rfl) (by first | rfl | simp [stL, rm1, clr2, cat_rf, cat_i, cat_j, cat_f, cat_d]) ?_
      refine g_iconst (v := (1 : Int32)) X dX0_shift_15 (by decide) ?_
      cases hF
      exact g_iret X hr dX0_shift_16
    · have hF := (if_neg c7).symm.trans hF
      by_cases c8 : q4.2 = "java/lang/IllegalStateException"
      · have hF := (if_pos c8).symm.trans hF
        refine gx_catch X (name := "java/lang/IllegalStateException") [⟨0, 10, 13, 13⟩] ⟨0, 10, 17, 15⟩ [] rfl (fun z hz => by rcases List.mem_singleton.mp hz with rfl; exact Or.inr ⟨by decide, "java/lang/IllegalArgumentException", q1134, by rw [c8]; exact FXnc X (by decide)⟩) rfl (by decide) q1135 (by rw [c8]; exact nw_in q694 rfl) ?_
        refine G.drop [false, false, false, false, false] rfl ?_
        refine g_astore (L' := [none, none, none, none, some (va_rf (some q4.1))]) X dX0_shift_17 (Nat.le_of_ble_eq_true rfl) (by first | rfl | simp [stL, rm1, clr2, cat_rf, cat_i, cat_j, cat_f, cat_d]) ?_
        refine g_iconst (v := (2 : Int32)) X dX0_shift_19 (by decide) ?_
        cases hF
        exact g_iret X hr dX0_shift_20
      · have hF := (if_neg c8).symm.trans hF
        cases hF
  · refine g_callV X eob1 rfl rfl (w_X1_shift l hl D dA h0 ob1 a2 a3 (.inr v3) h2 e5) q1192 q1193 q1194 q92 q1195 okn_X1_shift ⟨by rw [hRf]; exact Nat.le_of_ble_eq_true rfl, by rw [hRl]; exact Nat.le_of_ble_eq_true rfl⟩ (As := [.int a2, .int a3]) (rest := [.int (0 : Int32), va_rf a4]) rfl (by first | exact Nat.le_of_ble_eq_true rfl | simp [cat_rf, cat_i, cat_j, cat_f, cat_d]) dX0_shift_5 (ac_v ?_)
    refine g_i2l X dX0_shift_8 ?_
    obtain ⟨h6, eh6, hF⟩ := bnd hF
    refine g_last X eh6 dX0_shift_9 ?_
    refine g_goto X 21 dX0_shift_10 (by decide) ?_
    refine g_iconst (v := (0 : Int32)) X dX0_shift_21 (by decide) ?_
    cases hF
    exact g_iret X hr dX0_shift_22
def F_X0_store (a1 : Option Nat) (a2 : Int32) (a3 : Option Nat) (h0 : HH) : Option (Int32 × HH) :=
  Option.bind (isO h0 0 a1) fun ob1 =>
  thr (F_X1_store ob1 a2 h0) (fun q4 h2 =>
    if q4.2 = "java/lang/IllegalArgumentException" then (
      some ((1 : Int32), h2)
    ) else (
      none
    )
  ) (fun v3 h2 =>
    Option.bind (astJ h2 a3 (0 : Int32) (if v3 = 0 then (0 : Int64) else (1 : Int64))) fun h7 =>
    some ((0 : Int32), h7)
  )
set_option maxHeartbeats 4000000 in
theorem w_X0_store (l : Launch) (hl : l.stackTraces = false) (D : va_G) (dA : Nat → ClassId) (h0 : HH) (a1 : Option Nat) (a2 : Int32) (a3 : Option Nat) (rE : Int32) (hE : HH) (hF : F_X0_store a1 a2 a3 h0 = some (rE, hE)) : MC D dA l yX0_store cX0_store 4 (Option.some Jvm.ClassFile.FieldType.int) [(0, 16, 19, 13)] 17 457 [va_rf a1, .int a2, va_rf a3] h0 (.inr (some (.int rE)), hE) := by
  refine mc_of hl (plainFor_of_name pn_X0) (by simp [lg_sl, cat_rf, cat_i, cat_j, cat_f, cat_d]) ?_
  intro p e s m args below meth c R hRf hRl X hr hnm
  unfold F_X0_store at hF
  rw [show argL [va_rf a1, .int a2, va_rf a3] = [some (va_rf a1), some (.int a2), some (va_rf a3)] from by simp [argL, cat_rf, cat_i, cat_j, cat_f, cat_d]]
  refine G.pad 1 (L' := [some (va_rf a1), some (.int a2), some (va_rf a3), none]) rfl ?_
  refine g_aload_n X dX0_store_0 rfl rfl ?_
  refine g_iconst (v := (0 : Int32)) X dX0_store_1 (by decide) ?_
  refine g_aload_n X dX0_store_2 rfl rfl ?_
  refine g_iload_n X dX0_store_3 rfl rfl ?_
  obtain ⟨ob1, eob1, hF⟩ := bnd hF
  rcases thr_some hF with ⟨q4, h2, e5, hF⟩ | ⟨v3, h2, e5, hF⟩
  · refine g_callV X eob1 rfl rfl (w_X1_store l hl D dA h0 ob1 a2 (.inl q4) h2 e5) q1199 q1200 q1201 q92 q1202 okn_X1_store ⟨by rw [hRf]; exact Nat.le_of_ble_eq_true rfl, by rw [hRl]; exact Nat.le_of_ble_eq_true rfl⟩ (As := [.int a2]) (rest := [.int (0 : Int32), va_rf a3]) rfl (by first | exact Nat.le_of_ble_eq_true rfl | simp [cat_rf, cat_i, cat_j, cat_f, cat_d]) dX0_store_4 (ac_x ?_)
    by_cases c8 : q4.2 = "java/lang/IllegalArgumentException"
    · have hF := (if_pos c8).symm.trans hF
      refine gx_catch X (name := "java/lang/IllegalArgumentException") [] ⟨0, 16, 19, 13⟩ [] rfl (fun z hz => nomatch hz) rfl (by decide) q1134 (by rw [c8]; exact nw_in q757 rfl) ?_
      refine G.drop [false, false, false, false] rfl ?_
      refine g_astore_n (L' := [none, none, none, some (va_rf (some q4.1))]) X dX0_store_19 rfl (Nat.le_of_ble_eq_true rfl) (by first | rfl | simp [stL, rm1, clr2, cat_rf, cat_i, cat_j, cat_f, cat_d]) ?_
      refine g_iconst (v := (1 : Int32)) X dX0_store_20 (by decide) ?_
      cases hF
      exact g_iret X hr dX0_store_21
    · have hF := (if_neg c8).symm.trans hF
      cases hF
  · refine g_callV X eob1 rfl rfl (w_X1_store l hl D dA h0 ob1 a2 (.inr v3) h2 e5) q1199 q1200 q1201 q92 q1202 okn_X1_store ⟨by rw [hRf]; exact Nat.le_of_ble_eq_true rfl, by rw [hRl]; exact Nat.le_of_ble_eq_true rfl⟩ (As := [.int a2]) (rest := [.int (0 : Int32), va_rf a3]) rfl (by first | exact Nat.le_of_ble_eq_true rfl | simp [cat_rf, cat_i, cat_j, cat_f, cat_d]) dX0_store_4 (ac_v ?_)
    suffices K : G p l e R s m args below meth c (RQ D dA h0 (.inr (some (.int rE)), hE) below s) D dA h0 4 h2 15 [none, none, none, none] [.long (if v3 = 0 then (0 : Int64) else (1 : Int64)), .int (0 : Int32), va_rf a3] by
      refine g_if_eq X 14 dX0_store_7 (by decide) (fun c6 => ?_) (fun c6 => ?_)
      · (try simp only [if_pos c6] at K)
        refine g_lconst (v := (0 : Int64)) X dX0_store_14 (by decide) ?_
        refine G.drop [false, false, false, false] rfl ?_
        first | exact K | (simp only [if_pos c6]; exact K)
      · (try simp only [if_neg c6] at K)
        refine g_lconst (v := (1 : Int64)) X dX0_store_10 (by decide) ?_
        refine g_goto X 15 dX0_store_11 (by decide) ?_
        refine G.drop [false, false, false, false] rfl ?_
        first | exact K | (simp only [if_neg c6]; exact K)
    obtain ⟨h7, eh7, hF⟩ := bnd hF
    refine g_last X eh7 dX0_store_15 ?_
    refine g_goto X 22 dX0_store_16 (by decide) ?_
    refine g_iconst (v := (0 : Int32)) X dX0_store_22 (by decide) ?_
    cases hF
    exact g_iret X hr dX0_store_23
def F_X0_meet (a1 : Option Nat) (a2 : Int32) (a3 : Option Nat) (h0 : HH) : Option (Int32 × HH) :=
  Option.bind (isO h0 0 a1) fun ob1 =>
  thr (F_X1_meet ob1 a2 h0) (fun q4 h2 =>
    if q4.2 = "java/lang/IllegalArgumentException" then (
      some ((1 : Int32), h2)
    ) else (
      if q4.2 = "java/lang/IllegalStateException" then (
        some ((2 : Int32), h2)
      ) else (
        none
      )
    )
  ) (fun v3 h2 =>
    Option.bind (astJ h2 a3 (0 : Int32) (v3.toInt64)) fun h6 =>
    some ((0 : Int32), h6)
  )
set_option maxHeartbeats 4000000 in
theorem w_X0_meet (l : Launch) (hl : l.stackTraces = false) (D : va_G) (dA : Nat → ClassId) (h0 : HH) (a1 : Option Nat) (a2 : Int32) (a3 : Option Nat) (rE : Int32) (hE : HH) (hF : F_X0_meet a1 a2 a3 h0 = some (rE, hE)) : MC D dA l yX0_meet cX0_meet 4 (Option.some Jvm.ClassFile.FieldType.int) [(0, 9, 12, 13), (0, 9, 15, 15)] 17 457 [va_rf a1, .int a2, va_rf a3] h0 (.inr (some (.int rE)), hE) := by
  refine mc_of hl (plainFor_of_name pn_X0) (by simp [lg_sl, cat_rf, cat_i, cat_j, cat_f, cat_d]) ?_
  intro p e s m args below meth c R hRf hRl X hr hnm
  unfold F_X0_meet at hF
  rw [show argL [va_rf a1, .int a2, va_rf a3] = [some (va_rf a1), some (.int a2), some (va_rf a3)] from by simp [argL, cat_rf, cat_i, cat_j, cat_f, cat_d]]
  refine G.pad 1 (L' := [some (va_rf a1), some (.int a2), some (va_rf a3), none]) rfl ?_
  refine g_aload_n X dX0_meet_0 rfl rfl ?_
  refine g_iconst (v := (0 : Int32)) X dX0_meet_1 (by decide) ?_
  refine g_aload_n X dX0_meet_2 rfl rfl ?_
  refine g_iload_n X dX0_meet_3 rfl rfl ?_
  obtain ⟨ob1, eob1, hF⟩ := bnd hF
  rcases thr_some hF with ⟨q4, h2, e5, hF⟩ | ⟨v3, h2, e5, hF⟩
  · refine g_callV X eob1 rfl rfl (w_X1_meet l hl D dA h0 ob1 a2 (.inl q4) h2 e5) q1206 q1207 q1208 q92 q1209 okn_X1_meet ⟨by rw [hRf]; exact Nat.le_of_ble_eq_true rfl, by rw [hRl]; exact Nat.le_of_ble_eq_true rfl⟩ (As := [.int a2]) (rest := [.int (0 : Int32), va_rf a3]) rfl (by first | exact Nat.le_of_ble_eq_true rfl | simp [cat_rf, cat_i, cat_j, cat_f, cat_d]) dX0_meet_4 (ac_x ?_)
    by_cases c7 : q4.2 = "java/lang/IllegalArgumentException"
    · have hF := (if_pos c7).symm.trans hF
      refine gx_catch X (name := "java/lang/IllegalArgumentException") [] ⟨0, 9, 12, 13⟩ [⟨0, 9, 15, 15⟩] rfl (fun z hz => nomatch hz) rfl (by decide) q1134 (by rw [c7]; exact nw_in q757 rfl) ?_
      refine G.drop [false, false, false, false] rfl ?_
      refine g_astore_n (L' := [none, none, none, some (va_rf (some q4.1))]) X dX0_meet_12 rfl (Nat.le_of_ble_eq_true rfl) (by first | rfl | simp [stL, rm1, clr2, cat_rf, cat_i, cat_j, cat_f, cat_d]) ?_
      refine g_iconst (v := (1 : Int32)) X dX0_meet_13 (by decide) ?_
      cases hF
      exact g_iret X hr dX0_meet_14
    · have hF := (if_neg c7).symm.trans hF
      by_cases c8 : q4.2 = "java/lang/IllegalStateException"
      · have hF := (if_pos c8).symm.trans hF
        refine gx_catch X (name := "java/lang/IllegalStateException") [⟨0, 9, 12, 13⟩] ⟨0, 9, 15, 15⟩ [] rfl (fun z hz => by rcases List.mem_singleton.mp hz with rfl; exact Or.inr ⟨by decide, "java/lang/IllegalArgumentException", q1134, by rw [c8]; exact FXnc X (by decide)⟩) rfl (by decide) q1135 (by rw [c8]; exact nw_in q694 rfl) ?_
        refine G.drop [false, false, false, false] rfl ?_
        refine g_astore_n (L' := [none, none, none, some (va_rf (some q4.1))]) X dX0_meet_15 rfl (Nat.le_of_ble_eq_true rfl) (by first | rfl | simp [stL, rm1, clr2, cat_rf, cat_i, cat_j, cat_f, cat_d]) ?_
        refine g_iconst (v := (2 : Int32)) X dX0_meet_16 (by decide) ?_
        cases hF
        exact g_iret X hr dX0_meet_17
      · have hF := (if_neg c8).symm.trans hF
        cases hF
  · refine g_callV X eob1 rfl rfl (w_X1_meet l hl D dA h0 ob1 a2 (.inr v3) h2 e5) q1206 q1207 q1208 q92 q1209 okn_X1_meet ⟨by rw [hRf]; exact Nat.le_of_ble_eq_true rfl, by rw [hRl]; exact Nat.le_of_ble_eq_true rfl⟩ (As := [.int a2]) (rest := [.int (0 : Int32), va_rf a3]) rfl (by first | exact Nat.le_of_ble_eq_true rfl | simp [cat_rf, cat_i, cat_j, cat_f, cat_d]) dX0_meet_4 (ac_v ?_)
    refine g_i2l X dX0_meet_7 ?_
    obtain ⟨h6, eh6, hF⟩ := bnd hF
    refine g_last X eh6 dX0_meet_8 ?_
    refine g_goto X 18 dX0_meet_9 (by decide) ?_
    refine g_iconst (v := (0 : Int32)) X dX0_meet_18 (by decide) ?_
    cases hF
    exact g_iret X hr dX0_meet_19
def F_X0_wrap (a1 : Option Nat) (a2 : Int32) (a3 : Option Nat) (h0 : HH) : Option (Int32 × HH) :=
  Option.bind (isO h0 0 a1) fun ob1 =>
  thr (F_X1_wrap ob1 a2 h0) (fun q4 h2 =>
    if q4.2 = "java/lang/IllegalArgumentException" then (
      some ((1 : Int32), h2)
    ) else (
      if q4.2 = "java/lang/IllegalStateException" then (
        some ((2 : Int32), h2)
      ) else (
        none
      )
    )
  ) (fun v3 h2 =>
    Option.bind (astJ h2 a3 (0 : Int32) (v3.toInt64)) fun h6 =>
    some ((0 : Int32), h6)
  )
set_option maxHeartbeats 4000000 in
theorem w_X0_wrap (l : Launch) (hl : l.stackTraces = false) (D : va_G) (dA : Nat → ClassId) (h0 : HH) (a1 : Option Nat) (a2 : Int32) (a3 : Option Nat) (rE : Int32) (hE : HH) (hF : F_X0_wrap a1 a2 a3 h0 = some (rE, hE)) : MC D dA l yX0_wrap cX0_wrap 4 (Option.some Jvm.ClassFile.FieldType.int) [(0, 9, 12, 13), (0, 9, 15, 15)] 17 457 [va_rf a1, .int a2, va_rf a3] h0 (.inr (some (.int rE)), hE) := by
  refine mc_of hl (plainFor_of_name pn_X0) (by simp [lg_sl, cat_rf, cat_i, cat_j, cat_f, cat_d]) ?_
  intro p e s m args below meth c R hRf hRl X hr hnm
  unfold F_X0_wrap at hF
  rw [show argL [va_rf a1, .int a2, va_rf a3] = [some (va_rf a1), some (.int a2), some (va_rf a3)] from by simp [argL, cat_rf, cat_i, cat_j, cat_f, cat_d]]
  refine G.pad 1 (L' := [some (va_rf a1), some (.int a2), some (va_rf a3), none]) rfl ?_
  refine g_aload_n X dX0_wrap_0 rfl rfl ?_
  refine g_iconst (v := (0 : Int32)) X dX0_wrap_1 (by decide) ?_
  refine g_aload_n X dX0_wrap_2 rfl rfl ?_
  refine g_iload_n X dX0_wrap_3 rfl rfl ?_
  obtain ⟨ob1, eob1, hF⟩ := bnd hF
  rcases thr_some hF with ⟨q4, h2, e5, hF⟩ | ⟨v3, h2, e5, hF⟩
  · refine g_callV X eob1 rfl rfl (w_X1_wrap l hl D dA h0 ob1 a2 (.inl q4) h2 e5) q1213 q1214 q1215 q92 q1216 okn_X1_wrap ⟨by rw [hRf]; exact Nat.le_of_ble_eq_true rfl, by rw [hRl]; exact Nat.le_of_ble_eq_true rfl⟩ (As := [.int a2]) (rest := [.int (0 : Int32), va_rf a3]) rfl (by first | exact Nat.le_of_ble_eq_true rfl | simp [cat_rf, cat_i, cat_j, cat_f, cat_d]) dX0_wrap_4 (ac_x ?_)
    by_cases c7 : q4.2 = "java/lang/IllegalArgumentException"
    · have hF := (if_pos c7).symm.trans hF
      refine gx_catch X (name := "java/lang/IllegalArgumentException") [] ⟨0, 9, 12, 13⟩ [⟨0, 9, 15, 15⟩] rfl (fun z hz => nomatch hz) rfl (by decide) q1134 (by rw [c7]; exact nw_in q757 rfl) ?_
      refine G.drop [false, false, false, false] rfl ?_
      refine g_astore_n (L' := [none, none, none, some (va_rf (some q4.1))]) X dX0_wrap_12 rfl (Nat.le_of_ble_eq_true rfl) (by first | rfl | simp [stL, rm1, clr2, cat_rf, cat_i, cat_j, cat_f, cat_d]) ?_
      refine g_iconst (v := (1 : Int32)) X dX0_wrap_13 (by decide) ?_
      cases hF
      exact g_iret X hr dX0_wrap_14
    · have hF := (if_neg c7).symm.trans hF
      by_cases c8 : q4.2 = "java/lang/IllegalStateException"
      · have hF := (if_pos c8).symm.trans hF
        refine gx_catch X (name := "java/lang/IllegalStateException") [⟨0, 9, 12, 13⟩] ⟨0, 9, 15, 15⟩ [] rfl (fun z hz => by rcases List.mem_singleton.mp hz with rfl; exact Or.inr ⟨by decide, "java/lang/IllegalArgumentException", q1134, by rw [c8]; exact FXnc X (by decide)⟩) rfl (by decide) q1135 (by rw [c8]; exact nw_in q694 rfl) ?_
        refine G.drop [false, false, false, false] rfl ?_
        refine g_astore_n (L' := [none, none, none, some (va_rf (some q4.1))]) X dX0_wrap_15 rfl (Nat.le_of_ble_eq_true rfl) (by first | rfl | simp [stL, rm1, clr2, cat_rf, cat_i, cat_j, cat_f, cat_d]) ?_
        refine g_iconst (v := (2 : Int32)) X dX0_wrap_16 (by decide) ?_
        cases hF
        exact g_iret X hr dX0_wrap_17
      · have hF := (if_neg c8).symm.trans hF
        cases hF
  · refine g_callV X eob1 rfl rfl (w_X1_wrap l hl D dA h0 ob1 a2 (.inr v3) h2 e5) q1213 q1214 q1215 q92 q1216 okn_X1_wrap ⟨by rw [hRf]; exact Nat.le_of_ble_eq_true rfl, by rw [hRl]; exact Nat.le_of_ble_eq_true rfl⟩ (As := [.int a2]) (rest := [.int (0 : Int32), va_rf a3]) rfl (by first | exact Nat.le_of_ble_eq_true rfl | simp [cat_rf, cat_i, cat_j, cat_f, cat_d]) dX0_wrap_4 (ac_v ?_)
    refine g_i2l X dX0_wrap_7 ?_
    obtain ⟨h6, eh6, hF⟩ := bnd hF
    refine g_last X eh6 dX0_wrap_8 ?_
    refine g_goto X 18 dX0_wrap_9 (by decide) ?_
    refine g_iconst (v := (0 : Int32)) X dX0_wrap_18 (by decide) ?_
    cases hF
    exact g_iret X hr dX0_wrap_19
def F_X0_setStay (a1 : Option Nat) (a2 : Int32) (a3 : Int32) (a4 : Int32) (a5 : Option Nat) (h0 : HH) : Option (Int32 × HH) :=
  Option.bind (isO h0 0 a1) fun ob1 =>
  thr (F_X1_setStay ob1 a2 a3 a4 h0) (fun q4 h2 =>
    if q4.2 = "java/lang/IllegalArgumentException" then (
      some ((1 : Int32), h2)
    ) else (
      none
    )
  ) (fun v3 h2 =>
    Option.bind (astJ h2 a5 (0 : Int32) (v3.toInt64)) fun h6 =>
    some ((0 : Int32), h6)
  )
set_option maxHeartbeats 4000000 in
theorem w_X0_setStay (l : Launch) (hl : l.stackTraces = false) (D : va_G) (dA : Nat → ClassId) (h0 : HH) (a1 : Option Nat) (a2 : Int32) (a3 : Int32) (a4 : Int32) (a5 : Option Nat) (rE : Int32) (hE : HH) (hF : F_X0_setStay a1 a2 a3 a4 a5 h0 = some (rE, hE)) : MC D dA l yX0_setStay cX0_setStay 6 (Option.some Jvm.ClassFile.FieldType.int) [(0, 12, 15, 13)] 17 459 [va_rf a1, .int a2, .int a3, .int a4, va_rf a5] h0 (.inr (some (.int rE)), hE) := by
  refine mc_of hl (plainFor_of_name pn_X0) (by simp [lg_sl, cat_rf, cat_i, cat_j, cat_f, cat_d]) ?_
  intro p e s m args below meth c R hRf hRl X hr hnm
  unfold F_X0_setStay at hF
  rw [show argL [va_rf a1, .int a2, .int a3, .int a4, va_rf a5] = [some (va_rf a1), some (.int a2), some (.int a3), some (.int a4), some (va_rf a5)] from by simp [argL, cat_rf, cat_i, cat_j, cat_f, cat_d]]
  refine G.pad 1 (L' := [some (va_rf a1), some (.int a2), some (.int a3), some (.int a4), some (va_rf a5), none]) rfl ?_
  refine g_aload X dX0_setStay_0 rfl ?_
  refine g_iconst (v := (0 : Int32)) X dX0_setStay_2 (by decide) ?_
  refine g_aload_n X dX0_setStay_3 rfl rfl ?_
  refine g_iload_n X dX0_setStay_4 rfl rfl ?_
  refine g_iload_n X dX0_setStay_5 rfl rfl ?_
  refine g_iload_n X dX0_setStay_6 rfl rfl ?_
  obtain ⟨ob1, eob1, hF⟩ := bnd hF
  rcases thr_some hF with ⟨q4, h2, e5, hF⟩ | ⟨v3, h2, e5, hF⟩
  · refine g_callV X eob1 rfl rfl (w_X1_setStay l hl D dA h0 ob1 a2 a3 a4 (.inl q4) h2 e5) q1220 q1221 q1222 q92 q1223 okn_X1_setStay ⟨by rw [hRf]; exact Nat.le_of_ble_eq_true rfl, by rw [hRl]; exact Nat.le_of_ble_eq_true rfl⟩ (As := [.int a2, .int a3, .int a4]) (rest := [.int (0 : Int32), va_rf a5]) rfl (by first | exact Nat.le_of_ble_eq_true rfl | simp [cat_rf, cat_i, cat_j, cat_f, cat_d]) dX0_setStay_7 (ac_x ?_)
    by_cases c7 : q4.2 = "java/lang/IllegalArgumentException"
    · have hF := (if_pos c7).symm.trans hF
      refine gx_catch X (name := "java/lang/IllegalArgumentException") [] ⟨0, 12, 15, 13⟩ [] rfl (fun z hz => nomatch hz) rfl (by decide) q1134 (by rw [c7]; exact nw_in q757 rfl) ?_
      refine G.drop [false, false, false, false, false, false] rfl ?_
      refine g_astore (L' := [none, none, none, none, none, some (va_rf (some q4.1))]) X dX0_setStay_15 (Nat.le_of_ble_eq_true rfl) (by first | rfl | simp [stL, rm1, clr2, cat_rf, cat_i, cat_j, cat_f, cat_d]) ?_
      refine g_iconst (v := (1 : Int32)) X dX0_setStay_17 (by decide) ?_
      cases hF
      exact g_iret X hr dX0_setStay_18
    · have hF := (if_neg c7).symm.trans hF
      cases hF
  · refine g_callV X eob1 rfl rfl (w_X1_setStay l hl D dA h0 ob1 a2 a3 a4 (.inr v3) h2 e5) q1220 q1221 q1222 q92 q1223 okn_X1_setStay ⟨by rw [hRf]; exact Nat.le_of_ble_eq_true rfl, by rw [hRl]; exact Nat.le_of_ble_eq_true rfl⟩ (As := [.int a2, .int a3, .int a4]) (rest := [.int (0 : Int32), va_rf a5]) rfl (by first | exact Nat.le_of_ble_eq_true rfl | simp [cat_rf, cat_i, cat_j, cat_f, cat_d]) dX0_setStay_7 (ac_v ?_)
    refine g_i2l X dX0_setStay_10 ?_
    obtain ⟨h6, eh6, hF⟩ := bnd hF
    refine g_last X eh6 dX0_setStay_11 ?_
    refine g_goto X 19 dX0_setStay_12 (by decide) ?_
    refine g_iconst (v := (0 : Int32)) X dX0_setStay_19 (by decide) ?_
    cases hF
    exact g_iret X hr dX0_setStay_20
def F_X0_addLine (a1 : Option Nat) (a2 : Int32) (a3 : Int32) (a4 : Option Nat) (h0 : HH) : Option (Int32 × HH) :=
  Option.bind (isO h0 0 a1) fun ob1 =>
  thr (F_X1_addLine ob1 a2 a3 h0) (fun q4 h2 =>
    if q4.2 = "java/lang/IllegalArgumentException" then (
      some ((1 : Int32), h2)
    ) else (
      if q4.2 = "java/lang/IllegalStateException" then (
        some ((2 : Int32), h2)
      ) else (
        none
      )
    )
  ) (fun v3 h2 =>
    Option.bind (astJ h2 a4 (0 : Int32) (v3.toInt64)) fun h6 =>
    some ((0 : Int32), h6)
  )
set_option maxHeartbeats 4000000 in
theorem w_X0_addLine (l : Launch) (hl : l.stackTraces = false) (D : va_G) (dA : Nat → ClassId) (h0 : HH) (a1 : Option Nat) (a2 : Int32) (a3 : Int32) (a4 : Option Nat) (rE : Int32) (hE : HH) (hF : F_X0_addLine a1 a2 a3 a4 h0 = some (rE, hE)) : MC D dA l yX0_addLine cX0_addLine 5 (Option.some Jvm.ClassFile.FieldType.int) [(0, 10, 13, 13), (0, 10, 17, 15)] 17 458 [va_rf a1, .int a2, .int a3, va_rf a4] h0 (.inr (some (.int rE)), hE) := by
  refine mc_of hl (plainFor_of_name pn_X0) (by simp [lg_sl, cat_rf, cat_i, cat_j, cat_f, cat_d]) ?_
  intro p e s m args below meth c R hRf hRl X hr hnm
  unfold F_X0_addLine at hF
  rw [show argL [va_rf a1, .int a2, .int a3, va_rf a4] = [some (va_rf a1), some (.int a2), some (.int a3), some (va_rf a4)] from by simp [argL, cat_rf, cat_i, cat_j, cat_f, cat_d]]
  refine G.pad 1 (L' := [some (va_rf a1), some (.int a2), some (.int a3), some (va_rf a4), none]) rfl ?_
  refine g_aload_n X dX0_addLine_0 rfl rfl ?_
  refine g_iconst (v := (0 : Int32)) X dX0_addLine_1 (by decide) ?_
  refine g_aload_n X dX0_addLine_2 rfl rfl ?_
  refine g_iload_n X dX0_addLine_3 rfl rfl ?_
  refine g_iload_n X dX0_addLine_4 rfl rfl ?_
  obtain ⟨ob1, eob1, hF⟩ := bnd hF
  rcases thr_some hF with ⟨q4, h2, e5, hF⟩ | ⟨v3, h2, e5, hF⟩
  · refine g_callV X eob1 rfl rfl (w_X1_addLine l hl D dA h0 ob1 a2 a3 (.inl q4) h2 e5) q1227 q1228 q1229 q92 q1230 okn_X1_addLine ⟨by rw [hRf]; exact Nat.le_of_ble_eq_true rfl, by rw [hRl]; exact Nat.le_of_ble_eq_true rfl⟩ (As := [.int a2, .int a3]) (rest := [.int (0 : Int32), va_rf a4]) rfl (by first | exact Nat.le_of_ble_eq_true rfl | simp [cat_rf, cat_i, cat_j, cat_f, cat_d]) dX0_addLine_5 (ac_x ?_)
    by_cases c7 : q4.2 = "java/lang/IllegalArgumentException"
    · have hF := (if_pos c7).symm.trans hF
      refine gx_catch X (name := "java/lang/IllegalArgumentException") [] ⟨0, 10, 13, 13⟩ [⟨0, 10, 17, 15⟩] rfl (fun z hz => nomatch hz) rfl (by decide) q1134 (by rw [c7]; exact nw_in q757 rfl) ?_
      refine G.drop [false, false, false, false, false] rfl ?_
      refine g_astore (L' := [none, none, none, none, some (va_rf (some q4.1))]) X dX0_addLine_13 (Nat.le_of_ble_eq_true rfl) (by first | rfl | simp [stL, rm1, clr2, cat_rf, cat_i, cat_j, cat_f, cat_d]) ?_
      refine g_iconst (v := (1 : Int32)) X dX0_addLine_15 (by decide) ?_
      cases hF
      exact g_iret X hr dX0_addLine_16
    · have hF := (if_neg c7).symm.trans hF
      by_cases c8 : q4.2 = "java/lang/IllegalStateException"
      · have hF := (if_pos c8).symm.trans hF
        refine gx_catch X (name := "java/lang/IllegalStateException") [⟨0, 10, 13, 13⟩] ⟨0, 10, 17, 15⟩ [] rfl (fun z hz => by rcases List.mem_singleton.mp hz with rfl; exact Or.inr ⟨by decide, "java/lang/IllegalArgumentException", q1134, by rw [c8]; exact FXnc X (by decide)⟩) rfl (by decide) q1135 (by rw [c8]; exact nw_in q694 rfl) ?_
        refine G.drop [false, false, false, false, false] rfl ?_
        refine g_astore (L' := [none, none, none, none, some (va_rf (some q4.1))]) X dX0_addLine_17 (Nat.le_of_ble_eq_true rfl) (by first | rfl | simp [stL, rm1, clr2, cat_rf, cat_i, cat_j, cat_f, cat_d]) ?_
        refine g_iconst (v := (2 : Int32)) X dX0_addLine_19 (by decide) ?_
        cases hF
        exact g_iret X hr dX0_addLine_20
      · have hF := (if_neg c8).symm.trans hF
        cases hF
  · refine g_callV X eob1 rfl rfl (w_X1_addLine l hl D dA h0 ob1 a2 a3 (.inr v3) h2 e5) q1227 q1228 q1229 q92 q1230 okn_X1_addLine ⟨by rw [hRf]; exact Nat.le_of_ble_eq_true rfl, by rw [hRl]; exact Nat.le_of_ble_eq_true rfl⟩ (As := [.int a2, .int a3]) (rest := [.int (0 : Int32), va_rf a4]) rfl (by first | exact Nat.le_of_ble_eq_true rfl | simp [cat_rf, cat_i, cat_j, cat_f, cat_d]) dX0_addLine_5 (ac_v ?_)
    refine g_i2l X dX0_addLine_8 ?_
    obtain ⟨h6, eh6, hF⟩ := bnd hF
    refine g_last X eh6 dX0_addLine_9 ?_
    refine g_goto X 21 dX0_addLine_10 (by decide) ?_
    refine g_iconst (v := (0 : Int32)) X dX0_addLine_21 (by decide) ?_
    cases hF
    exact g_iret X hr dX0_addLine_22
def F_X0_setNeed (a1 : Option Nat) (a2 : Int32) (a3 : Int32) (a4 : Int32) (a5 : Int32) (a6 : Option Nat) (h0 : HH) : Option (Int32 × HH) :=
  Option.bind (isO h0 0 a1) fun ob1 =>
  thr (F_X1_setNeed ob1 a2 a3 a4 a5 h0) (fun q4 h2 =>
    if q4.2 = "java/lang/IllegalArgumentException" then (
      some ((1 : Int32), h2)
    ) else (
      none
    )
  ) (fun v3 h2 =>
    Option.bind (astJ h2 a6 (0 : Int32) (v3.toInt64)) fun h6 =>
    some ((0 : Int32), h6)
  )
set_option maxHeartbeats 4000000 in
theorem w_X0_setNeed (l : Launch) (hl : l.stackTraces = false) (D : va_G) (dA : Nat → ClassId) (h0 : HH) (a1 : Option Nat) (a2 : Int32) (a3 : Int32) (a4 : Int32) (a5 : Int32) (a6 : Option Nat) (rE : Int32) (hE : HH) (hF : F_X0_setNeed a1 a2 a3 a4 a5 a6 h0 = some (rE, hE)) : MC D dA l yX0_setNeed cX0_setNeed 7 (Option.some Jvm.ClassFile.FieldType.int) [(0, 14, 17, 13)] 17 460 [va_rf a1, .int a2, .int a3, .int a4, .int a5, va_rf a6] h0 (.inr (some (.int rE)), hE) := by
  refine mc_of hl (plainFor_of_name pn_X0) (by simp [lg_sl, cat_rf, cat_i, cat_j, cat_f, cat_d]) ?_
  intro p e s m args below meth c R hRf hRl X hr hnm
  unfold F_X0_setNeed at hF
  rw [show argL [va_rf a1, .int a2, .int a3, .int a4, .int a5, va_rf a6] = [some (va_rf a1), some (.int a2), some (.int a3), some (.int a4), some (.int a5), some (va_rf a6)] from by simp [argL, cat_rf, cat_i, cat_j, cat_f, cat_d]]
  refine G.pad 1 (L' := [some (va_rf a1), some (.int a2), some (.int a3), some (.int a4), some (.int a5), some (va_rf a6), none]) rfl ?_
  refine g_aload X dX0_setNeed_0 rfl ?_
  refine g_iconst (v := (0 : Int32)) X dX0_setNeed_2 (by decide) ?_
  refine g_aload_n X dX0_setNeed_3 rfl rfl ?_
  refine g_iload_n X dX0_setNeed_4 rfl rfl ?_
  refine g_iload_n X dX0_setNeed_5 rfl rfl ?_
  refine g_iload_n X dX0_setNeed_6 rfl rfl ?_
  refine g_iload X dX0_setNeed_7 rfl ?_
  obtain ⟨ob1, eob1, hF⟩ := bnd hF
  rcases thr_some hF with ⟨q4, h2, e5, hF⟩ | ⟨v3, h2, e5, hF⟩
  · refine g_callV X eob1 rfl rfl (w_X1_setNeed l hl D dA h0 ob1 a2 a3 a4 a5 (.inl q4) h2 e5) q1234 q1235 q1236 q92 q1237 okn_X1_setNeed ⟨by rw [hRf]; exact Nat.le_of_ble_eq_true rfl, by rw [hRl]; exact Nat.le_of_ble_eq_true rfl⟩ (As := [.int a2, .int a3, .int a4, .int a5]) (rest := [.int (0 : Int32), va_rf a6]) rfl (by first | exact Nat.le_of_ble_eq_true rfl | simp [cat_rf, cat_i, cat_j, cat_f, cat_d]) dX0_setNeed_9 (ac_x ?_)
    by_cases c7 : q4.2 = "java/lang/IllegalArgumentException"
    · have hF := (if_pos c7).symm.trans hF
      refine gx_catch X (name := "java/lang/IllegalArgumentException") [] ⟨0, 14, 17, 13⟩ [] rfl (fun z hz => nomatch hz) rfl (by decide) q1134 (by rw [c7]; exact nw_in q757 rfl) ?_
      refine G.drop [false, false, false, false, false, false, false] rfl ?_
      refine g_astore (L' := [none, none, none, none, none, none, some (va_rf (some q4.1))]) X dX0_setNeed_17 (Nat.le_of_ble_eq_true rfl) (by first | rfl | simp [stL, rm1, clr2, cat_rf, cat_i, cat_j, cat_f, cat_d]) ?_
      refine g_iconst (v := (1 : Int32)) X dX0_setNeed_19 (by decide) ?_
      cases hF
      exact g_iret X hr dX0_setNeed_20
    · have hF := (if_neg c7).symm.trans hF
      cases hF
  · refine g_callV X eob1 rfl rfl (w_X1_setNeed l hl D dA h0 ob1 a2 a3 a4 a5 (.inr v3) h2 e5) q1234 q1235 q1236 q92 q1237 okn_X1_setNeed ⟨by rw [hRf]; exact Nat.le_of_ble_eq_true rfl, by rw [hRl]; exact Nat.le_of_ble_eq_true rfl⟩ (As := [.int a2, .int a3, .int a4, .int a5]) (rest := [.int (0 : Int32), va_rf a6]) rfl (by first | exact Nat.le_of_ble_eq_true rfl | simp [cat_rf, cat_i, cat_j, cat_f, cat_d]) dX0_setNeed_9 (ac_v ?_)
    refine g_i2l X dX0_setNeed_12 ?_
    obtain ⟨h6, eh6, hF⟩ := bnd hF
    refine g_last X eh6 dX0_setNeed_13 ?_
    refine g_goto X 21 dX0_setNeed_14 (by decide) ?_
    refine g_iconst (v := (0 : Int32)) X dX0_setNeed_21 (by decide) ?_
    cases hF
    exact g_iret X hr dX0_setNeed_22
def F_X0_turnReset (a1 : Option Nat) (a2 : Int32) (a3 : Int32) (a4 : Option Nat) (h0 : HH) : Option (Int32 × HH) :=
  Option.bind (isO h0 0 a1) fun ob1 =>
  thr (F_X1_turnReset ob1 a2 a3 h0) (fun q4 h2 =>
    if q4.2 = "java/lang/IllegalArgumentException" then (
      some ((1 : Int32), h2)
    ) else (
      none
    )
  ) (fun v3 h2 =>
    Option.bind (astJ h2 a4 (0 : Int32) (if v3 = 0 then (0 : Int64) else (1 : Int64))) fun h7 =>
    some ((0 : Int32), h7)
  )
set_option maxHeartbeats 4000000 in
theorem w_X0_turnReset (l : Launch) (hl : l.stackTraces = false) (D : va_G) (dA : Nat → ClassId) (h0 : HH) (a1 : Option Nat) (a2 : Int32) (a3 : Int32) (a4 : Option Nat) (rE : Int32) (hE : HH) (hF : F_X0_turnReset a1 a2 a3 a4 h0 = some (rE, hE)) : MC D dA l yX0_turnReset cX0_turnReset 5 (Option.some Jvm.ClassFile.FieldType.int) [(0, 17, 20, 13)] 17 458 [va_rf a1, .int a2, .int a3, va_rf a4] h0 (.inr (some (.int rE)), hE) := by
  refine mc_of hl (plainFor_of_name pn_X0) (by simp [lg_sl, cat_rf, cat_i, cat_j, cat_f, cat_d]) ?_
  intro p e s m args below meth c R hRf hRl X hr hnm
  unfold F_X0_turnReset at hF
  rw [show argL [va_rf a1, .int a2, .int a3, va_rf a4] = [some (va_rf a1), some (.int a2), some (.int a3), some (va_rf a4)] from by simp [argL, cat_rf, cat_i, cat_j, cat_f, cat_d]]
  refine G.pad 1 (L' := [some (va_rf a1), some (.int a2), some (.int a3), some (va_rf a4), none]) rfl ?_
  refine g_aload_n X dX0_turnReset_0 rfl rfl ?_
  refine g_iconst (v := (0 : Int32)) X dX0_turnReset_1 (by decide) ?_
  refine g_aload_n X dX0_turnReset_2 rfl rfl ?_
  refine g_iload_n X dX0_turnReset_3 rfl rfl ?_
  refine g_iload_n X dX0_turnReset_4 rfl rfl ?_
  obtain ⟨ob1, eob1, hF⟩ := bnd hF
  rcases thr_some hF with ⟨q4, h2, e5, hF⟩ | ⟨v3, h2, e5, hF⟩
  · refine g_callV X eob1 rfl rfl (w_X1_turnReset l hl D dA h0 ob1 a2 a3 (.inl q4) h2 e5) q1241 q1242 q1243 q92 q1244 okn_X1_turnReset ⟨by rw [hRf]; exact Nat.le_of_ble_eq_true rfl, by rw [hRl]; exact Nat.le_of_ble_eq_true rfl⟩ (As := [.int a2, .int a3]) (rest := [.int (0 : Int32), va_rf a4]) rfl (by first | exact Nat.le_of_ble_eq_true rfl | simp [cat_rf, cat_i, cat_j, cat_f, cat_d]) dX0_turnReset_5 (ac_x ?_)
    by_cases c8 : q4.2 = "java/lang/IllegalArgumentException"
    · have hF := (if_pos c8).symm.trans hF
      refine gx_catch X (name := "java/lang/IllegalArgumentException") [] ⟨0, 17, 20, 13⟩ [] rfl (fun z hz => nomatch hz) rfl (by decide) q1134 (by rw [c8]; exact nw_in q757 rfl) ?_
      refine G.drop [false, false, false, false, false] rfl ?_
      refine g_astore (L' := [none, none, none, none, some (va_rf (some q4.1))]) X dX0_turnReset_20 (Nat.le_of_ble_eq_true rfl) (by first | rfl | simp [stL, rm1, clr2, cat_rf, cat_i, cat_j, cat_f, cat_d]) ?_
      refine g_iconst (v := (1 : Int32)) X dX0_turnReset_22 (by decide) ?_
      cases hF
      exact g_iret X hr dX0_turnReset_23
    · have hF := (if_neg c8).symm.trans hF
      cases hF
  · refine g_callV X eob1 rfl rfl (w_X1_turnReset l hl D dA h0 ob1 a2 a3 (.inr v3) h2 e5) q1241 q1242 q1243 q92 q1244 okn_X1_turnReset ⟨by rw [hRf]; exact Nat.le_of_ble_eq_true rfl, by rw [hRl]; exact Nat.le_of_ble_eq_true rfl⟩ (As := [.int a2, .int a3]) (rest := [.int (0 : Int32), va_rf a4]) rfl (by first | exact Nat.le_of_ble_eq_true rfl | simp [cat_rf, cat_i, cat_j, cat_f, cat_d]) dX0_turnReset_5 (ac_v ?_)
    suffices K : G p l e R s m args below meth c (RQ D dA h0 (.inr (some (.int rE)), hE) below s) D dA h0 5 h2 16 [none, none, none, none, none] [.long (if v3 = 0 then (0 : Int64) else (1 : Int64)), .int (0 : Int32), va_rf a4] by
      refine g_if_eq X 15 dX0_turnReset_8 (by decide) (fun c6 => ?_) (fun c6 => ?_)
      · (try simp only [if_pos c6] at K)
        refine g_lconst (v := (0 : Int64)) X dX0_turnReset_15 (by decide) ?_
        refine G.drop [false, false, false, false, false] rfl ?_
        first | exact K | (simp only [if_pos c6]; exact K)
      · (try simp only [if_neg c6] at K)
        refine g_lconst (v := (1 : Int64)) X dX0_turnReset_11 (by decide) ?_
        refine g_goto X 16 dX0_turnReset_12 (by decide) ?_
        refine G.drop [false, false, false, false, false] rfl ?_
        first | exact K | (simp only [if_neg c6]; exact K)
    obtain ⟨h7, eh7, hF⟩ := bnd hF
    refine g_last X eh7 dX0_turnReset_16 ?_
    refine g_goto X 24 dX0_turnReset_17 (by decide) ?_
    refine g_iconst (v := (0 : Int32)) X dX0_turnReset_24 (by decide) ?_
    cases hF
    exact g_iret X hr dX0_turnReset_25
def F_X0_told (a1 : Option Nat) (a2 : Int32) (a3 : Int32) (a4 : Option Nat) (h0 : HH) : Option (Int32 × HH) :=
  Option.bind (isO h0 0 a1) fun ob1 =>
  thr (F_X1_told ob1 a2 a3 h0) (fun q4 h2 =>
    if q4.2 = "java/lang/IllegalArgumentException" then (
      some ((1 : Int32), h2)
    ) else (
      if q4.2 = "java/util/NoSuchElementException" then (
        some ((2 : Int32), h2)
      ) else (
        none
      )
    )
  ) (fun v3 h2 =>
    Option.bind (astJ h2 a4 (0 : Int32) (v3.toInt64)) fun h6 =>
    some ((0 : Int32), h6)
  )
set_option maxHeartbeats 4000000 in
theorem w_X0_told (l : Launch) (hl : l.stackTraces = false) (D : va_G) (dA : Nat → ClassId) (h0 : HH) (a1 : Option Nat) (a2 : Int32) (a3 : Int32) (a4 : Option Nat) (rE : Int32) (hE : HH) (hF : F_X0_told a1 a2 a3 a4 h0 = some (rE, hE)) : MC D dA l yX0_told cX0_told 5 (Option.some Jvm.ClassFile.FieldType.int) [(0, 10, 13, 13), (0, 10, 17, 72)] 11 262 [va_rf a1, .int a2, .int a3, va_rf a4] h0 (.inr (some (.int rE)), hE) := by
  refine mc_of hl (plainFor_of_name pn_X0) (by simp [lg_sl, cat_rf, cat_i, cat_j, cat_f, cat_d]) ?_
  intro p e s m args below meth c R hRf hRl X hr hnm
  unfold F_X0_told at hF
  rw [show argL [va_rf a1, .int a2, .int a3, va_rf a4] = [some (va_rf a1), some (.int a2), some (.int a3), some (va_rf a4)] from by simp [argL, cat_rf, cat_i, cat_j, cat_f, cat_d]]
  refine G.pad 1 (L' := [some (va_rf a1), some (.int a2), some (.int a3), some (va_rf a4), none]) rfl ?_
  refine g_aload_n X dX0_told_0 rfl rfl ?_
  refine g_iconst (v := (0 : Int32)) X dX0_told_1 (by decide) ?_
  refine g_aload_n X dX0_told_2 rfl rfl ?_
  refine g_iload_n X dX0_told_3 rfl rfl ?_
  refine g_iload_n X dX0_told_4 rfl rfl ?_
  obtain ⟨ob1, eob1, hF⟩ := bnd hF
  rcases thr_some hF with ⟨q4, h2, e5, hF⟩ | ⟨v3, h2, e5, hF⟩
  · refine g_callV X eob1 rfl rfl (w_X1_told l hl D dA h0 ob1 a2 a3 (.inl q4) h2 e5) q1249 q1250 q1251 q92 q1252 okn_X1_told ⟨by rw [hRf]; exact Nat.le_of_ble_eq_true rfl, by rw [hRl]; exact Nat.le_of_ble_eq_true rfl⟩ (As := [.int a2, .int a3]) (rest := [.int (0 : Int32), va_rf a4]) rfl (by first | exact Nat.le_of_ble_eq_true rfl | simp [cat_rf, cat_i, cat_j, cat_f, cat_d]) dX0_told_5 (ac_x ?_)
    by_cases c7 : q4.2 = "java/lang/IllegalArgumentException"
    · have hF := (if_pos c7).symm.trans hF
      refine gx_catch X (name := "java/lang/IllegalArgumentException") [] ⟨0, 10, 13, 13⟩ [⟨0, 10, 17, 72⟩] rfl (fun z hz => nomatch hz) rfl (by decide) q1134 (by rw [c7]; exact nw_in q757 rfl) ?_
      refine G.drop [false, false, false, false, false] rfl ?_
      refine g_astore (L' := [none, none, none, none, some (va_rf (some q4.1))]) X dX0_told_13 (Nat.le_of_ble_eq_true rfl) (by first | rfl | simp [stL, rm1, clr2, cat_rf, cat_i, cat_j, cat_f, cat_d]) ?_
      refine g_iconst (v := (1 : Int32)) X dX0_told_15 (by decide) ?_
      cases hF
      exact g_iret X hr dX0_told_16
    · have hF := (if_neg c7).symm.trans hF
      by_cases c8 : q4.2 = "java/util/NoSuchElementException"
      · have hF := (if_pos c8).symm.trans hF
        refine gx_catch X (name := "java/util/NoSuchElementException") [⟨0, 10, 13, 13⟩] ⟨0, 10, 17, 72⟩ [] rfl (fun z hz => by rcases List.mem_singleton.mp hz with rfl; exact Or.inr ⟨by decide, "java/lang/IllegalArgumentException", q1134, by rw [c8]; exact FXnc X (by decide)⟩) rfl (by decide) q1248 (by rw [c8]; exact nw_in q736 rfl) ?_
        refine G.drop [false, false, false, false, false] rfl ?_
        refine g_astore (L' := [none, none, none, none, some (va_rf (some q4.1))]) X dX0_told_17 (Nat.le_of_ble_eq_true rfl) (by first | rfl | simp [stL, rm1, clr2, cat_rf, cat_i, cat_j, cat_f, cat_d]) ?_
        refine g_iconst (v := (2 : Int32)) X dX0_told_19 (by decide) ?_
        cases hF
        exact g_iret X hr dX0_told_20
      · have hF := (if_neg c8).symm.trans hF
        cases hF
  · refine g_callV X eob1 rfl rfl (w_X1_told l hl D dA h0 ob1 a2 a3 (.inr v3) h2 e5) q1249 q1250 q1251 q92 q1252 okn_X1_told ⟨by rw [hRf]; exact Nat.le_of_ble_eq_true rfl, by rw [hRl]; exact Nat.le_of_ble_eq_true rfl⟩ (As := [.int a2, .int a3]) (rest := [.int (0 : Int32), va_rf a4]) rfl (by first | exact Nat.le_of_ble_eq_true rfl | simp [cat_rf, cat_i, cat_j, cat_f, cat_d]) dX0_told_5 (ac_v ?_)
    refine g_i2l X dX0_told_8 ?_
    obtain ⟨h6, eh6, hF⟩ := bnd hF
    refine g_last X eh6 dX0_told_9 ?_
    refine g_goto X 21 dX0_told_10 (by decide) ?_
    refine g_iconst (v := (0 : Int32)) X dX0_told_21 (by decide) ?_
    cases hF
    exact g_iret X hr dX0_told_22
def F_X0_tightened (a1 : Option Nat) (a2 : Int32) (a3 : Int32) (a4 : Option Nat) (h0 : HH) : Option (Int32 × HH) :=
  Option.bind (isO h0 0 a1) fun ob1 =>
  thr (F_X1_tightened ob1 a2 a3 h0) (fun q4 h2 =>
    if q4.2 = "java/lang/IllegalArgumentException" then (
      some ((1 : Int32), h2)
    ) else (
      if q4.2 = "java/util/NoSuchElementException" then (
        some ((2 : Int32), h2)
      ) else (
        none
      )
    )
  ) (fun v3 h2 =>
    Option.bind (astJ h2 a4 (0 : Int32) (v3.toInt64)) fun h6 =>
    some ((0 : Int32), h6)
  )
set_option maxHeartbeats 4000000 in
theorem w_X0_tightened (l : Launch) (hl : l.stackTraces = false) (D : va_G) (dA : Nat → ClassId) (h0 : HH) (a1 : Option Nat) (a2 : Int32) (a3 : Int32) (a4 : Option Nat) (rE : Int32) (hE : HH) (hF : F_X0_tightened a1 a2 a3 a4 h0 = some (rE, hE)) : MC D dA l yX0_tightened cX0_tightened 5 (Option.some Jvm.ClassFile.FieldType.int) [(0, 10, 13, 13), (0, 10, 17, 72)] 11 263 [va_rf a1, .int a2, .int a3, va_rf a4] h0 (.inr (some (.int rE)), hE) := by
  refine mc_of hl (plainFor_of_name pn_X0) (by simp [lg_sl, cat_rf, cat_i, cat_j, cat_f, cat_d]) ?_
  intro p e s m args below meth c R hRf hRl X hr hnm
  unfold F_X0_tightened at hF
  rw [show argL [va_rf a1, .int a2, .int a3, va_rf a4] = [some (va_rf a1), some (.int a2), some (.int a3), some (va_rf a4)] from by simp [argL, cat_rf, cat_i, cat_j, cat_f, cat_d]]
  refine G.pad 1 (L' := [some (va_rf a1), some (.int a2), some (.int a3), some (va_rf a4), none]) rfl ?_
  refine g_aload_n X dX0_tightened_0 rfl rfl ?_
  refine g_iconst (v := (0 : Int32)) X dX0_tightened_1 (by decide) ?_
  refine g_aload_n X dX0_tightened_2 rfl rfl ?_
  refine g_iload_n X dX0_tightened_3 rfl rfl ?_
  refine g_iload_n X dX0_tightened_4 rfl rfl ?_
  obtain ⟨ob1, eob1, hF⟩ := bnd hF
  rcases thr_some hF with ⟨q4, h2, e5, hF⟩ | ⟨v3, h2, e5, hF⟩
  · refine g_callV X eob1 rfl rfl (w_X1_tightened l hl D dA h0 ob1 a2 a3 (.inl q4) h2 e5) q1273 q1274 q1275 q92 q1276 okn_X1_tightened ⟨by rw [hRf]; exact Nat.le_of_ble_eq_true rfl, by rw [hRl]; exact Nat.le_of_ble_eq_true rfl⟩ (As := [.int a2, .int a3]) (rest := [.int (0 : Int32), va_rf a4]) rfl (by first | exact Nat.le_of_ble_eq_true rfl | simp [cat_rf, cat_i, cat_j, cat_f, cat_d]) dX0_tightened_5 (ac_x ?_)
    by_cases c7 : q4.2 = "java/lang/IllegalArgumentException"
    · have hF := (if_pos c7).symm.trans hF
      refine gx_catch X (name := "java/lang/IllegalArgumentException") [] ⟨0, 10, 13, 13⟩ [⟨0, 10, 17, 72⟩] rfl (fun z hz => nomatch hz) rfl (by decide) q1134 (by rw [c7]; exact nw_in q757 rfl) ?_
      refine G.drop [false, false, false, false, false] rfl ?_
      refine g_astore (L' := [none, none, none, none, some (va_rf (some q4.1))]) X dX0_tightened_13 (Nat.le_of_ble_eq_true rfl) (by first | rfl | simp [stL, rm1, clr2, cat_rf, cat_i, cat_j, cat_f, cat_d]) ?_
      refine g_iconst (v := (1 : Int32)) X dX0_tightened_15 (by decide) ?_
      cases hF
      exact g_iret X hr dX0_tightened_16
    · have hF := (if_neg c7).symm.trans hF
      by_cases c8 : q4.2 = "java/util/NoSuchElementException"
      · have hF := (if_pos c8).symm.trans hF
        refine gx_catch X (name := "java/util/NoSuchElementException") [⟨0, 10, 13, 13⟩] ⟨0, 10, 17, 72⟩ [] rfl (fun z hz => by rcases List.mem_singleton.mp hz with rfl; exact Or.inr ⟨by decide, "java/lang/IllegalArgumentException", q1134, by rw [c8]; exact FXnc X (by decide)⟩) rfl (by decide) q1248 (by rw [c8]; exact nw_in q736 rfl) ?_
        refine G.drop [false, false, false, false, false] rfl ?_
        refine g_astore (L' := [none, none, none, none, some (va_rf (some q4.1))]) X dX0_tightened_17 (Nat.le_of_ble_eq_true rfl) (by first | rfl | simp [stL, rm1, clr2, cat_rf, cat_i, cat_j, cat_f, cat_d]) ?_
        refine g_iconst (v := (2 : Int32)) X dX0_tightened_19 (by decide) ?_
        cases hF
        exact g_iret X hr dX0_tightened_20
      · have hF := (if_neg c8).symm.trans hF
        cases hF
  · refine g_callV X eob1 rfl rfl (w_X1_tightened l hl D dA h0 ob1 a2 a3 (.inr v3) h2 e5) q1273 q1274 q1275 q92 q1276 okn_X1_tightened ⟨by rw [hRf]; exact Nat.le_of_ble_eq_true rfl, by rw [hRl]; exact Nat.le_of_ble_eq_true rfl⟩ (As := [.int a2, .int a3]) (rest := [.int (0 : Int32), va_rf a4]) rfl (by first | exact Nat.le_of_ble_eq_true rfl | simp [cat_rf, cat_i, cat_j, cat_f, cat_d]) dX0_tightened_5 (ac_v ?_)
    refine g_i2l X dX0_tightened_8 ?_
    obtain ⟨h6, eh6, hF⟩ := bnd hF
    refine g_last X eh6 dX0_tightened_9 ?_
    refine g_goto X 21 dX0_tightened_10 (by decide) ?_
    refine g_iconst (v := (0 : Int32)) X dX0_tightened_21 (by decide) ?_
    cases hF
    exact g_iret X hr dX0_tightened_22
def F_X0_hasMoment (a1 : Option Nat) (a2 : Int32) (a3 : Int32) (a4 : Int32) (a5 : Option Nat) (h0 : HH) : Option (Int32 × HH) :=
  Option.bind (isO h0 0 a1) fun ob1 =>
  thr (F_X1_hasMoment ob1 a2 a3 a4 h0) (fun q4 h2 =>
    if q4.2 = "java/lang/IllegalArgumentException" then (
      some ((1 : Int32), h2)
    ) else (
      none
    )
  ) (fun v3 h2 =>
    Option.bind (astJ h2 a5 (0 : Int32) (if v3 = 0 then (0 : Int64) else (1 : Int64))) fun h7 =>
    some ((0 : Int32), h7)
  )
set_option maxHeartbeats 4000000 in
theorem w_X0_hasMoment (l : Launch) (hl : l.stackTraces = false) (D : va_G) (dA : Nat → ClassId) (h0 : HH) (a1 : Option Nat) (a2 : Int32) (a3 : Int32) (a4 : Int32) (a5 : Option Nat) (rE : Int32) (hE : HH) (hF : F_X0_hasMoment a1 a2 a3 a4 a5 h0 = some (rE, hE)) : MC D dA l yX0_hasMoment cX0_hasMoment 6 (Option.some Jvm.ClassFile.FieldType.int) [(0, 19, 22, 13)] 10 243 [va_rf a1, .int a2, .int a3, .int a4, va_rf a5] h0 (.inr (some (.int rE)), hE) := by
  refine mc_of hl (plainFor_of_name pn_X0) (by simp [lg_sl, cat_rf, cat_i, cat_j, cat_f, cat_d]) ?_
  intro p e s m args below meth c R hRf hRl X hr hnm
  unfold F_X0_hasMoment at hF
  rw [show argL [va_rf a1, .int a2, .int a3, .int a4, va_rf a5] = [some (va_rf a1), some (.int a2), some (.int a3), some (.int a4), some (va_rf a5)] from by simp [argL, cat_rf, cat_i, cat_j, cat_f, cat_d]]
  refine G.pad 1 (L' := [some (va_rf a1), some (.int a2), some (.int a3), some (.int a4), some (va_rf a5), none]) rfl ?_
  refine g_aload X dX0_hasMoment_0 rfl ?_
  refine g_iconst (v := (0 : Int32)) X dX0_hasMoment_2 (by decide) ?_
  refine g_aload_n X dX0_hasMoment_3 rfl rfl ?_
  refine g_iload_n X dX0_hasMoment_4 rfl rfl ?_
  refine g_iload_n X dX0_hasMoment_5 rfl rfl ?_
  refine g_iload_n X dX0_hasMoment_6 rfl rfl ?_
  obtain ⟨ob1, eob1, hF⟩ := bnd hF
  rcases thr_some hF with ⟨q4, h2, e5, hF⟩ | ⟨v3, h2, e5, hF⟩
  · refine g_callV X eob1 rfl rfl (w_X1_hasMoment l hl D dA h0 ob1 a2 a3 a4 (.inl q4) h2 e5) q1284 q1285 q1286 q92 q1287 okn_X1_hasMoment ⟨by rw [hRf]; exact Nat.le_of_ble_eq_true rfl, by rw [hRl]; exact Nat.le_of_ble_eq_true rfl⟩ (As := [.int a2, .int a3, .int a4]) (rest := [.int (0 : Int32), va_rf a5]) rfl (by first | exact Nat.le_of_ble_eq_true rfl | simp [cat_rf, cat_i, cat_j, cat_f, cat_d]) dX0_hasMoment_7 (ac_x ?_)
    by_cases c8 : q4.2 = "java/lang/IllegalArgumentException"
    · have hF := (if_pos c8).symm.trans hF
      refine gx_catch X (name := "java/lang/IllegalArgumentException") [] ⟨0, 19, 22, 13⟩ [] rfl (fun z hz => nomatch hz) rfl (by decide) q1134 (by rw [c8]; exact nw_in q757 rfl) ?_
      refine G.drop [false, false, false, false, false, false] rfl ?_
      refine g_astore (L' := [none, none, none, none, none, some (va_rf (some q4.1))]) X dX0_hasMoment_22 (Nat.le_of_ble_eq_true rfl) (by first | rfl | simp [stL, rm1, clr2, cat_rf, cat_i, cat_j, cat_f, cat_d]) ?_
      refine g_iconst (v := (1 : Int32)) X dX0_hasMoment_24 (by decide) ?_
      cases hF
      exact g_iret X hr dX0_hasMoment_25
    · have hF := (if_neg c8).symm.trans hF
      cases hF
  · refine g_callV X eob1 rfl rfl (w_X1_hasMoment l hl D dA h0 ob1 a2 a3 a4 (.inr v3) h2 e5) q1284 q1285 q1286 q92 q1287 okn_X1_hasMoment ⟨by rw [hRf]; exact Nat.le_of_ble_eq_true rfl, by rw [hRl]; exact Nat.le_of_ble_eq_true rfl⟩ (As := [.int a2, .int a3, .int a4]) (rest := [.int (0 : Int32), va_rf a5]) rfl (by first | exact Nat.le_of_ble_eq_true rfl | simp [cat_rf, cat_i, cat_j, cat_f, cat_d]) dX0_hasMoment_7 (ac_v ?_)
    suffices K : G p l e R s m args below meth c (RQ D dA h0 (.inr (some (.int rE)), hE) below s) D dA h0 6 h2 18 [none, none, none, none, none, none] [.long (if v3 = 0 then (0 : Int64) else (1 : Int64)), .int (0 : Int32), va_rf a5] by
      refine g_if_eq X 17 dX0_hasMoment_10 (by decide) (fun c6 => ?_) (fun c6 => ?_)
      · (try simp only [if_pos c6] at K)
        refine g_lconst (v := (0 : Int64)) X dX0_hasMoment_17 (by decide) ?_
        refine G.drop [false, false, false, false, false, false] rfl ?_
        first | exact K | (simp only [if_pos c6]; exact K)
      · (try simp only [if_neg c6] at K)
        refine g_lconst (v := (1 : Int64)) X dX0_hasMoment_13 (by decide) ?_
        refine g_goto X 18 dX0_hasMoment_14 (by decide) ?_
        refine G.drop [false, false, false, false, false, false] rfl ?_
        first | exact K | (simp only [if_neg c6]; exact K)
    obtain ⟨h7, eh7, hF⟩ := bnd hF
    refine g_last X eh7 dX0_hasMoment_18 ?_
    refine g_goto X 26 dX0_hasMoment_19 (by decide) ?_
    refine g_iconst (v := (0 : Int32)) X dX0_hasMoment_26 (by decide) ?_
    cases hF
    exact g_iret X hr dX0_hasMoment_27
def F_X0_leastOf (a1 : Option Nat) (a2 : Int32) (a3 : Option Nat) (h0 : HH) : Option (Int32 × HH) :=
  Option.bind (isO h0 0 a1) fun ob1 =>
  thr (F_X1_leastOf ob1 a2 h0) (fun q4 h2 =>
    if q4.2 = "java/lang/IllegalArgumentException" then (
      some ((1 : Int32), h2)
    ) else (
      if q4.2 = "java/util/NoSuchElementException" then (
        some ((2 : Int32), h2)
      ) else (
        none
      )
    )
  ) (fun v3 h2 =>
    Option.bind (astJ h2 a3 (0 : Int32) (v3.toInt64)) fun h6 =>
    some ((0 : Int32), h6)
  )
set_option maxHeartbeats 4000000 in
theorem w_X0_leastOf (l : Launch) (hl : l.stackTraces = false) (D : va_G) (dA : Nat → ClassId) (h0 : HH) (a1 : Option Nat) (a2 : Int32) (a3 : Option Nat) (rE : Int32) (hE : HH) (hF : F_X0_leastOf a1 a2 a3 h0 = some (rE, hE)) : MC D dA l yX0_leastOf cX0_leastOf 4 (Option.some Jvm.ClassFile.FieldType.int) [(0, 9, 12, 13), (0, 9, 15, 72)] 11 262 [va_rf a1, .int a2, va_rf a3] h0 (.inr (some (.int rE)), hE) := by
  refine mc_of hl (plainFor_of_name pn_X0) (by simp [lg_sl, cat_rf, cat_i, cat_j, cat_f, cat_d]) ?_
  intro p e s m args below meth c R hRf hRl X hr hnm
  unfold F_X0_leastOf at hF
  rw [show argL [va_rf a1, .int a2, va_rf a3] = [some (va_rf a1), some (.int a2), some (va_rf a3)] from by simp [argL, cat_rf, cat_i, cat_j, cat_f, cat_d]]
  refine G.pad 1 (L' := [some (va_rf a1), some (.int a2), some (va_rf a3), none]) rfl ?_
  refine g_aload_n X dX0_leastOf_0 rfl rfl ?_
  refine g_iconst (v := (0 : Int32)) X dX0_leastOf_1 (by decide) ?_
  refine g_aload_n X dX0_leastOf_2 rfl rfl ?_
  refine g_iload_n X dX0_leastOf_3 rfl rfl ?_
  obtain ⟨ob1, eob1, hF⟩ := bnd hF
  rcases thr_some hF with ⟨q4, h2, e5, hF⟩ | ⟨v3, h2, e5, hF⟩
  · refine g_callV X eob1 rfl rfl (w_X1_leastOf l hl D dA h0 ob1 a2 (.inl q4) h2 e5) q1296 q1297 q1298 q92 q1299 okn_X1_leastOf ⟨by rw [hRf]; exact Nat.le_of_ble_eq_true rfl, by rw [hRl]; exact Nat.le_of_ble_eq_true rfl⟩ (As := [.int a2]) (rest := [.int (0 : Int32), va_rf a3]) rfl (by first | exact Nat.le_of_ble_eq_true rfl | simp [cat_rf, cat_i, cat_j, cat_f, cat_d]) dX0_leastOf_4 (ac_x ?_)
    by_cases c7 : q4.2 = "java/lang/IllegalArgumentException"
    · have hF := (if_pos c7).symm.trans hF
      refine gx_catch X (name := "java/lang/IllegalArgumentException") [] ⟨0, 9, 12, 13⟩ [⟨0, 9, 15, 72⟩] rfl (fun z hz => nomatch hz) rfl (by decide) q1134 (by rw [c7]; exact nw_in q757 rfl) ?_
      refine G.drop [false, false, false, false] rfl ?_
      refine g_astore_n (L' := [none, none, none, some (va_rf (some q4.1))]) X dX0_leastOf_12 rfl (Nat.le_of_ble_eq_true rfl) (by first | rfl | simp [stL, rm1, clr2, cat_rf, cat_i, cat_j, cat_f, cat_d]) ?_
      refine g_iconst (v := (1 : Int32)) X dX0_leastOf_13 (by decide) ?_
      cases hF
      exact g_iret X hr dX0_leastOf_14
    · have hF := (if_neg c7).symm.trans hF
      by_cases c8 : q4.2 = "java/util/NoSuchElementException"
      · have hF := (if_pos c8).symm.trans hF
        refine gx_catch X (name := "java/util/NoSuchElementException") [⟨0, 9, 12, 13⟩] ⟨0, 9, 15, 72⟩ [] rfl (fun z hz => by rcases List.mem_singleton.mp hz with rfl; exact Or.inr ⟨by decide, "java/lang/IllegalArgumentException", q1134, by rw [c8]; exact FXnc X (by decide)⟩) rfl (by decide) q1248 (by rw [c8]; exact nw_in q736 rfl) ?_
        refine G.drop [false, false, false, false] rfl ?_
        refine g_astore_n (L' := [none, none, none, some (va_rf (some q4.1))]) X dX0_leastOf_15 rfl (Nat.le_of_ble_eq_true rfl) (by first | rfl | simp [stL, rm1, clr2, cat_rf, cat_i, cat_j, cat_f, cat_d]) ?_
        refine g_iconst (v := (2 : Int32)) X dX0_leastOf_16 (by decide) ?_
        cases hF
        exact g_iret X hr dX0_leastOf_17
      · have hF := (if_neg c8).symm.trans hF
        cases hF
  · refine g_callV X eob1 rfl rfl (w_X1_leastOf l hl D dA h0 ob1 a2 (.inr v3) h2 e5) q1296 q1297 q1298 q92 q1299 okn_X1_leastOf ⟨by rw [hRf]; exact Nat.le_of_ble_eq_true rfl, by rw [hRl]; exact Nat.le_of_ble_eq_true rfl⟩ (As := [.int a2]) (rest := [.int (0 : Int32), va_rf a3]) rfl (by first | exact Nat.le_of_ble_eq_true rfl | simp [cat_rf, cat_i, cat_j, cat_f, cat_d]) dX0_leastOf_4 (ac_v ?_)
    refine g_i2l X dX0_leastOf_7 ?_
    obtain ⟨h6, eh6, hF⟩ := bnd hF
    refine g_last X eh6 dX0_leastOf_8 ?_
    refine g_goto X 18 dX0_leastOf_9 (by decide) ?_
    refine g_iconst (v := (0 : Int32)) X dX0_leastOf_18 (by decide) ?_
    cases hF
    exact g_iret X hr dX0_leastOf_19
def F_X0_mostOf (a1 : Option Nat) (a2 : Int32) (a3 : Option Nat) (h0 : HH) : Option (Int32 × HH) :=
  Option.bind (isO h0 0 a1) fun ob1 =>
  thr (F_X1_mostOf ob1 a2 h0) (fun q4 h2 =>
    if q4.2 = "java/lang/IllegalArgumentException" then (
      some ((1 : Int32), h2)
    ) else (
      if q4.2 = "java/util/NoSuchElementException" then (
        some ((2 : Int32), h2)
      ) else (
        none
      )
    )
  ) (fun v3 h2 =>
    Option.bind (astJ h2 a3 (0 : Int32) (v3.toInt64)) fun h6 =>
    some ((0 : Int32), h6)
  )
set_option maxHeartbeats 4000000 in
theorem w_X0_mostOf (l : Launch) (hl : l.stackTraces = false) (D : va_G) (dA : Nat → ClassId) (h0 : HH) (a1 : Option Nat) (a2 : Int32) (a3 : Option Nat) (rE : Int32) (hE : HH) (hF : F_X0_mostOf a1 a2 a3 h0 = some (rE, hE)) : MC D dA l yX0_mostOf cX0_mostOf 4 (Option.some Jvm.ClassFile.FieldType.int) [(0, 9, 12, 13), (0, 9, 15, 72)] 11 262 [va_rf a1, .int a2, va_rf a3] h0 (.inr (some (.int rE)), hE) := by
  refine mc_of hl (plainFor_of_name pn_X0) (by simp [lg_sl, cat_rf, cat_i, cat_j, cat_f, cat_d]) ?_
  intro p e s m args below meth c R hRf hRl X hr hnm
  unfold F_X0_mostOf at hF
  rw [show argL [va_rf a1, .int a2, va_rf a3] = [some (va_rf a1), some (.int a2), some (va_rf a3)] from by simp [argL, cat_rf, cat_i, cat_j, cat_f, cat_d]]
  refine G.pad 1 (L' := [some (va_rf a1), some (.int a2), some (va_rf a3), none]) rfl ?_
  refine g_aload_n X dX0_mostOf_0 rfl rfl ?_
  refine g_iconst (v := (0 : Int32)) X dX0_mostOf_1 (by decide) ?_
  refine g_aload_n X dX0_mostOf_2 rfl rfl ?_
  refine g_iload_n X dX0_mostOf_3 rfl rfl ?_
  obtain ⟨ob1, eob1, hF⟩ := bnd hF
  rcases thr_some hF with ⟨q4, h2, e5, hF⟩ | ⟨v3, h2, e5, hF⟩
  · refine g_callV X eob1 rfl rfl (w_X1_mostOf l hl D dA h0 ob1 a2 (.inl q4) h2 e5) q1304 q1305 q1306 q92 q1307 okn_X1_mostOf ⟨by rw [hRf]; exact Nat.le_of_ble_eq_true rfl, by rw [hRl]; exact Nat.le_of_ble_eq_true rfl⟩ (As := [.int a2]) (rest := [.int (0 : Int32), va_rf a3]) rfl (by first | exact Nat.le_of_ble_eq_true rfl | simp [cat_rf, cat_i, cat_j, cat_f, cat_d]) dX0_mostOf_4 (ac_x ?_)
    by_cases c7 : q4.2 = "java/lang/IllegalArgumentException"
    · have hF := (if_pos c7).symm.trans hF
      refine gx_catch X (name := "java/lang/IllegalArgumentException") [] ⟨0, 9, 12, 13⟩ [⟨0, 9, 15, 72⟩] rfl (fun z hz => nomatch hz) rfl (by decide) q1134 (by rw [c7]; exact nw_in q757 rfl) ?_
      refine G.drop [false, false, false, false] rfl ?_
      refine g_astore_n (L' := [none, none, none, some (va_rf (some q4.1))]) X dX0_mostOf_12 rfl (Nat.le_of_ble_eq_true rfl) (by first | rfl | simp [stL, rm1, clr2, cat_rf, cat_i, cat_j, cat_f, cat_d]) ?_
      refine g_iconst (v := (1 : Int32)) X dX0_mostOf_13 (by decide) ?_
      cases hF
      exact g_iret X hr dX0_mostOf_14
    · have hF := (if_neg c7).symm.trans hF
      by_cases c8 : q4.2 = "java/util/NoSuchElementException"
      · have hF := (if_pos c8).symm.trans hF
        refine gx_catch X (name := "java/util/NoSuchElementException") [⟨0, 9, 12, 13⟩] ⟨0, 9, 15, 72⟩ [] rfl (fun z hz => by rcases List.mem_singleton.mp hz with rfl; exact Or.inr ⟨by decide, "java/lang/IllegalArgumentException", q1134, by rw [c8]; exact FXnc X (by decide)⟩) rfl (by decide) q1248 (by rw [c8]; exact nw_in q736 rfl) ?_
        refine G.drop [false, false, false, false] rfl ?_
        refine g_astore_n (L' := [none, none, none, some (va_rf (some q4.1))]) X dX0_mostOf_15 rfl (Nat.le_of_ble_eq_true rfl) (by first | rfl | simp [stL, rm1, clr2, cat_rf, cat_i, cat_j, cat_f, cat_d]) ?_
        refine g_iconst (v := (2 : Int32)) X dX0_mostOf_16 (by decide) ?_
        cases hF
        exact g_iret X hr dX0_mostOf_17
      · have hF := (if_neg c8).symm.trans hF
        cases hF
  · refine g_callV X eob1 rfl rfl (w_X1_mostOf l hl D dA h0 ob1 a2 (.inr v3) h2 e5) q1304 q1305 q1306 q92 q1307 okn_X1_mostOf ⟨by rw [hRf]; exact Nat.le_of_ble_eq_true rfl, by rw [hRl]; exact Nat.le_of_ble_eq_true rfl⟩ (As := [.int a2]) (rest := [.int (0 : Int32), va_rf a3]) rfl (by first | exact Nat.le_of_ble_eq_true rfl | simp [cat_rf, cat_i, cat_j, cat_f, cat_d]) dX0_mostOf_4 (ac_v ?_)
    refine g_i2l X dX0_mostOf_7 ?_
    obtain ⟨h6, eh6, hF⟩ := bnd hF
    refine g_last X eh6 dX0_mostOf_8 ?_
    refine g_goto X 18 dX0_mostOf_9 (by decide) ?_
    refine g_iconst (v := (0 : Int32)) X dX0_mostOf_18 (by decide) ?_
    cases hF
    exact g_iret X hr dX0_mostOf_19
def F_X0_longestDelay (a1 : Option Nat) (a2 : Int32) (a3 : Int32) (a4 : Int32) (a5 : Option Nat) (h0 : HH) : Option (Int32 × HH) :=
  Option.bind (isO h0 0 a1) fun ob1 =>
  thr (F_X1_longestDelay ob1 a2 a3 a4 h0) (fun q4 h2 =>
    if q4.2 = "java/lang/IllegalArgumentException" then (
      some ((1 : Int32), h2)
    ) else (
      if q4.2 = "java/util/NoSuchElementException" then (
        some ((2 : Int32), h2)
      ) else (
        none
      )
    )
  ) (fun v3 h2 =>
    Option.bind (astJ h2 a5 (0 : Int32) (v3.toInt64)) fun h6 =>
    some ((0 : Int32), h6)
  )
set_option maxHeartbeats 4000000 in
theorem w_X0_longestDelay (l : Launch) (hl : l.stackTraces = false) (D : va_G) (dA : Nat → ClassId) (h0 : HH) (a1 : Option Nat) (a2 : Int32) (a3 : Int32) (a4 : Int32) (a5 : Option Nat) (rE : Int32) (hE : HH) (hF : F_X0_longestDelay a1 a2 a3 a4 a5 h0 = some (rE, hE)) : MC D dA l yX0_longestDelay cX0_longestDelay 6 (Option.some Jvm.ClassFile.FieldType.int) [(0, 12, 15, 13), (0, 12, 19, 72)] 10 246 [va_rf a1, .int a2, .int a3, .int a4, va_rf a5] h0 (.inr (some (.int rE)), hE) := by
  refine mc_of hl (plainFor_of_name pn_X0) (by simp [lg_sl, cat_rf, cat_i, cat_j, cat_f, cat_d]) ?_
  intro p e s m args below meth c R hRf hRl X hr hnm
  unfold F_X0_longestDelay at hF
  rw [show argL [va_rf a1, .int a2, .int a3, .int a4, va_rf a5] = [some (va_rf a1), some (.int a2), some (.int a3), some (.int a4), some (va_rf a5)] from by simp [argL, cat_rf, cat_i, cat_j, cat_f, cat_d]]
  refine G.pad 1 (L' := [some (va_rf a1), some (.int a2), some (.int a3), some (.int a4), some (va_rf a5), none]) rfl ?_
  refine g_aload X dX0_longestDelay_0 rfl ?_
  refine g_iconst (v := (0 : Int32)) X dX0_longestDelay_2 (by decide) ?_
  refine g_aload_n X dX0_longestDelay_3 rfl rfl ?_
  refine g_iload_n X dX0_longestDelay_4 rfl rfl ?_
  refine g_iload_n X dX0_longestDelay_5 rfl rfl ?_
  refine g_iload_n X dX0_longestDelay_6 rfl rfl ?_
  obtain ⟨ob1, eob1, hF⟩ := bnd hF
  rcases thr_some hF with ⟨q4, h2, e5, hF⟩ | ⟨v3, h2, e5, hF⟩
  · refine g_callV X eob1 rfl rfl (w_X1_longestDelay l hl D dA h0 ob1 a2 a3 a4 (.inl q4) h2 e5) q1311 q1312 q1313 q92 q1314 okn_X1_longestDelay ⟨by rw [hRf]; exact Nat.le_of_ble_eq_true rfl, by rw [hRl]; exact Nat.le_of_ble_eq_true rfl⟩ (As := [.int a2, .int a3, .int a4]) (rest := [.int (0 : Int32), va_rf a5]) rfl (by first | exact Nat.le_of_ble_eq_true rfl | simp [cat_rf, cat_i, cat_j, cat_f, cat_d]) dX0_longestDelay_7 (ac_x ?_)
    by_cases c7 : q4.2 = "java/lang/IllegalArgumentException"
    · have hF := (if_pos c7).symm.trans hF
      refine gx_catch X (name := "java/lang/IllegalArgumentException") [] ⟨0, 12, 15, 13⟩ [⟨0, 12, 19, 72⟩] rfl (fun z hz => nomatch hz) rfl (by decide) q1134 (by rw [c7]; exact nw_in q757 rfl) ?_
      refine G.drop [false, false, false, false, false, false] rfl ?_
      refine g_astore (L' := [none, none, none, none, none, some (va_rf (some q4.1))]) X dX0_longestDelay_15 (Nat.le_of_ble_eq_true rfl) (by first | rfl | simp [stL, rm1, clr2, cat_rf, cat_i, cat_j, cat_f, cat_d]) ?_
      refine g_iconst (v := (1 : Int32)) X dX0_longestDelay_17 (by decide) ?_
      cases hF
      exact g_iret X hr dX0_longestDelay_18
    · have hF := (if_neg c7).symm.trans hF
      by_cases c8 : q4.2 = "java/util/NoSuchElementException"
      · have hF := (if_pos c8).symm.trans hF
        refine gx_catch X (name := "java/util/NoSuchElementException") [⟨0, 12, 15, 13⟩] ⟨0, 12, 19, 72⟩ [] rfl (fun z hz => by rcases List.mem_singleton.mp hz with rfl; exact Or.inr ⟨by decide, "java/lang/IllegalArgumentException", q1134, by rw [c8]; exact FXnc X (by decide)⟩) rfl (by decide) q1248 (by rw [c8]; exact nw_in q736 rfl) ?_
        refine G.drop [false, false, false, false, false, false] rfl ?_
        refine g_astore (L' := [none, none, none, none, none, some (va_rf (some q4.1))]) X dX0_longestDelay_19 (Nat.le_of_ble_eq_true rfl) (by first | rfl | simp [stL, rm1, clr2, cat_rf, cat_i, cat_j, cat_f, cat_d]) ?_
        refine g_iconst (v := (2 : Int32)) X dX0_longestDelay_21 (by decide) ?_
        cases hF
        exact g_iret X hr dX0_longestDelay_22
      · have hF := (if_neg c8).symm.trans hF
        cases hF
  · refine g_callV X eob1 rfl rfl (w_X1_longestDelay l hl D dA h0 ob1 a2 a3 a4 (.inr v3) h2 e5) q1311 q1312 q1313 q92 q1314 okn_X1_longestDelay ⟨by rw [hRf]; exact Nat.le_of_ble_eq_true rfl, by rw [hRl]; exact Nat.le_of_ble_eq_true rfl⟩ (As := [.int a2, .int a3, .int a4]) (rest := [.int (0 : Int32), va_rf a5]) rfl (by first | exact Nat.le_of_ble_eq_true rfl | simp [cat_rf, cat_i, cat_j, cat_f, cat_d]) dX0_longestDelay_7 (ac_v ?_)
    refine g_i2l X dX0_longestDelay_10 ?_
    obtain ⟨h6, eh6, hF⟩ := bnd hF
    refine g_last X eh6 dX0_longestDelay_11 ?_
    refine g_goto X 23 dX0_longestDelay_12 (by decide) ?_
    refine g_iconst (v := (0 : Int32)) X dX0_longestDelay_23 (by decide) ?_
    cases hF
    exact g_iret X hr dX0_longestDelay_24
def F_X0_needless (a1 : Option Nat) (a2 : Option Nat) (h0 : HH) : Option (Int32 × HH) :=
  Option.bind (isO h0 0 a1) fun ob1 =>
  thr (F_X1_needless ob1 h0) (fun q4 h2 =>
    if q4.2 = "java/util/NoSuchElementException" then (
      some ((1 : Int32), h2)
    ) else (
      none
    )
  ) (fun v3 h2 =>
    Option.bind (astJ h2 a2 (0 : Int32) (v3.toInt64)) fun h6 =>
    some ((0 : Int32), h6)
  )
set_option maxHeartbeats 4000000 in
theorem w_X0_needless (l : Launch) (hl : l.stackTraces = false) (D : va_G) (dA : Nat → ClassId) (h0 : HH) (a1 : Option Nat) (a2 : Option Nat) (rE : Int32) (hE : HH) (hF : F_X0_needless a1 a2 h0 = some (rE, hE)) : MC D dA l yX0_needless cX0_needless 3 (Option.some Jvm.ClassFile.FieldType.int) [(0, 8, 11, 72)] 11 268 [va_rf a1, va_rf a2] h0 (.inr (some (.int rE)), hE) := by
  refine mc_of hl (plainFor_of_name pn_X0) (by simp [lg_sl, cat_rf, cat_i, cat_j, cat_f, cat_d]) ?_
  intro p e s m args below meth c R hRf hRl X hr hnm
  unfold F_X0_needless at hF
  rw [show argL [va_rf a1, va_rf a2] = [some (va_rf a1), some (va_rf a2)] from by simp [argL, cat_rf, cat_i, cat_j, cat_f, cat_d]]
  refine G.pad 1 (L' := [some (va_rf a1), some (va_rf a2), none]) rfl ?_
  refine g_aload_n X dX0_needless_0 rfl rfl ?_
  refine g_iconst (v := (0 : Int32)) X dX0_needless_1 (by decide) ?_
  refine g_aload_n X dX0_needless_2 rfl rfl ?_
  obtain ⟨ob1, eob1, hF⟩ := bnd hF
  rcases thr_some hF with ⟨q4, h2, e5, hF⟩ | ⟨v3, h2, e5, hF⟩
  · refine g_callV X eob1 rfl rfl (w_X1_needless l hl D dA h0 ob1  (.inl q4) h2 e5) q1323 q1324 q1325 q92 q1326 okn_X1_needless ⟨by rw [hRf]; exact Nat.le_of_ble_eq_true rfl, by rw [hRl]; exact Nat.le_of_ble_eq_true rfl⟩ (As := []) (rest := [.int (0 : Int32), va_rf a2]) rfl (by first | exact Nat.le_of_ble_eq_true rfl | simp [cat_rf, cat_i, cat_j, cat_f, cat_d]) dX0_needless_3 (ac_x ?_)
    by_cases c7 : q4.2 = "java/util/NoSuchElementException"
    · have hF := (if_pos c7).symm.trans hF
      refine gx_catch X (name := "java/util/NoSuchElementException") [] ⟨0, 8, 11, 72⟩ [] rfl (fun z hz => nomatch hz) rfl (by decide) q1248 (by rw [c7]; exact nw_in q736 rfl) ?_
      refine G.drop [false, false, false] rfl ?_
      refine g_astore_n (L' := [none, none, some (va_rf (some q4.1))]) X dX0_needless_11 rfl (Nat.le_of_ble_eq_true rfl) (by first | rfl | simp [stL, rm1, clr2, cat_rf, cat_i, cat_j, cat_f, cat_d]) ?_
      refine g_iconst (v := (1 : Int32)) X dX0_needless_12 (by decide) ?_
      cases hF
      exact g_iret X hr dX0_needless_13
    · have hF := (if_neg c7).symm.trans hF
      cases hF
  · refine g_callV X eob1 rfl rfl (w_X1_needless l hl D dA h0 ob1  (.inr v3) h2 e5) q1323 q1324 q1325 q92 q1326 okn_X1_needless ⟨by rw [hRf]; exact Nat.le_of_ble_eq_true rfl, by rw [hRl]; exact Nat.le_of_ble_eq_true rfl⟩ (As := []) (rest := [.int (0 : Int32), va_rf a2]) rfl (by first | exact Nat.le_of_ble_eq_true rfl | simp [cat_rf, cat_i, cat_j, cat_f, cat_d]) dX0_needless_3 (ac_v ?_)
    refine g_i2l X dX0_needless_6 ?_
    obtain ⟨h6, eh6, hF⟩ := bnd hF
    refine g_last X eh6 dX0_needless_7 ?_
    refine g_goto X 14 dX0_needless_8 (by decide) ?_
    refine g_iconst (v := (0 : Int32)) X dX0_needless_14 (by decide) ?_
    cases hF
    exact g_iret X hr dX0_needless_15
def F_X0_isShelfEmpty (a1 : Option Nat) (a2 : Int32) (a3 : Option Nat) (h0 : HH) : Option (Int32 × HH) :=
  Option.bind (isO h0 0 a1) fun ob1 =>
  thr (F_X1_isShelfEmpty ob1 a2 h0) (fun q4 h2 =>
    if q4.2 = "java/lang/IllegalArgumentException" then (
      some ((1 : Int32), h2)
    ) else (
      none
    )
  ) (fun v3 h2 =>
    Option.bind (astJ h2 a3 (0 : Int32) (if v3 = 0 then (0 : Int64) else (1 : Int64))) fun h7 =>
    some ((0 : Int32), h7)
  )
set_option maxHeartbeats 4000000 in
theorem w_X0_isShelfEmpty (l : Launch) (hl : l.stackTraces = false) (D : va_G) (dA : Nat → ClassId) (h0 : HH) (a1 : Option Nat) (a2 : Int32) (a3 : Option Nat) (rE : Int32) (hE : HH) (hF : F_X0_isShelfEmpty a1 a2 a3 h0 = some (rE, hE)) : MC D dA l yX0_isShelfEmpty cX0_isShelfEmpty 4 (Option.some Jvm.ClassFile.FieldType.int) [(0, 16, 19, 13)] 10 241 [va_rf a1, .int a2, va_rf a3] h0 (.inr (some (.int rE)), hE) := by
  refine mc_of hl (plainFor_of_name pn_X0) (by simp [lg_sl, cat_rf, cat_i, cat_j, cat_f, cat_d]) ?_
  intro p e s m args below meth c R hRf hRl X hr hnm
  unfold F_X0_isShelfEmpty at hF
  rw [show argL [va_rf a1, .int a2, va_rf a3] = [some (va_rf a1), some (.int a2), some (va_rf a3)] from by simp [argL, cat_rf, cat_i, cat_j, cat_f, cat_d]]
  refine G.pad 1 (L' := [some (va_rf a1), some (.int a2), some (va_rf a3), none]) rfl ?_
  refine g_aload_n X dX0_isShelfEmpty_0 rfl rfl ?_
  refine g_iconst (v := (0 : Int32)) X dX0_isShelfEmpty_1 (by decide) ?_
  refine g_aload_n X dX0_isShelfEmpty_2 rfl rfl ?_
  refine g_iload_n X dX0_isShelfEmpty_3 rfl rfl ?_
  obtain ⟨ob1, eob1, hF⟩ := bnd hF
  rcases thr_some hF with ⟨q4, h2, e5, hF⟩ | ⟨v3, h2, e5, hF⟩
  · refine g_callV X eob1 rfl rfl (w_X1_isShelfEmpty l hl D dA h0 ob1 a2 (.inl q4) h2 e5) q1334 q1335 q1336 q92 q1337 okn_X1_isShelfEmpty ⟨by rw [hRf]; exact Nat.le_of_ble_eq_true rfl, by rw [hRl]; exact Nat.le_of_ble_eq_true rfl⟩ (As := [.int a2]) (rest := [.int (0 : Int32), va_rf a3]) rfl (by first | exact Nat.le_of_ble_eq_true rfl | simp [cat_rf, cat_i, cat_j, cat_f, cat_d]) dX0_isShelfEmpty_4 (ac_x ?_)
    by_cases c8 : q4.2 = "java/lang/IllegalArgumentException"
    · have hF := (if_pos c8).symm.trans hF
      refine gx_catch X (name := "java/lang/IllegalArgumentException") [] ⟨0, 16, 19, 13⟩ [] rfl (fun z hz => nomatch hz) rfl (by decide) q1134 (by rw [c8]; exact nw_in q757 rfl) ?_
      refine G.drop [false, false, false, false] rfl ?_
      refine g_astore_n (L' := [none, none, none, some (va_rf (some q4.1))]) X dX0_isShelfEmpty_19 rfl (Nat.le_of_ble_eq_true rfl) (by first | rfl | simp [stL, rm1, clr2, cat_rf, cat_i, cat_j, cat_f, cat_d]) ?_
      refine g_iconst (v := (1 : Int32)) X dX0_isShelfEmpty_20 (by decide) ?_
      cases hF
      exact g_iret X hr dX0_isShelfEmpty_21
    · have hF := (if_neg c8).symm.trans hF
      cases hF
  · refine g_callV X eob1 rfl rfl (w_X1_isShelfEmpty l hl D dA h0 ob1 a2 (.inr v3) h2 e5) q1334 q1335 q1336 q92 q1337 okn_X1_isShelfEmpty ⟨by rw [hRf]; exact Nat.le_of_ble_eq_true rfl, by rw [hRl]; exact Nat.le_of_ble_eq_true rfl⟩ (As := [.int a2]) (rest := [.int (0 : Int32), va_rf a3]) rfl (by first | exact Nat.le_of_ble_eq_true rfl | simp [cat_rf, cat_i, cat_j, cat_f, cat_d]) dX0_isShelfEmpty_4 (ac_v ?_)
    suffices K : G p l e R s m args below meth c (RQ D dA h0 (.inr (some (.int rE)), hE) below s) D dA h0 4 h2 15 [none, none, none, none] [.long (if v3 = 0 then (0 : Int64) else (1 : Int64)), .int (0 : Int32), va_rf a3] by
      refine g_if_eq X 14 dX0_isShelfEmpty_7 (by decide) (fun c6 => ?_) (fun c6 => ?_)
      · (try simp only [if_pos c6] at K)
        refine g_lconst (v := (0 : Int64)) X dX0_isShelfEmpty_14 (by decide) ?_
        refine G.drop [false, false, false, false] rfl ?_
        first | exact K | (simp only [if_pos c6]; exact K)
      · (try simp only [if_neg c6] at K)
        refine g_lconst (v := (1 : Int64)) X dX0_isShelfEmpty_10 (by decide) ?_
        refine g_goto X 15 dX0_isShelfEmpty_11 (by decide) ?_
        refine G.drop [false, false, false, false] rfl ?_
        first | exact K | (simp only [if_neg c6]; exact K)
    obtain ⟨h7, eh7, hF⟩ := bnd hF
    refine g_last X eh7 dX0_isShelfEmpty_15 ?_
    refine g_goto X 22 dX0_isShelfEmpty_16 (by decide) ?_
    refine g_iconst (v := (0 : Int32)) X dX0_isShelfEmpty_22 (by decide) ?_
    cases hF
    exact g_iret X hr dX0_isShelfEmpty_23
def F_X0_isWithin (a1 : Option Nat) (a2 : Int32) (a3 : Option Nat) (h0 : HH) : Option (Int32 × HH) :=
  Option.bind (isO h0 0 a1) fun ob1 =>
  thr (F_X1_isWithin ob1 a2 h0) (fun q4 h2 =>
    if q4.2 = "java/lang/IllegalArgumentException" then (
      some ((1 : Int32), h2)
    ) else (
      if q4.2 = "java/util/NoSuchElementException" then (
        some ((2 : Int32), h2)
      ) else (
        none
      )
    )
  ) (fun v3 h2 =>
    Option.bind (astJ h2 a3 (0 : Int32) (if v3 = 0 then (0 : Int64) else (1 : Int64))) fun h7 =>
    some ((0 : Int32), h7)
  )
set_option maxHeartbeats 4000000 in
theorem w_X0_isWithin (l : Launch) (hl : l.stackTraces = false) (D : va_G) (dA : Nat → ClassId) (h0 : HH) (a1 : Option Nat) (a2 : Int32) (a3 : Option Nat) (rE : Int32) (hE : HH) (hF : F_X0_isWithin a1 a2 a3 h0 = some (rE, hE)) : MC D dA l yX0_isWithin cX0_isWithin 4 (Option.some Jvm.ClassFile.FieldType.int) [(0, 16, 19, 13), (0, 16, 22, 72)] 11 264 [va_rf a1, .int a2, va_rf a3] h0 (.inr (some (.int rE)), hE) := by
  refine mc_of hl (plainFor_of_name pn_X0) (by simp [lg_sl, cat_rf, cat_i, cat_j, cat_f, cat_d]) ?_
  intro p e s m args below meth c R hRf hRl X hr hnm
  unfold F_X0_isWithin at hF
  rw [show argL [va_rf a1, .int a2, va_rf a3] = [some (va_rf a1), some (.int a2), some (va_rf a3)] from by simp [argL, cat_rf, cat_i, cat_j, cat_f, cat_d]]
  refine G.pad 1 (L' := [some (va_rf a1), some (.int a2), some (va_rf a3), none]) rfl ?_
  refine g_aload_n X dX0_isWithin_0 rfl rfl ?_
  refine g_iconst (v := (0 : Int32)) X dX0_isWithin_1 (by decide) ?_
  refine g_aload_n X dX0_isWithin_2 rfl rfl ?_
  refine g_iload_n X dX0_isWithin_3 rfl rfl ?_
  obtain ⟨ob1, eob1, hF⟩ := bnd hF
  rcases thr_some hF with ⟨q4, h2, e5, hF⟩ | ⟨v3, h2, e5, hF⟩
  · refine g_callV X eob1 rfl rfl (w_X1_isWithin l hl D dA h0 ob1 a2 (.inl q4) h2 e5) q1342 q1343 q1344 q92 q1345 okn_X1_isWithin ⟨by rw [hRf]; exact Nat.le_of_ble_eq_true rfl, by rw [hRl]; exact Nat.le_of_ble_eq_true rfl⟩ (As := [.int a2]) (rest := [.int (0 : Int32), va_rf a3]) rfl (by first | exact Nat.le_of_ble_eq_true rfl | simp [cat_rf, cat_i, cat_j, cat_f, cat_d]) dX0_isWithin_4 (ac_x ?_)
    by_cases c8 : q4.2 = "java/lang/IllegalArgumentException"
    · have hF := (if_pos c8).symm.trans hF
      refine gx_catch X (name := "java/lang/IllegalArgumentException") [] ⟨0, 16, 19, 13⟩ [⟨0, 16, 22, 72⟩] rfl (fun z hz => nomatch hz) rfl (by decide) q1134 (by rw [c8]; exact nw_in q757 rfl) ?_
      refine G.drop [false, false, false, false] rfl ?_
      refine g_astore_n (L' := [none, none, none, some (va_rf (some q4.1))]) X dX0_isWithin_19 rfl (Nat.le_of_ble_eq_true rfl) (by first | rfl | simp [stL, rm1, clr2, cat_rf, cat_i, cat_j, cat_f, cat_d]) ?_
      refine g_iconst (v := (1 : Int32)) X dX0_isWithin_20 (by decide) ?_
      cases hF
      exact g_iret X hr dX0_isWithin_21
    · have hF := (if_neg c8).symm.trans hF
      by_cases c9 : q4.2 = "java/util/NoSuchElementException"
      · have hF := (if_pos c9).symm.trans hF
        refine gx_catch X (name := "java/util/NoSuchElementException") [⟨0, 16, 19, 13⟩] ⟨0, 16, 22, 72⟩ [] rfl (fun z hz => by rcases List.mem_singleton.mp hz with rfl; exact Or.inr ⟨by decide, "java/lang/IllegalArgumentException", q1134, by rw [c9]; exact FXnc X (by decide)⟩) rfl (by decide) q1248 (by rw [c9]; exact nw_in q736 rfl) ?_
        refine G.drop [false, false, false, false] rfl ?_
        refine g_astore_n (L' := [none, none, none, some (va_rf (some q4.1))]) X dX0_isWithin_22 rfl (Nat.le_of_ble_eq_true rfl) (by first | rfl | simp [stL, rm1, clr2, cat_rf, cat_i, cat_j, cat_f, cat_d]) ?_
        refine g_iconst (v := (2 : Int32)) X dX0_isWithin_23 (by decide) ?_
        cases hF
        exact g_iret X hr dX0_isWithin_24
      · have hF := (if_neg c9).symm.trans hF
        cases hF
  · refine g_callV X eob1 rfl rfl (w_X1_isWithin l hl D dA h0 ob1 a2 (.inr v3) h2 e5) q1342 q1343 q1344 q92 q1345 okn_X1_isWithin ⟨by rw [hRf]; exact Nat.le_of_ble_eq_true rfl, by rw [hRl]; exact Nat.le_of_ble_eq_true rfl⟩ (As := [.int a2]) (rest := [.int (0 : Int32), va_rf a3]) rfl (by first | exact Nat.le_of_ble_eq_true rfl | simp [cat_rf, cat_i, cat_j, cat_f, cat_d]) dX0_isWithin_4 (ac_v ?_)
    suffices K : G p l e R s m args below meth c (RQ D dA h0 (.inr (some (.int rE)), hE) below s) D dA h0 4 h2 15 [none, none, none, none] [.long (if v3 = 0 then (0 : Int64) else (1 : Int64)), .int (0 : Int32), va_rf a3] by
      refine g_if_eq X 14 dX0_isWithin_7 (by decide) (fun c6 => ?_) (fun c6 => ?_)
      · (try simp only [if_pos c6] at K)
        refine g_lconst (v := (0 : Int64)) X dX0_isWithin_14 (by decide) ?_
        refine G.drop [false, false, false, false] rfl ?_
        first | exact K | (simp only [if_pos c6]; exact K)
      · (try simp only [if_neg c6] at K)
        refine g_lconst (v := (1 : Int64)) X dX0_isWithin_10 (by decide) ?_
        refine g_goto X 15 dX0_isWithin_11 (by decide) ?_
        refine G.drop [false, false, false, false] rfl ?_
        first | exact K | (simp only [if_neg c6]; exact K)
    obtain ⟨h7, eh7, hF⟩ := bnd hF
    refine g_last X eh7 dX0_isWithin_15 ?_
    refine g_goto X 25 dX0_isWithin_16 (by decide) ?_
    refine g_iconst (v := (0 : Int32)) X dX0_isWithin_25 (by decide) ?_
    cases hF
    exact g_iret X hr dX0_isWithin_26
def F_X0_momentsBeyond (a1 : Option Nat) (a2 : Int32) (a3 : Option Nat) (h0 : HH) : Option (Int32 × HH) :=
  Option.bind (isO h0 0 a1) fun ob1 =>
  thr (F_X1_momentsBeyond ob1 a2 h0) (fun q4 h2 =>
    if q4.2 = "java/lang/IllegalArgumentException" then (
      some ((1 : Int32), h2)
    ) else (
      if q4.2 = "java/util/NoSuchElementException" then (
        some ((2 : Int32), h2)
      ) else (
        none
      )
    )
  ) (fun v3 h2 =>
    Option.bind (astJ h2 a3 (0 : Int32) (v3.toInt64)) fun h6 =>
    some ((0 : Int32), h6)
  )
set_option maxHeartbeats 4000000 in
theorem w_X0_momentsBeyond (l : Launch) (hl : l.stackTraces = false) (D : va_G) (dA : Nat → ClassId) (h0 : HH) (a1 : Option Nat) (a2 : Int32) (a3 : Option Nat) (rE : Int32) (hE : HH) (hF : F_X0_momentsBeyond a1 a2 a3 h0 = some (rE, hE)) : MC D dA l yX0_momentsBeyond cX0_momentsBeyond 4 (Option.some Jvm.ClassFile.FieldType.int) [(0, 9, 12, 13), (0, 9, 15, 72)] 11 262 [va_rf a1, .int a2, va_rf a3] h0 (.inr (some (.int rE)), hE) := by
  refine mc_of hl (plainFor_of_name pn_X0) (by simp [lg_sl, cat_rf, cat_i, cat_j, cat_f, cat_d]) ?_
  intro p e s m args below meth c R hRf hRl X hr hnm
  unfold F_X0_momentsBeyond at hF
  rw [show argL [va_rf a1, .int a2, va_rf a3] = [some (va_rf a1), some (.int a2), some (va_rf a3)] from by simp [argL, cat_rf, cat_i, cat_j, cat_f, cat_d]]
  refine G.pad 1 (L' := [some (va_rf a1), some (.int a2), some (va_rf a3), none]) rfl ?_
  refine g_aload_n X dX0_momentsBeyond_0 rfl rfl ?_
  refine g_iconst (v := (0 : Int32)) X dX0_momentsBeyond_1 (by decide) ?_
  refine g_aload_n X dX0_momentsBeyond_2 rfl rfl ?_
  refine g_iload_n X dX0_momentsBeyond_3 rfl rfl ?_
  obtain ⟨ob1, eob1, hF⟩ := bnd hF
  rcases thr_some hF with ⟨q4, h2, e5, hF⟩ | ⟨v3, h2, e5, hF⟩
  · refine g_callV X eob1 rfl rfl (w_X1_momentsBeyond l hl D dA h0 ob1 a2 (.inl q4) h2 e5) q1357 q1358 q1359 q92 q1360 okn_X1_momentsBeyond ⟨by rw [hRf]; exact Nat.le_of_ble_eq_true rfl, by rw [hRl]; exact Nat.le_of_ble_eq_true rfl⟩ (As := [.int a2]) (rest := [.int (0 : Int32), va_rf a3]) rfl (by first | exact Nat.le_of_ble_eq_true rfl | simp [cat_rf, cat_i, cat_j, cat_f, cat_d]) dX0_momentsBeyond_4 (ac_x ?_)
    by_cases c7 : q4.2 = "java/lang/IllegalArgumentException"
    · have hF := (if_pos c7).symm.trans hF
      refine gx_catch X (name := "java/lang/IllegalArgumentException") [] ⟨0, 9, 12, 13⟩ [⟨0, 9, 15, 72⟩] rfl (fun z hz => nomatch hz) rfl (by decide) q1134 (by rw [c7]; exact nw_in q757 rfl) ?_
      refine G.drop [false, false, false, false] rfl ?_
      refine g_astore_n (L' := [none, none, none, some (va_rf (some q4.1))]) X dX0_momentsBeyond_12 rfl (Nat.le_of_ble_eq_true rfl) (by first | rfl | simp [stL, rm1, clr2, cat_rf, cat_i, cat_j, cat_f, cat_d]) ?_
      refine g_iconst (v := (1 : Int32)) X dX0_momentsBeyond_13 (by decide) ?_
      cases hF
      exact g_iret X hr dX0_momentsBeyond_14
    · have hF := (if_neg c7).symm.trans hF
      by_cases c8 : q4.2 = "java/util/NoSuchElementException"
      · have hF := (if_pos c8).symm.trans hF
        refine gx_catch X (name := "java/util/NoSuchElementException") [⟨0, 9, 12, 13⟩] ⟨0, 9, 15, 72⟩ [] rfl (fun z hz => by rcases List.mem_singleton.mp hz with rfl; exact Or.inr ⟨by decide, "java/lang/IllegalArgumentException", q1134, by rw [c8]; exact FXnc X (by decide)⟩) rfl (by decide) q1248 (by rw [c8]; exact nw_in q736 rfl) ?_
        refine G.drop [false, false, false, false] rfl ?_
        refine g_astore_n (L' := [none, none, none, some (va_rf (some q4.1))]) X dX0_momentsBeyond_15 rfl (Nat.le_of_ble_eq_true rfl) (by first | rfl | simp [stL, rm1, clr2, cat_rf, cat_i, cat_j, cat_f, cat_d]) ?_
        refine g_iconst (v := (2 : Int32)) X dX0_momentsBeyond_16 (by decide) ?_
        cases hF
        exact g_iret X hr dX0_momentsBeyond_17
      · have hF := (if_neg c8).symm.trans hF
        cases hF
  · refine g_callV X eob1 rfl rfl (w_X1_momentsBeyond l hl D dA h0 ob1 a2 (.inr v3) h2 e5) q1357 q1358 q1359 q92 q1360 okn_X1_momentsBeyond ⟨by rw [hRf]; exact Nat.le_of_ble_eq_true rfl, by rw [hRl]; exact Nat.le_of_ble_eq_true rfl⟩ (As := [.int a2]) (rest := [.int (0 : Int32), va_rf a3]) rfl (by first | exact Nat.le_of_ble_eq_true rfl | simp [cat_rf, cat_i, cat_j, cat_f, cat_d]) dX0_momentsBeyond_4 (ac_v ?_)
    refine g_i2l X dX0_momentsBeyond_7 ?_
    obtain ⟨h6, eh6, hF⟩ := bnd hF
    refine g_last X eh6 dX0_momentsBeyond_8 ?_
    refine g_goto X 18 dX0_momentsBeyond_9 (by decide) ?_
    refine g_iconst (v := (0 : Int32)) X dX0_momentsBeyond_18 (by decide) ?_
    cases hF
    exact g_iret X hr dX0_momentsBeyond_19
def F_X0_doMeet (a1 : Option Nat) (a2 : Int32) (a3 : Option Nat) (h0 : HH) : Option (Int32 × HH) :=
  Option.bind (isO h0 0 a1) fun ob1 =>
  thr (F_X1_doMeet ob1 a2 h0) (fun q4 h2 =>
    if q4.2 = "java/lang/IllegalArgumentException" then (
      some ((1 : Int32), h2)
    ) else (
      if q4.2 = "java/util/NoSuchElementException" then (
        some ((2 : Int32), h2)
      ) else (
        none
      )
    )
  ) (fun v3 h2 =>
    Option.bind (astJ h2 a3 (0 : Int32) (if v3 = 0 then (0 : Int64) else (1 : Int64))) fun h7 =>
    some ((0 : Int32), h7)
  )
set_option maxHeartbeats 4000000 in
theorem w_X0_doMeet (l : Launch) (hl : l.stackTraces = false) (D : va_G) (dA : Nat → ClassId) (h0 : HH) (a1 : Option Nat) (a2 : Int32) (a3 : Option Nat) (rE : Int32) (hE : HH) (hF : F_X0_doMeet a1 a2 a3 h0 = some (rE, hE)) : MC D dA l yX0_doMeet cX0_doMeet 4 (Option.some Jvm.ClassFile.FieldType.int) [(0, 16, 19, 13), (0, 16, 22, 72)] 11 264 [va_rf a1, .int a2, va_rf a3] h0 (.inr (some (.int rE)), hE) := by
  refine mc_of hl (plainFor_of_name pn_X0) (by simp [lg_sl, cat_rf, cat_i, cat_j, cat_f, cat_d]) ?_
  intro p e s m args below meth c R hRf hRl X hr hnm
  unfold F_X0_doMeet at hF
  rw [show argL [va_rf a1, .int a2, va_rf a3] = [some (va_rf a1), some (.int a2), some (va_rf a3)] from by simp [argL, cat_rf, cat_i, cat_j, cat_f, cat_d]]
  refine G.pad 1 (L' := [some (va_rf a1), some (.int a2), some (va_rf a3), none]) rfl ?_
  refine g_aload_n X dX0_doMeet_0 rfl rfl ?_
  refine g_iconst (v := (0 : Int32)) X dX0_doMeet_1 (by decide) ?_
  refine g_aload_n X dX0_doMeet_2 rfl rfl ?_
  refine g_iload_n X dX0_doMeet_3 rfl rfl ?_
  obtain ⟨ob1, eob1, hF⟩ := bnd hF
  rcases thr_some hF with ⟨q4, h2, e5, hF⟩ | ⟨v3, h2, e5, hF⟩
  · refine g_callV X eob1 rfl rfl (w_X1_doMeet l hl D dA h0 ob1 a2 (.inl q4) h2 e5) q1364 q1365 q1366 q92 q1367 okn_X1_doMeet ⟨by rw [hRf]; exact Nat.le_of_ble_eq_true rfl, by rw [hRl]; exact Nat.le_of_ble_eq_true rfl⟩ (As := [.int a2]) (rest := [.int (0 : Int32), va_rf a3]) rfl (by first | exact Nat.le_of_ble_eq_true rfl | simp [cat_rf, cat_i, cat_j, cat_f, cat_d]) dX0_doMeet_4 (ac_x ?_)
    by_cases c8 : q4.2 = "java/lang/IllegalArgumentException"
    · have hF := (if_pos c8).symm.trans hF
      refine gx_catch X (name := "java/lang/IllegalArgumentException") [] ⟨0, 16, 19, 13⟩ [⟨0, 16, 22, 72⟩] rfl (fun z hz => nomatch hz) rfl (by decide) q1134 (by rw [c8]; exact nw_in q757 rfl) ?_
      refine G.drop [false, false, false, false] rfl ?_
      refine g_astore_n (L' := [none, none, none, some (va_rf (some q4.1))]) X dX0_doMeet_19 rfl (Nat.le_of_ble_eq_true rfl) (by first | rfl | simp [stL, rm1, clr2, cat_rf, cat_i, cat_j, cat_f, cat_d]) ?_
      refine g_iconst (v := (1 : Int32)) X dX0_doMeet_20 (by decide) ?_
      cases hF
      exact g_iret X hr dX0_doMeet_21
    · have hF := (if_neg c8).symm.trans hF
      by_cases c9 : q4.2 = "java/util/NoSuchElementException"
      · have hF := (if_pos c9).symm.trans hF
        refine gx_catch X (name := "java/util/NoSuchElementException") [⟨0, 16, 19, 13⟩] ⟨0, 16, 22, 72⟩ [] rfl (fun z hz => by rcases List.mem_singleton.mp hz with rfl; exact Or.inr ⟨by decide, "java/lang/IllegalArgumentException", q1134, by rw [c9]; exact FXnc X (by decide)⟩) rfl (by decide) q1248 (by rw [c9]; exact nw_in q736 rfl) ?_
        refine G.drop [false, false, false, false] rfl ?_
        refine g_astore_n (L' := [none, none, none, some (va_rf (some q4.1))]) X dX0_doMeet_22 rfl (Nat.le_of_ble_eq_true rfl) (by first | rfl | simp [stL, rm1, clr2, cat_rf, cat_i, cat_j, cat_f, cat_d]) ?_
        refine g_iconst (v := (2 : Int32)) X dX0_doMeet_23 (by decide) ?_
        cases hF
        exact g_iret X hr dX0_doMeet_24
      · have hF := (if_neg c9).symm.trans hF
        cases hF
  · refine g_callV X eob1 rfl rfl (w_X1_doMeet l hl D dA h0 ob1 a2 (.inr v3) h2 e5) q1364 q1365 q1366 q92 q1367 okn_X1_doMeet ⟨by rw [hRf]; exact Nat.le_of_ble_eq_true rfl, by rw [hRl]; exact Nat.le_of_ble_eq_true rfl⟩ (As := [.int a2]) (rest := [.int (0 : Int32), va_rf a3]) rfl (by first | exact Nat.le_of_ble_eq_true rfl | simp [cat_rf, cat_i, cat_j, cat_f, cat_d]) dX0_doMeet_4 (ac_v ?_)
    suffices K : G p l e R s m args below meth c (RQ D dA h0 (.inr (some (.int rE)), hE) below s) D dA h0 4 h2 15 [none, none, none, none] [.long (if v3 = 0 then (0 : Int64) else (1 : Int64)), .int (0 : Int32), va_rf a3] by
      refine g_if_eq X 14 dX0_doMeet_7 (by decide) (fun c6 => ?_) (fun c6 => ?_)
      · (try simp only [if_pos c6] at K)
        refine g_lconst (v := (0 : Int64)) X dX0_doMeet_14 (by decide) ?_
        refine G.drop [false, false, false, false] rfl ?_
        first | exact K | (simp only [if_pos c6]; exact K)
      · (try simp only [if_neg c6] at K)
        refine g_lconst (v := (1 : Int64)) X dX0_doMeet_10 (by decide) ?_
        refine g_goto X 15 dX0_doMeet_11 (by decide) ?_
        refine G.drop [false, false, false, false] rfl ?_
        first | exact K | (simp only [if_neg c6]; exact K)
    obtain ⟨h7, eh7, hF⟩ := bnd hF
    refine g_last X eh7 dX0_doMeet_15 ?_
    refine g_goto X 25 dX0_doMeet_16 (by decide) ?_
    refine g_iconst (v := (0 : Int32)) X dX0_doMeet_25 (by decide) ?_
    cases hF
    exact g_iret X hr dX0_doMeet_26
def F_X0_stayOf (a1 : Option Nat) (a2 : Int32) (a3 : Int32) (a4 : Option Nat) (h0 : HH) : Option (Int32 × HH) :=
  Option.bind (isO h0 0 a1) fun ob1 =>
  thr (F_X1_stayOf ob1 a2 a3 h0) (fun q4 h2 =>
    if q4.2 = "java/lang/IllegalArgumentException" then (
      some ((1 : Int32), h2)
    ) else (
      none
    )
  ) (fun v3 h2 =>
    Option.bind (astJ h2 a4 (0 : Int32) (v3.toInt64)) fun h6 =>
    some ((0 : Int32), h6)
  )
set_option maxHeartbeats 4000000 in
theorem w_X0_stayOf (l : Launch) (hl : l.stackTraces = false) (D : va_G) (dA : Nat → ClassId) (h0 : HH) (a1 : Option Nat) (a2 : Int32) (a3 : Int32) (a4 : Option Nat) (rE : Int32) (hE : HH) (hF : F_X0_stayOf a1 a2 a3 a4 h0 = some (rE, hE)) : MC D dA l yX0_stayOf cX0_stayOf 5 (Option.some Jvm.ClassFile.FieldType.int) [(0, 10, 13, 13)] 10 242 [va_rf a1, .int a2, .int a3, va_rf a4] h0 (.inr (some (.int rE)), hE) := by
  refine mc_of hl (plainFor_of_name pn_X0) (by simp [lg_sl, cat_rf, cat_i, cat_j, cat_f, cat_d]) ?_
  intro p e s m args below meth c R hRf hRl X hr hnm
  unfold F_X0_stayOf at hF
  rw [show argL [va_rf a1, .int a2, .int a3, va_rf a4] = [some (va_rf a1), some (.int a2), some (.int a3), some (va_rf a4)] from by simp [argL, cat_rf, cat_i, cat_j, cat_f, cat_d]]
  refine G.pad 1 (L' := [some (va_rf a1), some (.int a2), some (.int a3), some (va_rf a4), none]) rfl ?_
  refine g_aload_n X dX0_stayOf_0 rfl rfl ?_
  refine g_iconst (v := (0 : Int32)) X dX0_stayOf_1 (by decide) ?_
  refine g_aload_n X dX0_stayOf_2 rfl rfl ?_
  refine g_iload_n X dX0_stayOf_3 rfl rfl ?_
  refine g_iload_n X dX0_stayOf_4 rfl rfl ?_
  obtain ⟨ob1, eob1, hF⟩ := bnd hF
  rcases thr_some hF with ⟨q4, h2, e5, hF⟩ | ⟨v3, h2, e5, hF⟩
  · refine g_callV X eob1 rfl rfl (w_X1_stayOf l hl D dA h0 ob1 a2 a3 (.inl q4) h2 e5) q1372 q1373 q1374 q92 q1375 okn_X1_stayOf ⟨by rw [hRf]; exact Nat.le_of_ble_eq_true rfl, by rw [hRl]; exact Nat.le_of_ble_eq_true rfl⟩ (As := [.int a2, .int a3]) (rest := [.int (0 : Int32), va_rf a4]) rfl (by first | exact Nat.le_of_ble_eq_true rfl | simp [cat_rf, cat_i, cat_j, cat_f, cat_d]) dX0_stayOf_5 (ac_x ?_)
    by_cases c7 : q4.2 = "java/lang/IllegalArgumentException"
    · have hF := (if_pos c7).symm.trans hF
      refine gx_catch X (name := "java/lang/IllegalArgumentException") [] ⟨0, 10, 13, 13⟩ [] rfl (fun z hz => nomatch hz) rfl (by decide) q1134 (by rw [c7]; exact nw_in q757 rfl) ?_
      refine G.drop [false, false, false, false, false] rfl ?_
      refine g_astore (L' := [none, none, none, none, some (va_rf (some q4.1))]) X dX0_stayOf_13 (Nat.le_of_ble_eq_true rfl) (by first | rfl | simp [stL, rm1, clr2, cat_rf, cat_i, cat_j, cat_f, cat_d]) ?_
      refine g_iconst (v := (1 : Int32)) X dX0_stayOf_15 (by decide) ?_
      cases hF
      exact g_iret X hr dX0_stayOf_16
    · have hF := (if_neg c7).symm.trans hF
      cases hF
  · refine g_callV X eob1 rfl rfl (w_X1_stayOf l hl D dA h0 ob1 a2 a3 (.inr v3) h2 e5) q1372 q1373 q1374 q92 q1375 okn_X1_stayOf ⟨by rw [hRf]; exact Nat.le_of_ble_eq_true rfl, by rw [hRl]; exact Nat.le_of_ble_eq_true rfl⟩ (As := [.int a2, .int a3]) (rest := [.int (0 : Int32), va_rf a4]) rfl (by first | exact Nat.le_of_ble_eq_true rfl | simp [cat_rf, cat_i, cat_j, cat_f, cat_d]) dX0_stayOf_5 (ac_v ?_)
    refine g_i2l X dX0_stayOf_8 ?_
    obtain ⟨h6, eh6, hF⟩ := bnd hF
    refine g_last X eh6 dX0_stayOf_9 ?_
    refine g_goto X 17 dX0_stayOf_10 (by decide) ?_
    refine g_iconst (v := (0 : Int32)) X dX0_stayOf_17 (by decide) ?_
    cases hF
    exact g_iret X hr dX0_stayOf_18
def F_X0_fromOf (a1 : Option Nat) (a2 : Int32) (a3 : Option Nat) (h0 : HH) : Option (Int32 × HH) :=
  Option.bind (isO h0 0 a1) fun ob1 =>
  thr (F_X1_fromOf ob1 a2 h0) (fun q4 h2 =>
    if q4.2 = "java/lang/IllegalArgumentException" then (
      some ((1 : Int32), h2)
    ) else (
      none
    )
  ) (fun v3 h2 =>
    Option.bind (astJ h2 a3 (0 : Int32) (v3.toInt64)) fun h6 =>
    some ((0 : Int32), h6)
  )
set_option maxHeartbeats 4000000 in
theorem w_X0_fromOf (l : Launch) (hl : l.stackTraces = false) (D : va_G) (dA : Nat → ClassId) (h0 : HH) (a1 : Option Nat) (a2 : Int32) (a3 : Option Nat) (rE : Int32) (hE : HH) (hF : F_X0_fromOf a1 a2 a3 h0 = some (rE, hE)) : MC D dA l yX0_fromOf cX0_fromOf 4 (Option.some Jvm.ClassFile.FieldType.int) [(0, 9, 12, 13)] 11 262 [va_rf a1, .int a2, va_rf a3] h0 (.inr (some (.int rE)), hE) := by
  refine mc_of hl (plainFor_of_name pn_X0) (by simp [lg_sl, cat_rf, cat_i, cat_j, cat_f, cat_d]) ?_
  intro p e s m args below meth c R hRf hRl X hr hnm
  unfold F_X0_fromOf at hF
  rw [show argL [va_rf a1, .int a2, va_rf a3] = [some (va_rf a1), some (.int a2), some (va_rf a3)] from by simp [argL, cat_rf, cat_i, cat_j, cat_f, cat_d]]
  refine G.pad 1 (L' := [some (va_rf a1), some (.int a2), some (va_rf a3), none]) rfl ?_
  refine g_aload_n X dX0_fromOf_0 rfl rfl ?_
  refine g_iconst (v := (0 : Int32)) X dX0_fromOf_1 (by decide) ?_
  refine g_aload_n X dX0_fromOf_2 rfl rfl ?_
  refine g_iload_n X dX0_fromOf_3 rfl rfl ?_
  obtain ⟨ob1, eob1, hF⟩ := bnd hF
  rcases thr_some hF with ⟨q4, h2, e5, hF⟩ | ⟨v3, h2, e5, hF⟩
  · refine g_callV X eob1 rfl rfl (w_X1_fromOf l hl D dA h0 ob1 a2 (.inl q4) h2 e5) q1381 q1382 q1383 q92 q1384 okn_X1_fromOf ⟨by rw [hRf]; exact Nat.le_of_ble_eq_true rfl, by rw [hRl]; exact Nat.le_of_ble_eq_true rfl⟩ (As := [.int a2]) (rest := [.int (0 : Int32), va_rf a3]) rfl (by first | exact Nat.le_of_ble_eq_true rfl | simp [cat_rf, cat_i, cat_j, cat_f, cat_d]) dX0_fromOf_4 (ac_x ?_)
    by_cases c7 : q4.2 = "java/lang/IllegalArgumentException"
    · have hF := (if_pos c7).symm.trans hF
      refine gx_catch X (name := "java/lang/IllegalArgumentException") [] ⟨0, 9, 12, 13⟩ [] rfl (fun z hz => nomatch hz) rfl (by decide) q1134 (by rw [c7]; exact nw_in q757 rfl) ?_
      refine G.drop [false, false, false, false] rfl ?_
      refine g_astore_n (L' := [none, none, none, some (va_rf (some q4.1))]) X dX0_fromOf_12 rfl (Nat.le_of_ble_eq_true rfl) (by first | rfl | simp [stL, rm1, clr2, cat_rf, cat_i, cat_j, cat_f, cat_d]) ?_
      refine g_iconst (v := (1 : Int32)) X dX0_fromOf_13 (by decide) ?_
      cases hF
      exact g_iret X hr dX0_fromOf_14
    · have hF := (if_neg c7).symm.trans hF
      cases hF
  · refine g_callV X eob1 rfl rfl (w_X1_fromOf l hl D dA h0 ob1 a2 (.inr v3) h2 e5) q1381 q1382 q1383 q92 q1384 okn_X1_fromOf ⟨by rw [hRf]; exact Nat.le_of_ble_eq_true rfl, by rw [hRl]; exact Nat.le_of_ble_eq_true rfl⟩ (As := [.int a2]) (rest := [.int (0 : Int32), va_rf a3]) rfl (by first | exact Nat.le_of_ble_eq_true rfl | simp [cat_rf, cat_i, cat_j, cat_f, cat_d]) dX0_fromOf_4 (ac_v ?_)
    refine g_i2l X dX0_fromOf_7 ?_
    obtain ⟨h6, eh6, hF⟩ := bnd hF
    refine g_last X eh6 dX0_fromOf_8 ?_
    refine g_goto X 15 dX0_fromOf_9 (by decide) ?_
    refine g_iconst (v := (0 : Int32)) X dX0_fromOf_15 (by decide) ?_
    cases hF
    exact g_iret X hr dX0_fromOf_16
def F_X0_toOf (a1 : Option Nat) (a2 : Int32) (a3 : Option Nat) (h0 : HH) : Option (Int32 × HH) :=
  Option.bind (isO h0 0 a1) fun ob1 =>
  thr (F_X1_toOf ob1 a2 h0) (fun q4 h2 =>
    if q4.2 = "java/lang/IllegalArgumentException" then (
      some ((1 : Int32), h2)
    ) else (
      none
    )
  ) (fun v3 h2 =>
    Option.bind (astJ h2 a3 (0 : Int32) (v3.toInt64)) fun h6 =>
    some ((0 : Int32), h6)
  )
set_option maxHeartbeats 4000000 in
theorem w_X0_toOf (l : Launch) (hl : l.stackTraces = false) (D : va_G) (dA : Nat → ClassId) (h0 : HH) (a1 : Option Nat) (a2 : Int32) (a3 : Option Nat) (rE : Int32) (hE : HH) (hF : F_X0_toOf a1 a2 a3 h0 = some (rE, hE)) : MC D dA l yX0_toOf cX0_toOf 4 (Option.some Jvm.ClassFile.FieldType.int) [(0, 9, 12, 13)] 11 262 [va_rf a1, .int a2, va_rf a3] h0 (.inr (some (.int rE)), hE) := by
  refine mc_of hl (plainFor_of_name pn_X0) (by simp [lg_sl, cat_rf, cat_i, cat_j, cat_f, cat_d]) ?_
  intro p e s m args below meth c R hRf hRl X hr hnm
  unfold F_X0_toOf at hF
  rw [show argL [va_rf a1, .int a2, va_rf a3] = [some (va_rf a1), some (.int a2), some (va_rf a3)] from by simp [argL, cat_rf, cat_i, cat_j, cat_f, cat_d]]
  refine G.pad 1 (L' := [some (va_rf a1), some (.int a2), some (va_rf a3), none]) rfl ?_
  refine g_aload_n X dX0_toOf_0 rfl rfl ?_
  refine g_iconst (v := (0 : Int32)) X dX0_toOf_1 (by decide) ?_
  refine g_aload_n X dX0_toOf_2 rfl rfl ?_
  refine g_iload_n X dX0_toOf_3 rfl rfl ?_
  obtain ⟨ob1, eob1, hF⟩ := bnd hF
  rcases thr_some hF with ⟨q4, h2, e5, hF⟩ | ⟨v3, h2, e5, hF⟩
  · refine g_callV X eob1 rfl rfl (w_X1_toOf l hl D dA h0 ob1 a2 (.inl q4) h2 e5) q1395 q1396 q1397 q92 q1398 okn_X1_toOf ⟨by rw [hRf]; exact Nat.le_of_ble_eq_true rfl, by rw [hRl]; exact Nat.le_of_ble_eq_true rfl⟩ (As := [.int a2]) (rest := [.int (0 : Int32), va_rf a3]) rfl (by first | exact Nat.le_of_ble_eq_true rfl | simp [cat_rf, cat_i, cat_j, cat_f, cat_d]) dX0_toOf_4 (ac_x ?_)
    by_cases c7 : q4.2 = "java/lang/IllegalArgumentException"
    · have hF := (if_pos c7).symm.trans hF
      refine gx_catch X (name := "java/lang/IllegalArgumentException") [] ⟨0, 9, 12, 13⟩ [] rfl (fun z hz => nomatch hz) rfl (by decide) q1134 (by rw [c7]; exact nw_in q757 rfl) ?_
      refine G.drop [false, false, false, false] rfl ?_
      refine g_astore_n (L' := [none, none, none, some (va_rf (some q4.1))]) X dX0_toOf_12 rfl (Nat.le_of_ble_eq_true rfl) (by first | rfl | simp [stL, rm1, clr2, cat_rf, cat_i, cat_j, cat_f, cat_d]) ?_
      refine g_iconst (v := (1 : Int32)) X dX0_toOf_13 (by decide) ?_
      cases hF
      exact g_iret X hr dX0_toOf_14
    · have hF := (if_neg c7).symm.trans hF
      cases hF
  · refine g_callV X eob1 rfl rfl (w_X1_toOf l hl D dA h0 ob1 a2 (.inr v3) h2 e5) q1395 q1396 q1397 q92 q1398 okn_X1_toOf ⟨by rw [hRf]; exact Nat.le_of_ble_eq_true rfl, by rw [hRl]; exact Nat.le_of_ble_eq_true rfl⟩ (As := [.int a2]) (rest := [.int (0 : Int32), va_rf a3]) rfl (by first | exact Nat.le_of_ble_eq_true rfl | simp [cat_rf, cat_i, cat_j, cat_f, cat_d]) dX0_toOf_4 (ac_v ?_)
    refine g_i2l X dX0_toOf_7 ?_
    obtain ⟨h6, eh6, hF⟩ := bnd hF
    refine g_last X eh6 dX0_toOf_8 ?_
    refine g_goto X 15 dX0_toOf_9 (by decide) ?_
    refine g_iconst (v := (0 : Int32)) X dX0_toOf_15 (by decide) ?_
    cases hF
    exact g_iret X hr dX0_toOf_16
def F_X0_doesReset (a1 : Option Nat) (a2 : Int32) (a3 : Int32) (a4 : Option Nat) (h0 : HH) : Option (Int32 × HH) :=
  Option.bind (isO h0 0 a1) fun ob1 =>
  thr (F_X1_doesReset ob1 a2 a3 h0) (fun q4 h2 =>
    if q4.2 = "java/lang/IllegalArgumentException" then (
      some ((1 : Int32), h2)
    ) else (
      none
    )
  ) (fun v3 h2 =>
    Option.bind (astJ h2 a4 (0 : Int32) (if v3 = 0 then (0 : Int64) else (1 : Int64))) fun h7 =>
    some ((0 : Int32), h7)
  )
set_option maxHeartbeats 4000000 in
theorem w_X0_doesReset (l : Launch) (hl : l.stackTraces = false) (D : va_G) (dA : Nat → ClassId) (h0 : HH) (a1 : Option Nat) (a2 : Int32) (a3 : Int32) (a4 : Option Nat) (rE : Int32) (hE : HH) (hF : F_X0_doesReset a1 a2 a3 a4 h0 = some (rE, hE)) : MC D dA l yX0_doesReset cX0_doesReset 5 (Option.some Jvm.ClassFile.FieldType.int) [(0, 17, 20, 13)] 10 242 [va_rf a1, .int a2, .int a3, va_rf a4] h0 (.inr (some (.int rE)), hE) := by
  refine mc_of hl (plainFor_of_name pn_X0) (by simp [lg_sl, cat_rf, cat_i, cat_j, cat_f, cat_d]) ?_
  intro p e s m args below meth c R hRf hRl X hr hnm
  unfold F_X0_doesReset at hF
  rw [show argL [va_rf a1, .int a2, .int a3, va_rf a4] = [some (va_rf a1), some (.int a2), some (.int a3), some (va_rf a4)] from by simp [argL, cat_rf, cat_i, cat_j, cat_f, cat_d]]
  refine G.pad 1 (L' := [some (va_rf a1), some (.int a2), some (.int a3), some (va_rf a4), none]) rfl ?_
  refine g_aload_n X dX0_doesReset_0 rfl rfl ?_
  refine g_iconst (v := (0 : Int32)) X dX0_doesReset_1 (by decide) ?_
  refine g_aload_n X dX0_doesReset_2 rfl rfl ?_
  refine g_iload_n X dX0_doesReset_3 rfl rfl ?_
  refine g_iload_n X dX0_doesReset_4 rfl rfl ?_
  obtain ⟨ob1, eob1, hF⟩ := bnd hF
  rcases thr_some hF with ⟨q4, h2, e5, hF⟩ | ⟨v3, h2, e5, hF⟩
  · refine g_callV X eob1 rfl rfl (w_X1_doesReset l hl D dA h0 ob1 a2 a3 (.inl q4) h2 e5) q1402 q1403 q1404 q92 q1405 okn_X1_doesReset ⟨by rw [hRf]; exact Nat.le_of_ble_eq_true rfl, by rw [hRl]; exact Nat.le_of_ble_eq_true rfl⟩ (As := [.int a2, .int a3]) (rest := [.int (0 : Int32), va_rf a4]) rfl (by first | exact Nat.le_of_ble_eq_true rfl | simp [cat_rf, cat_i, cat_j, cat_f, cat_d]) dX0_doesReset_5 (ac_x ?_)
    by_cases c8 : q4.2 = "java/lang/IllegalArgumentException"
    · have hF := (if_pos c8).symm.trans hF
      refine gx_catch X (name := "java/lang/IllegalArgumentException") [] ⟨0, 17, 20, 13⟩ [] rfl (fun z hz => nomatch hz) rfl (by decide) q1134 (by rw [c8]; exact nw_in q757 rfl) ?_
      refine G.drop [false, false, false, false, false] rfl ?_
      refine g_astore (L' := [none, none, none, none, some (va_rf (some q4.1))]) X dX0_doesReset_20 (Nat.le_of_ble_eq_true rfl) (by first | rfl | simp [stL, rm1, clr2, cat_rf, cat_i, cat_j, cat_f, cat_d]) ?_
      refine g_iconst (v := (1 : Int32)) X dX0_doesReset_22 (by decide) ?_
      cases hF
      exact g_iret X hr dX0_doesReset_23
    · have hF := (if_neg c8).symm.trans hF
      cases hF
  · refine g_callV X eob1 rfl rfl (w_X1_doesReset l hl D dA h0 ob1 a2 a3 (.inr v3) h2 e5) q1402 q1403 q1404 q92 q1405 okn_X1_doesReset ⟨by rw [hRf]; exact Nat.le_of_ble_eq_true rfl, by rw [hRl]; exact Nat.le_of_ble_eq_true rfl⟩ (As := [.int a2, .int a3]) (rest := [.int (0 : Int32), va_rf a4]) rfl (by first | exact Nat.le_of_ble_eq_true rfl | simp [cat_rf, cat_i, cat_j, cat_f, cat_d]) dX0_doesReset_5 (ac_v ?_)
    suffices K : G p l e R s m args below meth c (RQ D dA h0 (.inr (some (.int rE)), hE) below s) D dA h0 5 h2 16 [none, none, none, none, none] [.long (if v3 = 0 then (0 : Int64) else (1 : Int64)), .int (0 : Int32), va_rf a4] by
      refine g_if_eq X 15 dX0_doesReset_8 (by decide) (fun c6 => ?_) (fun c6 => ?_)
      · (try simp only [if_pos c6] at K)
        refine g_lconst (v := (0 : Int64)) X dX0_doesReset_15 (by decide) ?_
        refine G.drop [false, false, false, false, false] rfl ?_
        first | exact K | (simp only [if_pos c6]; exact K)
      · (try simp only [if_neg c6] at K)
        refine g_lconst (v := (1 : Int64)) X dX0_doesReset_11 (by decide) ?_
        refine g_goto X 16 dX0_doesReset_12 (by decide) ?_
        refine G.drop [false, false, false, false, false] rfl ?_
        first | exact K | (simp only [if_neg c6]; exact K)
    obtain ⟨h7, eh7, hF⟩ := bnd hF
    refine g_last X eh7 dX0_doesReset_16 ?_
    refine g_goto X 24 dX0_doesReset_17 (by decide) ?_
    refine g_iconst (v := (0 : Int32)) X dX0_doesReset_24 (by decide) ?_
    cases hF
    exact g_iret X hr dX0_doesReset_25
def F_X0_reachable (a1 : Option Nat) (a2 : Option Nat) (h0 : HH) : Option (Int32 × HH) :=
  Option.bind (isO h0 0 a1) fun ob1 =>
  thr (F_X1_reachable ob1 h0) (fun q4 h2 =>
    if q4.2 = "java/util/NoSuchElementException" then (
      some ((1 : Int32), h2)
    ) else (
      none
    )
  ) (fun v3 h2 =>
    Option.bind (astJ h2 a2 (0 : Int32) (v3.toInt64)) fun h6 =>
    some ((0 : Int32), h6)
  )
set_option maxHeartbeats 4000000 in
theorem w_X0_reachable (l : Launch) (hl : l.stackTraces = false) (D : va_G) (dA : Nat → ClassId) (h0 : HH) (a1 : Option Nat) (a2 : Option Nat) (rE : Int32) (hE : HH) (hF : F_X0_reachable a1 a2 h0 = some (rE, hE)) : MC D dA l yX0_reachable cX0_reachable 3 (Option.some Jvm.ClassFile.FieldType.int) [(0, 8, 11, 72)] 11 265 [va_rf a1, va_rf a2] h0 (.inr (some (.int rE)), hE) := by
  refine mc_of hl (plainFor_of_name pn_X0) (by simp [lg_sl, cat_rf, cat_i, cat_j, cat_f, cat_d]) ?_
  intro p e s m args below meth c R hRf hRl X hr hnm
  unfold F_X0_reachable at hF
  rw [show argL [va_rf a1, va_rf a2] = [some (va_rf a1), some (va_rf a2)] from by simp [argL, cat_rf, cat_i, cat_j, cat_f, cat_d]]
  refine G.pad 1 (L' := [some (va_rf a1), some (va_rf a2), none]) rfl ?_
  refine g_aload_n X dX0_reachable_0 rfl rfl ?_
  refine g_iconst (v := (0 : Int32)) X dX0_reachable_1 (by decide) ?_
  refine g_aload_n X dX0_reachable_2 rfl rfl ?_
  obtain ⟨ob1, eob1, hF⟩ := bnd hF
  rcases thr_some hF with ⟨q4, h2, e5, hF⟩ | ⟨v3, h2, e5, hF⟩
  · refine g_callV X eob1 rfl rfl (w_X1_reachable l hl D dA h0 ob1  (.inl q4) h2 e5) q1410 q1411 q1412 q92 q1413 okn_X1_reachable ⟨by rw [hRf]; exact Nat.le_of_ble_eq_true rfl, by rw [hRl]; exact Nat.le_of_ble_eq_true rfl⟩ (As := []) (rest := [.int (0 : Int32), va_rf a2]) rfl (by first | exact Nat.le_of_ble_eq_true rfl | simp [cat_rf, cat_i, cat_j, cat_f, cat_d]) dX0_reachable_3 (ac_x ?_)
    by_cases c7 : q4.2 = "java/util/NoSuchElementException"
    · have hF := (if_pos c7).symm.trans hF
      refine gx_catch X (name := "java/util/NoSuchElementException") [] ⟨0, 8, 11, 72⟩ [] rfl (fun z hz => nomatch hz) rfl (by decide) q1248 (by rw [c7]; exact nw_in q736 rfl) ?_
      refine G.drop [false, false, false] rfl ?_
      refine g_astore_n (L' := [none, none, some (va_rf (some q4.1))]) X dX0_reachable_11 rfl (Nat.le_of_ble_eq_true rfl) (by first | rfl | simp [stL, rm1, clr2, cat_rf, cat_i, cat_j, cat_f, cat_d]) ?_
      refine g_iconst (v := (1 : Int32)) X dX0_reachable_12 (by decide) ?_
      cases hF
      exact g_iret X hr dX0_reachable_13
    · have hF := (if_neg c7).symm.trans hF
      cases hF
  · refine g_callV X eob1 rfl rfl (w_X1_reachable l hl D dA h0 ob1  (.inr v3) h2 e5) q1410 q1411 q1412 q92 q1413 okn_X1_reachable ⟨by rw [hRf]; exact Nat.le_of_ble_eq_true rfl, by rw [hRl]; exact Nat.le_of_ble_eq_true rfl⟩ (As := []) (rest := [.int (0 : Int32), va_rf a2]) rfl (by first | exact Nat.le_of_ble_eq_true rfl | simp [cat_rf, cat_i, cat_j, cat_f, cat_d]) dX0_reachable_3 (ac_v ?_)
    refine g_i2l X dX0_reachable_6 ?_
    obtain ⟨h6, eh6, hF⟩ := bnd hF
    refine g_last X eh6 dX0_reachable_7 ?_
    refine g_goto X 14 dX0_reachable_8 (by decide) ?_
    refine g_iconst (v := (0 : Int32)) X dX0_reachable_14 (by decide) ?_
    cases hF
    exact g_iret X hr dX0_reachable_15
def F_X0_zones (a1 : Option Nat) (a2 : Option Nat) (h0 : HH) : Option (Int32 × HH) :=
  Option.bind (isO h0 0 a1) fun ob1 =>
  thr (F_X1_zones ob1 h0) (fun q4 h2 =>
    if q4.2 = "java/util/NoSuchElementException" then (
      some ((1 : Int32), h2)
    ) else (
      none
    )
  ) (fun v3 h2 =>
    Option.bind (astJ h2 a2 (0 : Int32) (v3.toInt64)) fun h6 =>
    some ((0 : Int32), h6)
  )
set_option maxHeartbeats 4000000 in
theorem w_X0_zones (l : Launch) (hl : l.stackTraces = false) (D : va_G) (dA : Nat → ClassId) (h0 : HH) (a1 : Option Nat) (a2 : Option Nat) (rE : Int32) (hE : HH) (hF : F_X0_zones a1 a2 h0 = some (rE, hE)) : MC D dA l yX0_zones cX0_zones 3 (Option.some Jvm.ClassFile.FieldType.int) [(0, 8, 11, 72)] 11 262 [va_rf a1, va_rf a2] h0 (.inr (some (.int rE)), hE) := by
  refine mc_of hl (plainFor_of_name pn_X0) (by simp [lg_sl, cat_rf, cat_i, cat_j, cat_f, cat_d]) ?_
  intro p e s m args below meth c R hRf hRl X hr hnm
  unfold F_X0_zones at hF
  rw [show argL [va_rf a1, va_rf a2] = [some (va_rf a1), some (va_rf a2)] from by simp [argL, cat_rf, cat_i, cat_j, cat_f, cat_d]]
  refine G.pad 1 (L' := [some (va_rf a1), some (va_rf a2), none]) rfl ?_
  refine g_aload_n X dX0_zones_0 rfl rfl ?_
  refine g_iconst (v := (0 : Int32)) X dX0_zones_1 (by decide) ?_
  refine g_aload_n X dX0_zones_2 rfl rfl ?_
  obtain ⟨ob1, eob1, hF⟩ := bnd hF
  rcases thr_some hF with ⟨q4, h2, e5, hF⟩ | ⟨v3, h2, e5, hF⟩
  · refine g_callV X eob1 rfl rfl (w_X1_zones l hl D dA h0 ob1  (.inl q4) h2 e5) q1483 q1484 q1485 q92 q1486 okn_X1_zones ⟨by rw [hRf]; exact Nat.le_of_ble_eq_true rfl, by rw [hRl]; exact Nat.le_of_ble_eq_true rfl⟩ (As := []) (rest := [.int (0 : Int32), va_rf a2]) rfl (by first | exact Nat.le_of_ble_eq_true rfl | simp [cat_rf, cat_i, cat_j, cat_f, cat_d]) dX0_zones_3 (ac_x ?_)
    by_cases c7 : q4.2 = "java/util/NoSuchElementException"
    · have hF := (if_pos c7).symm.trans hF
      refine gx_catch X (name := "java/util/NoSuchElementException") [] ⟨0, 8, 11, 72⟩ [] rfl (fun z hz => nomatch hz) rfl (by decide) q1248 (by rw [c7]; exact nw_in q736 rfl) ?_
      refine G.drop [false, false, false] rfl ?_
      refine g_astore_n (L' := [none, none, some (va_rf (some q4.1))]) X dX0_zones_11 rfl (Nat.le_of_ble_eq_true rfl) (by first | rfl | simp [stL, rm1, clr2, cat_rf, cat_i, cat_j, cat_f, cat_d]) ?_
      refine g_iconst (v := (1 : Int32)) X dX0_zones_12 (by decide) ?_
      cases hF
      exact g_iret X hr dX0_zones_13
    · have hF := (if_neg c7).symm.trans hF
      cases hF
  · refine g_callV X eob1 rfl rfl (w_X1_zones l hl D dA h0 ob1  (.inr v3) h2 e5) q1483 q1484 q1485 q92 q1486 okn_X1_zones ⟨by rw [hRf]; exact Nat.le_of_ble_eq_true rfl, by rw [hRl]; exact Nat.le_of_ble_eq_true rfl⟩ (As := []) (rest := [.int (0 : Int32), va_rf a2]) rfl (by first | exact Nat.le_of_ble_eq_true rfl | simp [cat_rf, cat_i, cat_j, cat_f, cat_d]) dX0_zones_3 (ac_v ?_)
    refine g_i2l X dX0_zones_6 ?_
    obtain ⟨h6, eh6, hF⟩ := bnd hF
    refine g_last X eh6 dX0_zones_7 ?_
    refine g_goto X 14 dX0_zones_8 (by decide) ?_
    refine g_iconst (v := (0 : Int32)) X dX0_zones_14 (by decide) ?_
    cases hF
    exact g_iret X hr dX0_zones_15
def F_X0_zonesOf (a1 : Option Nat) (a2 : Int32) (a3 : Option Nat) (h0 : HH) : Option (Int32 × HH) :=
  Option.bind (isO h0 0 a1) fun ob1 =>
  thr (F_X1_zonesOf ob1 a2 h0) (fun q4 h2 =>
    if q4.2 = "java/lang/IllegalArgumentException" then (
      some ((1 : Int32), h2)
    ) else (
      if q4.2 = "java/util/NoSuchElementException" then (
        some ((2 : Int32), h2)
      ) else (
        none
      )
    )
  ) (fun v3 h2 =>
    Option.bind (astJ h2 a3 (0 : Int32) (v3.toInt64)) fun h6 =>
    some ((0 : Int32), h6)
  )
set_option maxHeartbeats 4000000 in
theorem w_X0_zonesOf (l : Launch) (hl : l.stackTraces = false) (D : va_G) (dA : Nat → ClassId) (h0 : HH) (a1 : Option Nat) (a2 : Int32) (a3 : Option Nat) (rE : Int32) (hE : HH) (hF : F_X0_zonesOf a1 a2 a3 h0 = some (rE, hE)) : MC D dA l yX0_zonesOf cX0_zonesOf 4 (Option.some Jvm.ClassFile.FieldType.int) [(0, 9, 12, 13), (0, 9, 15, 72)] 11 266 [va_rf a1, .int a2, va_rf a3] h0 (.inr (some (.int rE)), hE) := by
  refine mc_of hl (plainFor_of_name pn_X0) (by simp [lg_sl, cat_rf, cat_i, cat_j, cat_f, cat_d]) ?_
  intro p e s m args below meth c R hRf hRl X hr hnm
  unfold F_X0_zonesOf at hF
  rw [show argL [va_rf a1, .int a2, va_rf a3] = [some (va_rf a1), some (.int a2), some (va_rf a3)] from by simp [argL, cat_rf, cat_i, cat_j, cat_f, cat_d]]
  refine G.pad 1 (L' := [some (va_rf a1), some (.int a2), some (va_rf a3), none]) rfl ?_
  refine g_aload_n X dX0_zonesOf_0 rfl rfl ?_
  refine g_iconst (v := (0 : Int32)) X dX0_zonesOf_1 (by decide) ?_
  refine g_aload_n X dX0_zonesOf_2 rfl rfl ?_
  refine g_iload_n X dX0_zonesOf_3 rfl rfl ?_
  obtain ⟨ob1, eob1, hF⟩ := bnd hF
  rcases thr_some hF with ⟨q4, h2, e5, hF⟩ | ⟨v3, h2, e5, hF⟩
  · refine g_callV X eob1 rfl rfl (w_X1_zonesOf l hl D dA h0 ob1 a2 (.inl q4) h2 e5) q1490 q1491 q1492 q92 q1493 okn_X1_zonesOf ⟨by rw [hRf]; exact Nat.le_of_ble_eq_true rfl, by rw [hRl]; exact Nat.le_of_ble_eq_true rfl⟩ (As := [.int a2]) (rest := [.int (0 : Int32), va_rf a3]) rfl (by first | exact Nat.le_of_ble_eq_true rfl | simp [cat_rf, cat_i, cat_j, cat_f, cat_d]) dX0_zonesOf_4 (ac_x ?_)
    by_cases c7 : q4.2 = "java/lang/IllegalArgumentException"
    · have hF := (if_pos c7).symm.trans hF
      refine gx_catch X (name := "java/lang/IllegalArgumentException") [] ⟨0, 9, 12, 13⟩ [⟨0, 9, 15, 72⟩] rfl (fun z hz => nomatch hz) rfl (by decide) q1134 (by rw [c7]; exact nw_in q757 rfl) ?_
      refine G.drop [false, false, false, false] rfl ?_
      refine g_astore_n (L' := [none, none, none, some (va_rf (some q4.1))]) X dX0_zonesOf_12 rfl (Nat.le_of_ble_eq_true rfl) (by first | rfl | simp [stL, rm1, clr2, cat_rf, cat_i, cat_j, cat_f, cat_d]) ?_
      refine g_iconst (v := (1 : Int32)) X dX0_zonesOf_13 (by decide) ?_
      cases hF
      exact g_iret X hr dX0_zonesOf_14
    · have hF := (if_neg c7).symm.trans hF
      by_cases c8 : q4.2 = "java/util/NoSuchElementException"
      · have hF := (if_pos c8).symm.trans hF
        refine gx_catch X (name := "java/util/NoSuchElementException") [⟨0, 9, 12, 13⟩] ⟨0, 9, 15, 72⟩ [] rfl (fun z hz => by rcases List.mem_singleton.mp hz with rfl; exact Or.inr ⟨by decide, "java/lang/IllegalArgumentException", q1134, by rw [c8]; exact FXnc X (by decide)⟩) rfl (by decide) q1248 (by rw [c8]; exact nw_in q736 rfl) ?_
        refine G.drop [false, false, false, false] rfl ?_
        refine g_astore_n (L' := [none, none, none, some (va_rf (some q4.1))]) X dX0_zonesOf_15 rfl (Nat.le_of_ble_eq_true rfl) (by first | rfl | simp [stL, rm1, clr2, cat_rf, cat_i, cat_j, cat_f, cat_d]) ?_
        refine g_iconst (v := (2 : Int32)) X dX0_zonesOf_16 (by decide) ?_
        cases hF
        exact g_iret X hr dX0_zonesOf_17
      · have hF := (if_neg c8).symm.trans hF
        cases hF
  · refine g_callV X eob1 rfl rfl (w_X1_zonesOf l hl D dA h0 ob1 a2 (.inr v3) h2 e5) q1490 q1491 q1492 q92 q1493 okn_X1_zonesOf ⟨by rw [hRf]; exact Nat.le_of_ble_eq_true rfl, by rw [hRl]; exact Nat.le_of_ble_eq_true rfl⟩ (As := [.int a2]) (rest := [.int (0 : Int32), va_rf a3]) rfl (by first | exact Nat.le_of_ble_eq_true rfl | simp [cat_rf, cat_i, cat_j, cat_f, cat_d]) dX0_zonesOf_4 (ac_v ?_)
    refine g_i2l X dX0_zonesOf_7 ?_
    obtain ⟨h6, eh6, hF⟩ := bnd hF
    refine g_last X eh6 dX0_zonesOf_8 ?_
    refine g_goto X 18 dX0_zonesOf_9 (by decide) ?_
    refine g_iconst (v := (0 : Int32)) X dX0_zonesOf_18 (by decide) ?_
    cases hF
    exact g_iret X hr dX0_zonesOf_19
def F_X0_fewestLines (a1 : Option Nat) (a2 : Int32) (a3 : Option Nat) (h0 : HH) : Option (Int32 × HH) :=
  Option.bind (isO h0 0 a1) fun ob1 =>
  thr (F_X1_fewestLines ob1 a2 h0) (fun q4 h2 =>
    if q4.2 = "java/lang/IllegalArgumentException" then (
      some ((1 : Int32), h2)
    ) else (
      if q4.2 = "java/util/NoSuchElementException" then (
        some ((2 : Int32), h2)
      ) else (
        none
      )
    )
  ) (fun v3 h2 =>
    Option.bind (astJ h2 a3 (0 : Int32) (v3.toInt64)) fun h6 =>
    some ((0 : Int32), h6)
  )
set_option maxHeartbeats 4000000 in
theorem w_X0_fewestLines (l : Launch) (hl : l.stackTraces = false) (D : va_G) (dA : Nat → ClassId) (h0 : HH) (a1 : Option Nat) (a2 : Int32) (a3 : Option Nat) (rE : Int32) (hE : HH) (hF : F_X0_fewestLines a1 a2 a3 h0 = some (rE, hE)) : MC D dA l yX0_fewestLines cX0_fewestLines 4 (Option.some Jvm.ClassFile.FieldType.int) [(0, 9, 12, 13), (0, 9, 15, 72)] 11 266 [va_rf a1, .int a2, va_rf a3] h0 (.inr (some (.int rE)), hE) := by
  refine mc_of hl (plainFor_of_name pn_X0) (by simp [lg_sl, cat_rf, cat_i, cat_j, cat_f, cat_d]) ?_
  intro p e s m args below meth c R hRf hRl X hr hnm
  unfold F_X0_fewestLines at hF
  rw [show argL [va_rf a1, .int a2, va_rf a3] = [some (va_rf a1), some (.int a2), some (va_rf a3)] from by simp [argL, cat_rf, cat_i, cat_j, cat_f, cat_d]]
  refine G.pad 1 (L' := [some (va_rf a1), some (.int a2), some (va_rf a3), none]) rfl ?_
  refine g_aload_n X dX0_fewestLines_0 rfl rfl ?_
  refine g_iconst (v := (0 : Int32)) X dX0_fewestLines_1 (by decide) ?_
  refine g_aload_n X dX0_fewestLines_2 rfl rfl ?_
  refine g_iload_n X dX0_fewestLines_3 rfl rfl ?_
  obtain ⟨ob1, eob1, hF⟩ := bnd hF
  rcases thr_some hF with ⟨q4, h2, e5, hF⟩ | ⟨v3, h2, e5, hF⟩
  · refine g_callV X eob1 rfl rfl (w_X1_fewestLines l hl D dA h0 ob1 a2 (.inl q4) h2 e5) q1497 q1498 q1499 q92 q1500 okn_X1_fewestLines ⟨by rw [hRf]; exact Nat.le_of_ble_eq_true rfl, by rw [hRl]; exact Nat.le_of_ble_eq_true rfl⟩ (As := [.int a2]) (rest := [.int (0 : Int32), va_rf a3]) rfl (by first | exact Nat.le_of_ble_eq_true rfl | simp [cat_rf, cat_i, cat_j, cat_f, cat_d]) dX0_fewestLines_4 (ac_x ?_)
    by_cases c7 : q4.2 = "java/lang/IllegalArgumentException"
    · have hF := (if_pos c7).symm.trans hF
      refine gx_catch X (name := "java/lang/IllegalArgumentException") [] ⟨0, 9, 12, 13⟩ [⟨0, 9, 15, 72⟩] rfl (fun z hz => nomatch hz) rfl (by decide) q1134 (by rw [c7]; exact nw_in q757 rfl) ?_
      refine G.drop [false, false, false, false] rfl ?_
      refine g_astore_n (L' := [none, none, none, some (va_rf (some q4.1))]) X dX0_fewestLines_12 rfl (Nat.le_of_ble_eq_true rfl) (by first | rfl | simp [stL, rm1, clr2, cat_rf, cat_i, cat_j, cat_f, cat_d]) ?_
      refine g_iconst (v := (1 : Int32)) X dX0_fewestLines_13 (by decide) ?_
      cases hF
      exact g_iret X hr dX0_fewestLines_14
    · have hF := (if_neg c7).symm.trans hF
      by_cases c8 : q4.2 = "java/util/NoSuchElementException"
      · have hF := (if_pos c8).symm.trans hF
        refine gx_catch X (name := "java/util/NoSuchElementException") [⟨0, 9, 12, 13⟩] ⟨0, 9, 15, 72⟩ [] rfl (fun z hz => by rcases List.mem_singleton.mp hz with rfl; exact Or.inr ⟨by decide, "java/lang/IllegalArgumentException", q1134, by rw [c8]; exact FXnc X (by decide)⟩) rfl (by decide) q1248 (by rw [c8]; exact nw_in q736 rfl) ?_
        refine G.drop [false, false, false, false] rfl ?_
        refine g_astore_n (L' := [none, none, none, some (va_rf (some q4.1))]) X dX0_fewestLines_15 rfl (Nat.le_of_ble_eq_true rfl) (by first | rfl | simp [stL, rm1, clr2, cat_rf, cat_i, cat_j, cat_f, cat_d]) ?_
        refine g_iconst (v := (2 : Int32)) X dX0_fewestLines_16 (by decide) ?_
        cases hF
        exact g_iret X hr dX0_fewestLines_17
      · have hF := (if_neg c8).symm.trans hF
        cases hF
  · refine g_callV X eob1 rfl rfl (w_X1_fewestLines l hl D dA h0 ob1 a2 (.inr v3) h2 e5) q1497 q1498 q1499 q92 q1500 okn_X1_fewestLines ⟨by rw [hRf]; exact Nat.le_of_ble_eq_true rfl, by rw [hRl]; exact Nat.le_of_ble_eq_true rfl⟩ (As := [.int a2]) (rest := [.int (0 : Int32), va_rf a3]) rfl (by first | exact Nat.le_of_ble_eq_true rfl | simp [cat_rf, cat_i, cat_j, cat_f, cat_d]) dX0_fewestLines_4 (ac_v ?_)
    refine g_i2l X dX0_fewestLines_7 ?_
    obtain ⟨h6, eh6, hF⟩ := bnd hF
    refine g_last X eh6 dX0_fewestLines_8 ?_
    refine g_goto X 18 dX0_fewestLines_9 (by decide) ?_
    refine g_iconst (v := (0 : Int32)) X dX0_fewestLines_18 (by decide) ?_
    cases hF
    exact g_iret X hr dX0_fewestLines_19
def F_X0_fewestTicks (a1 : Option Nat) (a2 : Int32) (a3 : Option Nat) (h0 : HH) : Option (Int32 × HH) :=
  Option.bind (isO h0 0 a1) fun ob1 =>
  thr (F_X1_fewestTicks ob1 a2 h0) (fun q4 h2 =>
    if q4.2 = "java/lang/IllegalArgumentException" then (
      some ((1 : Int32), h2)
    ) else (
      if q4.2 = "java/util/NoSuchElementException" then (
        some ((2 : Int32), h2)
      ) else (
        none
      )
    )
  ) (fun v3 h2 =>
    Option.bind (astJ h2 a3 (0 : Int32) (v3.toInt64)) fun h6 =>
    some ((0 : Int32), h6)
  )
set_option maxHeartbeats 4000000 in
theorem w_X0_fewestTicks (l : Launch) (hl : l.stackTraces = false) (D : va_G) (dA : Nat → ClassId) (h0 : HH) (a1 : Option Nat) (a2 : Int32) (a3 : Option Nat) (rE : Int32) (hE : HH) (hF : F_X0_fewestTicks a1 a2 a3 h0 = some (rE, hE)) : MC D dA l yX0_fewestTicks cX0_fewestTicks 4 (Option.some Jvm.ClassFile.FieldType.int) [(0, 9, 12, 13), (0, 9, 15, 72)] 10 242 [va_rf a1, .int a2, va_rf a3] h0 (.inr (some (.int rE)), hE) := by
  refine mc_of hl (plainFor_of_name pn_X0) (by simp [lg_sl, cat_rf, cat_i, cat_j, cat_f, cat_d]) ?_
  intro p e s m args below meth c R hRf hRl X hr hnm
  unfold F_X0_fewestTicks at hF
  rw [show argL [va_rf a1, .int a2, va_rf a3] = [some (va_rf a1), some (.int a2), some (va_rf a3)] from by simp [argL, cat_rf, cat_i, cat_j, cat_f, cat_d]]
  refine G.pad 1 (L' := [some (va_rf a1), some (.int a2), some (va_rf a3), none]) rfl ?_
  refine g_aload_n X dX0_fewestTicks_0 rfl rfl ?_
  refine g_iconst (v := (0 : Int32)) X dX0_fewestTicks_1 (by decide) ?_
  refine g_aload_n X dX0_fewestTicks_2 rfl rfl ?_
  refine g_iload_n X dX0_fewestTicks_3 rfl rfl ?_
  obtain ⟨ob1, eob1, hF⟩ := bnd hF
  rcases thr_some hF with ⟨q4, h2, e5, hF⟩ | ⟨v3, h2, e5, hF⟩
  · refine g_callV X eob1 rfl rfl (w_X1_fewestTicks l hl D dA h0 ob1 a2 (.inl q4) h2 e5) q1504 q1505 q1506 q92 q1507 okn_X1_fewestTicks ⟨by rw [hRf]; exact Nat.le_of_ble_eq_true rfl, by rw [hRl]; exact Nat.le_of_ble_eq_true rfl⟩ (As := [.int a2]) (rest := [.int (0 : Int32), va_rf a3]) rfl (by first | exact Nat.le_of_ble_eq_true rfl | simp [cat_rf, cat_i, cat_j, cat_f, cat_d]) dX0_fewestTicks_4 (ac_x ?_)
    by_cases c7 : q4.2 = "java/lang/IllegalArgumentException"
    · have hF := (if_pos c7).symm.trans hF
      refine gx_catch X (name := "java/lang/IllegalArgumentException") [] ⟨0, 9, 12, 13⟩ [⟨0, 9, 15, 72⟩] rfl (fun z hz => nomatch hz) rfl (by decide) q1134 (by rw [c7]; exact nw_in q757 rfl) ?_
      refine G.drop [false, false, false, false] rfl ?_
      refine g_astore_n (L' := [none, none, none, some (va_rf (some q4.1))]) X dX0_fewestTicks_12 rfl (Nat.le_of_ble_eq_true rfl) (by first | rfl | simp [stL, rm1, clr2, cat_rf, cat_i, cat_j, cat_f, cat_d]) ?_
      refine g_iconst (v := (1 : Int32)) X dX0_fewestTicks_13 (by decide) ?_
      cases hF
      exact g_iret X hr dX0_fewestTicks_14
    · have hF := (if_neg c7).symm.trans hF
      by_cases c8 : q4.2 = "java/util/NoSuchElementException"
      · have hF := (if_pos c8).symm.trans hF
        refine gx_catch X (name := "java/util/NoSuchElementException") [⟨0, 9, 12, 13⟩] ⟨0, 9, 15, 72⟩ [] rfl (fun z hz => by rcases List.mem_singleton.mp hz with rfl; exact Or.inr ⟨by decide, "java/lang/IllegalArgumentException", q1134, by rw [c8]; exact FXnc X (by decide)⟩) rfl (by decide) q1248 (by rw [c8]; exact nw_in q736 rfl) ?_
        refine G.drop [false, false, false, false] rfl ?_
        refine g_astore_n (L' := [none, none, none, some (va_rf (some q4.1))]) X dX0_fewestTicks_15 rfl (Nat.le_of_ble_eq_true rfl) (by first | rfl | simp [stL, rm1, clr2, cat_rf, cat_i, cat_j, cat_f, cat_d]) ?_
        refine g_iconst (v := (2 : Int32)) X dX0_fewestTicks_16 (by decide) ?_
        cases hF
        exact g_iret X hr dX0_fewestTicks_17
      · have hF := (if_neg c8).symm.trans hF
        cases hF
  · refine g_callV X eob1 rfl rfl (w_X1_fewestTicks l hl D dA h0 ob1 a2 (.inr v3) h2 e5) q1504 q1505 q1506 q92 q1507 okn_X1_fewestTicks ⟨by rw [hRf]; exact Nat.le_of_ble_eq_true rfl, by rw [hRl]; exact Nat.le_of_ble_eq_true rfl⟩ (As := [.int a2]) (rest := [.int (0 : Int32), va_rf a3]) rfl (by first | exact Nat.le_of_ble_eq_true rfl | simp [cat_rf, cat_i, cat_j, cat_f, cat_d]) dX0_fewestTicks_4 (ac_v ?_)
    refine g_i2l X dX0_fewestTicks_7 ?_
    obtain ⟨h6, eh6, hF⟩ := bnd hF
    refine g_last X eh6 dX0_fewestTicks_8 ?_
    refine g_goto X 18 dX0_fewestTicks_9 (by decide) ?_
    refine g_iconst (v := (0 : Int32)) X dX0_fewestTicks_18 (by decide) ?_
    cases hF
    exact g_iret X hr dX0_fewestTicks_19
def F_X0_meanBits (a1 : Option Nat) (a2 : Int32) (a3 : Option Nat) (h0 : HH) : Option (Int32 × HH) :=
  Option.bind (isO h0 0 a1) fun ob1 =>
  thr (F_X1_meanBits ob1 a2 h0) (fun q4 h2 =>
    if q4.2 = "java/lang/IllegalArgumentException" then (
      some ((1 : Int32), h2)
    ) else (
      if q4.2 = "java/util/NoSuchElementException" then (
        some ((2 : Int32), h2)
      ) else (
        none
      )
    )
  ) (fun v3 h2 =>
    Option.bind (astJ h2 a3 (0 : Int32) v3) fun h6 =>
    some ((0 : Int32), h6)
  )
set_option maxHeartbeats 4000000 in
theorem w_X0_meanBits (l : Launch) (hl : l.stackTraces = false) (D : va_G) (dA : Nat → ClassId) (h0 : HH) (a1 : Option Nat) (a2 : Int32) (a3 : Option Nat) (rE : Int32) (hE : HH) (hF : F_X0_meanBits a1 a2 a3 h0 = some (rE, hE)) : MC D dA l yX0_meanBits cX0_meanBits 4 (Option.some Jvm.ClassFile.FieldType.int) [(0, 8, 11, 13), (0, 8, 14, 72)] 10 242 [va_rf a1, .int a2, va_rf a3] h0 (.inr (some (.int rE)), hE) := by
  refine mc_of hl (plainFor_of_name pn_X0) (by simp [lg_sl, cat_rf, cat_i, cat_j, cat_f, cat_d]) ?_
  intro p e s m args below meth c R hRf hRl X hr hnm
  unfold F_X0_meanBits at hF
  rw [show argL [va_rf a1, .int a2, va_rf a3] = [some (va_rf a1), some (.int a2), some (va_rf a3)] from by simp [argL, cat_rf, cat_i, cat_j, cat_f, cat_d]]
  refine G.pad 1 (L' := [some (va_rf a1), some (.int a2), some (va_rf a3), none]) rfl ?_
  refine g_aload_n X dX0_meanBits_0 rfl rfl ?_
  refine g_iconst (v := (0 : Int32)) X dX0_meanBits_1 (by decide) ?_
  refine g_aload_n X dX0_meanBits_2 rfl rfl ?_
  refine g_iload_n X dX0_meanBits_3 rfl rfl ?_
  obtain ⟨ob1, eob1, hF⟩ := bnd hF
  rcases thr_some hF with ⟨q4, h2, e5, hF⟩ | ⟨v3, h2, e5, hF⟩
  · refine g_callV X eob1 rfl rfl (w_X1_meanBits l hl D dA h0 ob1 a2 (.inl q4) h2 e5) q1515 q1516 q1517 q92 q1518 okn_X1_meanBits ⟨by rw [hRf]; exact Nat.le_of_ble_eq_true rfl, by rw [hRl]; exact Nat.le_of_ble_eq_true rfl⟩ (As := [.int a2]) (rest := [.int (0 : Int32), va_rf a3]) rfl (by first | exact Nat.le_of_ble_eq_true rfl | simp [cat_rf, cat_i, cat_j, cat_f, cat_d]) dX0_meanBits_4 (ac_x ?_)
    by_cases c7 : q4.2 = "java/lang/IllegalArgumentException"
    · have hF := (if_pos c7).symm.trans hF
      refine gx_catch X (name := "java/lang/IllegalArgumentException") [] ⟨0, 8, 11, 13⟩ [⟨0, 8, 14, 72⟩] rfl (fun z hz => nomatch hz) rfl (by decide) q1134 (by rw [c7]; exact nw_in q757 rfl) ?_
      refine G.drop [false, false, false, false] rfl ?_
      refine g_astore_n (L' := [none, none, none, some (va_rf (some q4.1))]) X dX0_meanBits_11 rfl (Nat.le_of_ble_eq_true rfl) (by first | rfl | simp [stL, rm1, clr2, cat_rf, cat_i, cat_j, cat_f, cat_d]) ?_
      refine g_iconst (v := (1 : Int32)) X dX0_meanBits_12 (by decide) ?_
      cases hF
      exact g_iret X hr dX0_meanBits_13
    · have hF := (if_neg c7).symm.trans hF
      by_cases c8 : q4.2 = "java/util/NoSuchElementException"
      · have hF := (if_pos c8).symm.trans hF
        refine gx_catch X (name := "java/util/NoSuchElementException") [⟨0, 8, 11, 13⟩] ⟨0, 8, 14, 72⟩ [] rfl (fun z hz => by rcases List.mem_singleton.mp hz with rfl; exact Or.inr ⟨by decide, "java/lang/IllegalArgumentException", q1134, by rw [c8]; exact FXnc X (by decide)⟩) rfl (by decide) q1248 (by rw [c8]; exact nw_in q736 rfl) ?_
        refine G.drop [false, false, false, false] rfl ?_
        refine g_astore_n (L' := [none, none, none, some (va_rf (some q4.1))]) X dX0_meanBits_14 rfl (Nat.le_of_ble_eq_true rfl) (by first | rfl | simp [stL, rm1, clr2, cat_rf, cat_i, cat_j, cat_f, cat_d]) ?_
        refine g_iconst (v := (2 : Int32)) X dX0_meanBits_15 (by decide) ?_
        cases hF
        exact g_iret X hr dX0_meanBits_16
      · have hF := (if_neg c8).symm.trans hF
        cases hF
  · refine g_callV X eob1 rfl rfl (w_X1_meanBits l hl D dA h0 ob1 a2 (.inr v3) h2 e5) q1515 q1516 q1517 q92 q1518 okn_X1_meanBits ⟨by rw [hRf]; exact Nat.le_of_ble_eq_true rfl, by rw [hRl]; exact Nat.le_of_ble_eq_true rfl⟩ (As := [.int a2]) (rest := [.int (0 : Int32), va_rf a3]) rfl (by first | exact Nat.le_of_ble_eq_true rfl | simp [cat_rf, cat_i, cat_j, cat_f, cat_d]) dX0_meanBits_4 (ac_v ?_)
    obtain ⟨h6, eh6, hF⟩ := bnd hF
    refine g_last X eh6 dX0_meanBits_7 ?_
    refine g_goto X 17 dX0_meanBits_8 (by decide) ?_
    refine g_iconst (v := (0 : Int32)) X dX0_meanBits_17 (by decide) ?_
    cases hF
    exact g_iret X hr dX0_meanBits_18
def F_X0_goBack (a1 : Option Nat) (a2 : Option Nat) (h0 : HH) : Option (Int32 × HH) :=
  Option.bind (isO h0 0 a1) fun ob1 =>
  thr (F_X1_goBack ob1 h0) (fun q4 h2 =>
    if q4.2 = "java/lang/IllegalStateException" then (
      some ((1 : Int32), h2)
    ) else (
      none
    )
  ) (fun v3 h2 =>
    Option.bind (astJ h2 a2 (0 : Int32) (v3.toInt64)) fun h6 =>
    some ((0 : Int32), h6)
  )
set_option maxHeartbeats 4000000 in
theorem w_X0_goBack (l : Launch) (hl : l.stackTraces = false) (D : va_G) (dA : Nat → ClassId) (h0 : HH) (a1 : Option Nat) (a2 : Option Nat) (rE : Int32) (hE : HH) (hF : F_X0_goBack a1 a2 h0 = some (rE, hE)) : MC D dA l yX0_goBack cX0_goBack 3 (Option.some Jvm.ClassFile.FieldType.int) [(0, 8, 11, 15)] 10 240 [va_rf a1, va_rf a2] h0 (.inr (some (.int rE)), hE) := by
  refine mc_of hl (plainFor_of_name pn_X0) (by simp [lg_sl, cat_rf, cat_i, cat_j, cat_f, cat_d]) ?_
  intro p e s m args below meth c R hRf hRl X hr hnm
  unfold F_X0_goBack at hF
  rw [show argL [va_rf a1, va_rf a2] = [some (va_rf a1), some (va_rf a2)] from by simp [argL, cat_rf, cat_i, cat_j, cat_f, cat_d]]
  refine G.pad 1 (L' := [some (va_rf a1), some (va_rf a2), none]) rfl ?_
  refine g_aload_n X dX0_goBack_0 rfl rfl ?_
  refine g_iconst (v := (0 : Int32)) X dX0_goBack_1 (by decide) ?_
  refine g_aload_n X dX0_goBack_2 rfl rfl ?_
  obtain ⟨ob1, eob1, hF⟩ := bnd hF
  rcases thr_some hF with ⟨q4, h2, e5, hF⟩ | ⟨v3, h2, e5, hF⟩
  · refine g_callV X eob1 rfl rfl (w_X1_goBack l hl D dA h0 ob1  (.inl q4) h2 e5) q1536 q1537 q1538 q92 q1539 okn_X1_goBack ⟨by rw [hRf]; exact Nat.le_of_ble_eq_true rfl, by rw [hRl]; exact Nat.le_of_ble_eq_true rfl⟩ (As := []) (rest := [.int (0 : Int32), va_rf a2]) rfl (by first | exact Nat.le_of_ble_eq_true rfl | simp [cat_rf, cat_i, cat_j, cat_f, cat_d]) dX0_goBack_3 (ac_x ?_)
    by_cases c7 : q4.2 = "java/lang/IllegalStateException"
    · have hF := (if_pos c7).symm.trans hF
      refine gx_catch X (name := "java/lang/IllegalStateException") [] ⟨0, 8, 11, 15⟩ [] rfl (fun z hz => nomatch hz) rfl (by decide) q1135 (by rw [c7]; exact nw_in q694 rfl) ?_
      refine G.drop [false, false, false] rfl ?_
      refine g_astore_n (L' := [none, none, some (va_rf (some q4.1))]) X dX0_goBack_11 rfl (Nat.le_of_ble_eq_true rfl) (by first | rfl | simp [stL, rm1, clr2, cat_rf, cat_i, cat_j, cat_f, cat_d]) ?_
      refine g_iconst (v := (1 : Int32)) X dX0_goBack_12 (by decide) ?_
      cases hF
      exact g_iret X hr dX0_goBack_13
    · have hF := (if_neg c7).symm.trans hF
      cases hF
  · refine g_callV X eob1 rfl rfl (w_X1_goBack l hl D dA h0 ob1  (.inr v3) h2 e5) q1536 q1537 q1538 q92 q1539 okn_X1_goBack ⟨by rw [hRf]; exact Nat.le_of_ble_eq_true rfl, by rw [hRl]; exact Nat.le_of_ble_eq_true rfl⟩ (As := []) (rest := [.int (0 : Int32), va_rf a2]) rfl (by first | exact Nat.le_of_ble_eq_true rfl | simp [cat_rf, cat_i, cat_j, cat_f, cat_d]) dX0_goBack_3 (ac_v ?_)
    refine g_i2l X dX0_goBack_6 ?_
    obtain ⟨h6, eh6, hF⟩ := bnd hF
    refine g_last X eh6 dX0_goBack_7 ?_
    refine g_goto X 14 dX0_goBack_8 (by decide) ?_
    refine g_iconst (v := (0 : Int32)) X dX0_goBack_14 (by decide) ?_
    cases hF
    exact g_iret X hr dX0_goBack_15
def F_X0_undo (a1 : Option Nat) (a2 : Option Nat) (h0 : HH) : Option (Int32 × HH) :=
  Option.bind (isO h0 0 a1) fun ob1 =>
  thr (F_X1_undo ob1 h0) (fun q4 h2 =>
    if q4.2 = "java/lang/IllegalStateException" then (
      some ((1 : Int32), h2)
    ) else (
      none
    )
  ) (fun v3 h2 =>
    Option.bind (astJ h2 a2 (0 : Int32) (v3.toInt64)) fun h6 =>
    some ((0 : Int32), h6)
  )
set_option maxHeartbeats 4000000 in
theorem w_X0_undo (l : Launch) (hl : l.stackTraces = false) (D : va_G) (dA : Nat → ClassId) (h0 : HH) (a1 : Option Nat) (a2 : Option Nat) (rE : Int32) (hE : HH) (hF : F_X0_undo a1 a2 h0 = some (rE, hE)) : MC D dA l yX0_undo cX0_undo 3 (Option.some Jvm.ClassFile.FieldType.int) [(0, 8, 11, 15)] 10 240 [va_rf a1, va_rf a2] h0 (.inr (some (.int rE)), hE) := by
  refine mc_of hl (plainFor_of_name pn_X0) (by simp [lg_sl, cat_rf, cat_i, cat_j, cat_f, cat_d]) ?_
  intro p e s m args below meth c R hRf hRl X hr hnm
  unfold F_X0_undo at hF
  rw [show argL [va_rf a1, va_rf a2] = [some (va_rf a1), some (va_rf a2)] from by simp [argL, cat_rf, cat_i, cat_j, cat_f, cat_d]]
  refine G.pad 1 (L' := [some (va_rf a1), some (va_rf a2), none]) rfl ?_
  refine g_aload_n X dX0_undo_0 rfl rfl ?_
  refine g_iconst (v := (0 : Int32)) X dX0_undo_1 (by decide) ?_
  refine g_aload_n X dX0_undo_2 rfl rfl ?_
  obtain ⟨ob1, eob1, hF⟩ := bnd hF
  rcases thr_some hF with ⟨q4, h2, e5, hF⟩ | ⟨v3, h2, e5, hF⟩
  · refine g_callV X eob1 rfl rfl (w_X1_undo l hl D dA h0 ob1  (.inl q4) h2 e5) q1546 q1547 q1548 q92 q1549 okn_X1_undo ⟨by rw [hRf]; exact Nat.le_of_ble_eq_true rfl, by rw [hRl]; exact Nat.le_of_ble_eq_true rfl⟩ (As := []) (rest := [.int (0 : Int32), va_rf a2]) rfl (by first | exact Nat.le_of_ble_eq_true rfl | simp [cat_rf, cat_i, cat_j, cat_f, cat_d]) dX0_undo_3 (ac_x ?_)
    by_cases c7 : q4.2 = "java/lang/IllegalStateException"
    · have hF := (if_pos c7).symm.trans hF
      refine gx_catch X (name := "java/lang/IllegalStateException") [] ⟨0, 8, 11, 15⟩ [] rfl (fun z hz => nomatch hz) rfl (by decide) q1135 (by rw [c7]; exact nw_in q694 rfl) ?_
      refine G.drop [false, false, false] rfl ?_
      refine g_astore_n (L' := [none, none, some (va_rf (some q4.1))]) X dX0_undo_11 rfl (Nat.le_of_ble_eq_true rfl) (by first | rfl | simp [stL, rm1, clr2, cat_rf, cat_i, cat_j, cat_f, cat_d]) ?_
      refine g_iconst (v := (1 : Int32)) X dX0_undo_12 (by decide) ?_
      cases hF
      exact g_iret X hr dX0_undo_13
    · have hF := (if_neg c7).symm.trans hF
      cases hF
  · refine g_callV X eob1 rfl rfl (w_X1_undo l hl D dA h0 ob1  (.inr v3) h2 e5) q1546 q1547 q1548 q92 q1549 okn_X1_undo ⟨by rw [hRf]; exact Nat.le_of_ble_eq_true rfl, by rw [hRl]; exact Nat.le_of_ble_eq_true rfl⟩ (As := []) (rest := [.int (0 : Int32), va_rf a2]) rfl (by first | exact Nat.le_of_ble_eq_true rfl | simp [cat_rf, cat_i, cat_j, cat_f, cat_d]) dX0_undo_3 (ac_v ?_)
    refine g_i2l X dX0_undo_6 ?_
    obtain ⟨h6, eh6, hF⟩ := bnd hF
    refine g_last X eh6 dX0_undo_7 ?_
    refine g_goto X 14 dX0_undo_8 (by decide) ?_
    refine g_iconst (v := (0 : Int32)) X dX0_undo_14 (by decide) ?_
    cases hF
    exact g_iret X hr dX0_undo_15
def F_X0_type (a1 : Option Nat) (a2 : Int32) (a3 : Option Nat) (h0 : HH) : Option (Int32 × HH) :=
  Option.bind (isO h0 0 a1) fun ob1 =>
  thr (F_X1_type ob1 a2 h0) (fun q4 h2 =>
    if q4.2 = "java/lang/IllegalArgumentException" then (
      some ((1 : Int32), h2)
    ) else (
      if q4.2 = "java/lang/IllegalStateException" then (
        some ((2 : Int32), h2)
      ) else (
        none
      )
    )
  ) (fun v3 h2 =>
    Option.bind (astJ h2 a3 (0 : Int32) (v3.toInt64)) fun h6 =>
    some ((0 : Int32), h6)
  )
set_option maxHeartbeats 4000000 in
theorem w_X0_type (l : Launch) (hl : l.stackTraces = false) (D : va_G) (dA : Nat → ClassId) (h0 : HH) (a1 : Option Nat) (a2 : Int32) (a3 : Option Nat) (rE : Int32) (hE : HH) (hF : F_X0_type a1 a2 a3 h0 = some (rE, hE)) : MC D dA l yX0_type cX0_type 4 (Option.some Jvm.ClassFile.FieldType.int) [(0, 9, 12, 13), (0, 9, 15, 15)] 10 241 [va_rf a1, .int a2, va_rf a3] h0 (.inr (some (.int rE)), hE) := by
  refine mc_of hl (plainFor_of_name pn_X0) (by simp [lg_sl, cat_rf, cat_i, cat_j, cat_f, cat_d]) ?_
  intro p e s m args below meth c R hRf hRl X hr hnm
  unfold F_X0_type at hF
  rw [show argL [va_rf a1, .int a2, va_rf a3] = [some (va_rf a1), some (.int a2), some (va_rf a3)] from by simp [argL, cat_rf, cat_i, cat_j, cat_f, cat_d]]
  refine G.pad 1 (L' := [some (va_rf a1), some (.int a2), some (va_rf a3), none]) rfl ?_
  refine g_aload_n X dX0_type_0 rfl rfl ?_
  refine g_iconst (v := (0 : Int32)) X dX0_type_1 (by decide) ?_
  refine g_aload_n X dX0_type_2 rfl rfl ?_
  refine g_iload_n X dX0_type_3 rfl rfl ?_
  obtain ⟨ob1, eob1, hF⟩ := bnd hF
  rcases thr_some hF with ⟨q4, h2, e5, hF⟩ | ⟨v3, h2, e5, hF⟩
  · refine g_callV X eob1 rfl rfl (w_X1_type l hl D dA h0 ob1 a2 (.inl q4) h2 e5) q1568 q1569 q1570 q92 q1571 okn_X1_type ⟨by rw [hRf]; exact Nat.le_of_ble_eq_true rfl, by rw [hRl]; exact Nat.le_of_ble_eq_true rfl⟩ (As := [.int a2]) (rest := [.int (0 : Int32), va_rf a3]) rfl (by first | exact Nat.le_of_ble_eq_true rfl | simp [cat_rf, cat_i, cat_j, cat_f, cat_d]) dX0_type_4 (ac_x ?_)
    by_cases c7 : q4.2 = "java/lang/IllegalArgumentException"
    · have hF := (if_pos c7).symm.trans hF
      refine gx_catch X (name := "java/lang/IllegalArgumentException") [] ⟨0, 9, 12, 13⟩ [⟨0, 9, 15, 15⟩] rfl (fun z hz => nomatch hz) rfl (by decide) q1134 (by rw [c7]; exact nw_in q757 rfl) ?_
      refine G.drop [false, false, false, false] rfl ?_
      refine g_astore_n (L' := [none, none, none, some (va_rf (some q4.1))]) X dX0_type_12 rfl (Nat.le_of_ble_eq_true rfl) (by first | rfl | simp [stL, rm1, clr2, cat_rf, cat_i, cat_j, cat_f, cat_d]) ?_
      refine g_iconst (v := (1 : Int32)) X dX0_type_13 (by decide) ?_
      cases hF
      exact g_iret X hr dX0_type_14
    · have hF := (if_neg c7).symm.trans hF
      by_cases c8 : q4.2 = "java/lang/IllegalStateException"
      · have hF := (if_pos c8).symm.trans hF
        refine gx_catch X (name := "java/lang/IllegalStateException") [⟨0, 9, 12, 13⟩] ⟨0, 9, 15, 15⟩ [] rfl (fun z hz => by rcases List.mem_singleton.mp hz with rfl; exact Or.inr ⟨by decide, "java/lang/IllegalArgumentException", q1134, by rw [c8]; exact FXnc X (by decide)⟩) rfl (by decide) q1135 (by rw [c8]; exact nw_in q694 rfl) ?_
        refine G.drop [false, false, false, false] rfl ?_
        refine g_astore_n (L' := [none, none, none, some (va_rf (some q4.1))]) X dX0_type_15 rfl (Nat.le_of_ble_eq_true rfl) (by first | rfl | simp [stL, rm1, clr2, cat_rf, cat_i, cat_j, cat_f, cat_d]) ?_
        refine g_iconst (v := (2 : Int32)) X dX0_type_16 (by decide) ?_
        cases hF
        exact g_iret X hr dX0_type_17
      · have hF := (if_neg c8).symm.trans hF
        cases hF
  · refine g_callV X eob1 rfl rfl (w_X1_type l hl D dA h0 ob1 a2 (.inr v3) h2 e5) q1568 q1569 q1570 q92 q1571 okn_X1_type ⟨by rw [hRf]; exact Nat.le_of_ble_eq_true rfl, by rw [hRl]; exact Nat.le_of_ble_eq_true rfl⟩ (As := [.int a2]) (rest := [.int (0 : Int32), va_rf a3]) rfl (by first | exact Nat.le_of_ble_eq_true rfl | simp [cat_rf, cat_i, cat_j, cat_f, cat_d]) dX0_type_4 (ac_v ?_)
    refine g_i2l X dX0_type_7 ?_
    obtain ⟨h6, eh6, hF⟩ := bnd hF
    refine g_last X eh6 dX0_type_8 ?_
    refine g_goto X 18 dX0_type_9 (by decide) ?_
    refine g_iconst (v := (0 : Int32)) X dX0_type_18 (by decide) ?_
    cases hF
    exact g_iret X hr dX0_type_19
def F_X0_faultPosition (a1 : Option Nat) (a2 : Option Nat) (h0 : HH) : Option (Int32 × HH) :=
  Option.bind (isO h0 0 a1) fun ob1 =>
  thr (F_X1_faultPosition ob1 h0) (fun q4 h2 =>
    if q4.2 = "java/util/NoSuchElementException" then (
      some ((1 : Int32), h2)
    ) else (
      none
    )
  ) (fun v3 h2 =>
    Option.bind (astJ h2 a2 (0 : Int32) (v3.toInt64)) fun h6 =>
    some ((0 : Int32), h6)
  )
set_option maxHeartbeats 4000000 in
theorem w_X0_faultPosition (l : Launch) (hl : l.stackTraces = false) (D : va_G) (dA : Nat → ClassId) (h0 : HH) (a1 : Option Nat) (a2 : Option Nat) (rE : Int32) (hE : HH) (hF : F_X0_faultPosition a1 a2 h0 = some (rE, hE)) : MC D dA l yX0_faultPosition cX0_faultPosition 3 (Option.some Jvm.ClassFile.FieldType.int) [(0, 8, 11, 72)] 19 496 [va_rf a1, va_rf a2] h0 (.inr (some (.int rE)), hE) := by
  refine mc_of hl (plainFor_of_name pn_X0) (by simp [lg_sl, cat_rf, cat_i, cat_j, cat_f, cat_d]) ?_
  intro p e s m args below meth c R hRf hRl X hr hnm
  unfold F_X0_faultPosition at hF
  rw [show argL [va_rf a1, va_rf a2] = [some (va_rf a1), some (va_rf a2)] from by simp [argL, cat_rf, cat_i, cat_j, cat_f, cat_d]]
  refine G.pad 1 (L' := [some (va_rf a1), some (va_rf a2), none]) rfl ?_
  refine g_aload_n X dX0_faultPosition_0 rfl rfl ?_
  refine g_iconst (v := (0 : Int32)) X dX0_faultPosition_1 (by decide) ?_
  refine g_aload_n X dX0_faultPosition_2 rfl rfl ?_
  obtain ⟨ob1, eob1, hF⟩ := bnd hF
  rcases thr_some hF with ⟨q4, h2, e5, hF⟩ | ⟨v3, h2, e5, hF⟩
  · refine g_callV X eob1 rfl rfl (w_X1_faultPosition l hl D dA h0 ob1  (.inl q4) h2 e5) q1597 q1598 q1599 q92 q1600 okn_X1_faultPosition ⟨by rw [hRf]; exact Nat.le_of_ble_eq_true rfl, by rw [hRl]; exact Nat.le_of_ble_eq_true rfl⟩ (As := []) (rest := [.int (0 : Int32), va_rf a2]) rfl (by first | exact Nat.le_of_ble_eq_true rfl | simp [cat_rf, cat_i, cat_j, cat_f, cat_d]) dX0_faultPosition_3 (ac_x ?_)
    by_cases c7 : q4.2 = "java/util/NoSuchElementException"
    · have hF := (if_pos c7).symm.trans hF
      refine gx_catch X (name := "java/util/NoSuchElementException") [] ⟨0, 8, 11, 72⟩ [] rfl (fun z hz => nomatch hz) rfl (by decide) q1248 (by rw [c7]; exact nw_in q736 rfl) ?_
      refine G.drop [false, false, false] rfl ?_
      refine g_astore_n (L' := [none, none, some (va_rf (some q4.1))]) X dX0_faultPosition_11 rfl (Nat.le_of_ble_eq_true rfl) (by first | rfl | simp [stL, rm1, clr2, cat_rf, cat_i, cat_j, cat_f, cat_d]) ?_
      refine g_iconst (v := (1 : Int32)) X dX0_faultPosition_12 (by decide) ?_
      cases hF
      exact g_iret X hr dX0_faultPosition_13
    · have hF := (if_neg c7).symm.trans hF
      cases hF
  · refine g_callV X eob1 rfl rfl (w_X1_faultPosition l hl D dA h0 ob1  (.inr v3) h2 e5) q1597 q1598 q1599 q92 q1600 okn_X1_faultPosition ⟨by rw [hRf]; exact Nat.le_of_ble_eq_true rfl, by rw [hRl]; exact Nat.le_of_ble_eq_true rfl⟩ (As := []) (rest := [.int (0 : Int32), va_rf a2]) rfl (by first | exact Nat.le_of_ble_eq_true rfl | simp [cat_rf, cat_i, cat_j, cat_f, cat_d]) dX0_faultPosition_3 (ac_v ?_)
    refine g_i2l X dX0_faultPosition_6 ?_
    obtain ⟨h6, eh6, hF⟩ := bnd hF
    refine g_last X eh6 dX0_faultPosition_7 ?_
    refine g_goto X 14 dX0_faultPosition_8 (by decide) ?_
    refine g_iconst (v := (0 : Int32)) X dX0_faultPosition_14 (by decide) ?_
    cases hF
    exact g_iret X hr dX0_faultPosition_15
def F_X0_faultReason (a1 : Option Nat) (a2 : Option Nat) (h0 : HH) : Option (Int32 × HH) :=
  Option.bind (isO h0 0 a1) fun ob1 =>
  thr (F_X1_faultReason ob1 h0) (fun q4 h2 =>
    if q4.2 = "java/util/NoSuchElementException" then (
      some ((1 : Int32), h2)
    ) else (
      none
    )
  ) (fun v3 h2 =>
    Option.bind (astJ h2 a2 (0 : Int32) (v3.toInt64)) fun h6 =>
    some ((0 : Int32), h6)
  )
set_option maxHeartbeats 4000000 in
theorem w_X0_faultReason (l : Launch) (hl : l.stackTraces = false) (D : va_G) (dA : Nat → ClassId) (h0 : HH) (a1 : Option Nat) (a2 : Option Nat) (rE : Int32) (hE : HH) (hF : F_X0_faultReason a1 a2 h0 = some (rE, hE)) : MC D dA l yX0_faultReason cX0_faultReason 3 (Option.some Jvm.ClassFile.FieldType.int) [(0, 8, 11, 72)] 19 496 [va_rf a1, va_rf a2] h0 (.inr (some (.int rE)), hE) := by
  refine mc_of hl (plainFor_of_name pn_X0) (by simp [lg_sl, cat_rf, cat_i, cat_j, cat_f, cat_d]) ?_
  intro p e s m args below meth c R hRf hRl X hr hnm
  unfold F_X0_faultReason at hF
  rw [show argL [va_rf a1, va_rf a2] = [some (va_rf a1), some (va_rf a2)] from by simp [argL, cat_rf, cat_i, cat_j, cat_f, cat_d]]
  refine G.pad 1 (L' := [some (va_rf a1), some (va_rf a2), none]) rfl ?_
  refine g_aload_n X dX0_faultReason_0 rfl rfl ?_
  refine g_iconst (v := (0 : Int32)) X dX0_faultReason_1 (by decide) ?_
  refine g_aload_n X dX0_faultReason_2 rfl rfl ?_
  obtain ⟨ob1, eob1, hF⟩ := bnd hF
  rcases thr_some hF with ⟨q4, h2, e5, hF⟩ | ⟨v3, h2, e5, hF⟩
  · refine g_callV X eob1 rfl rfl (w_X1_faultReason l hl D dA h0 ob1  (.inl q4) h2 e5) q1734 q1735 q1736 q92 q1737 okn_X1_faultReason ⟨by rw [hRf]; exact Nat.le_of_ble_eq_true rfl, by rw [hRl]; exact Nat.le_of_ble_eq_true rfl⟩ (As := []) (rest := [.int (0 : Int32), va_rf a2]) rfl (by first | exact Nat.le_of_ble_eq_true rfl | simp [cat_rf, cat_i, cat_j, cat_f, cat_d]) dX0_faultReason_3 (ac_x ?_)
    by_cases c7 : q4.2 = "java/util/NoSuchElementException"
    · have hF := (if_pos c7).symm.trans hF
      refine gx_catch X (name := "java/util/NoSuchElementException") [] ⟨0, 8, 11, 72⟩ [] rfl (fun z hz => nomatch hz) rfl (by decide) q1248 (by rw [c7]; exact nw_in q736 rfl) ?_
      refine G.drop [false, false, false] rfl ?_
      refine g_astore_n (L' := [none, none, some (va_rf (some q4.1))]) X dX0_faultReason_11 rfl (Nat.le_of_ble_eq_true rfl) (by first | rfl | simp [stL, rm1, clr2, cat_rf, cat_i, cat_j, cat_f, cat_d]) ?_
      refine g_iconst (v := (1 : Int32)) X dX0_faultReason_12 (by decide) ?_
      cases hF
      exact g_iret X hr dX0_faultReason_13
    · have hF := (if_neg c7).symm.trans hF
      cases hF
  · refine g_callV X eob1 rfl rfl (w_X1_faultReason l hl D dA h0 ob1  (.inr v3) h2 e5) q1734 q1735 q1736 q92 q1737 okn_X1_faultReason ⟨by rw [hRf]; exact Nat.le_of_ble_eq_true rfl, by rw [hRl]; exact Nat.le_of_ble_eq_true rfl⟩ (As := []) (rest := [.int (0 : Int32), va_rf a2]) rfl (by first | exact Nat.le_of_ble_eq_true rfl | simp [cat_rf, cat_i, cat_j, cat_f, cat_d]) dX0_faultReason_3 (ac_v ?_)
    refine g_i2l X dX0_faultReason_6 ?_
    obtain ⟨h6, eh6, hF⟩ := bnd hF
    refine g_last X eh6 dX0_faultReason_7 ?_
    refine g_goto X 14 dX0_faultReason_8 (by decide) ?_
    refine g_iconst (v := (0 : Int32)) X dX0_faultReason_14 (by decide) ?_
    cases hF
    exact g_iret X hr dX0_faultReason_15
def F_X0_faultCause (a1 : Option Nat) (a2 : Option Nat) (h0 : HH) : Option (Int32 × HH) :=
  Option.bind (isO h0 0 a1) fun ob1 =>
  thr (F_X1_faultCause ob1 h0) (fun q4 h2 =>
    if q4.2 = "java/util/NoSuchElementException" then (
      some ((1 : Int32), h2)
    ) else (
      none
    )
  ) (fun v3 h2 =>
    Option.bind (astJ h2 a2 (0 : Int32) (v3.toInt64)) fun h6 =>
    some ((0 : Int32), h6)
  )
set_option maxHeartbeats 4000000 in
theorem w_X0_faultCause (l : Launch) (hl : l.stackTraces = false) (D : va_G) (dA : Nat → ClassId) (h0 : HH) (a1 : Option Nat) (a2 : Option Nat) (rE : Int32) (hE : HH) (hF : F_X0_faultCause a1 a2 h0 = some (rE, hE)) : MC D dA l yX0_faultCause cX0_faultCause 3 (Option.some Jvm.ClassFile.FieldType.int) [(0, 8, 11, 72)] 19 496 [va_rf a1, va_rf a2] h0 (.inr (some (.int rE)), hE) := by
  refine mc_of hl (plainFor_of_name pn_X0) (by simp [lg_sl, cat_rf, cat_i, cat_j, cat_f, cat_d]) ?_
  intro p e s m args below meth c R hRf hRl X hr hnm
  unfold F_X0_faultCause at hF
  rw [show argL [va_rf a1, va_rf a2] = [some (va_rf a1), some (va_rf a2)] from by simp [argL, cat_rf, cat_i, cat_j, cat_f, cat_d]]
  refine G.pad 1 (L' := [some (va_rf a1), some (va_rf a2), none]) rfl ?_
  refine g_aload_n X dX0_faultCause_0 rfl rfl ?_
  refine g_iconst (v := (0 : Int32)) X dX0_faultCause_1 (by decide) ?_
  refine g_aload_n X dX0_faultCause_2 rfl rfl ?_
  obtain ⟨ob1, eob1, hF⟩ := bnd hF
  rcases thr_some hF with ⟨q4, h2, e5, hF⟩ | ⟨v3, h2, e5, hF⟩
  · refine g_callV X eob1 rfl rfl (w_X1_faultCause l hl D dA h0 ob1  (.inl q4) h2 e5) q1741 q1742 q1743 q92 q1744 okn_X1_faultCause ⟨by rw [hRf]; exact Nat.le_of_ble_eq_true rfl, by rw [hRl]; exact Nat.le_of_ble_eq_true rfl⟩ (As := []) (rest := [.int (0 : Int32), va_rf a2]) rfl (by first | exact Nat.le_of_ble_eq_true rfl | simp [cat_rf, cat_i, cat_j, cat_f, cat_d]) dX0_faultCause_3 (ac_x ?_)
    by_cases c7 : q4.2 = "java/util/NoSuchElementException"
    · have hF := (if_pos c7).symm.trans hF
      refine gx_catch X (name := "java/util/NoSuchElementException") [] ⟨0, 8, 11, 72⟩ [] rfl (fun z hz => nomatch hz) rfl (by decide) q1248 (by rw [c7]; exact nw_in q736 rfl) ?_
      refine G.drop [false, false, false] rfl ?_
      refine g_astore_n (L' := [none, none, some (va_rf (some q4.1))]) X dX0_faultCause_11 rfl (Nat.le_of_ble_eq_true rfl) (by first | rfl | simp [stL, rm1, clr2, cat_rf, cat_i, cat_j, cat_f, cat_d]) ?_
      refine g_iconst (v := (1 : Int32)) X dX0_faultCause_12 (by decide) ?_
      cases hF
      exact g_iret X hr dX0_faultCause_13
    · have hF := (if_neg c7).symm.trans hF
      cases hF
  · refine g_callV X eob1 rfl rfl (w_X1_faultCause l hl D dA h0 ob1  (.inr v3) h2 e5) q1741 q1742 q1743 q92 q1744 okn_X1_faultCause ⟨by rw [hRf]; exact Nat.le_of_ble_eq_true rfl, by rw [hRl]; exact Nat.le_of_ble_eq_true rfl⟩ (As := []) (rest := [.int (0 : Int32), va_rf a2]) rfl (by first | exact Nat.le_of_ble_eq_true rfl | simp [cat_rf, cat_i, cat_j, cat_f, cat_d]) dX0_faultCause_3 (ac_v ?_)
    refine g_i2l X dX0_faultCause_6 ?_
    obtain ⟨h6, eh6, hF⟩ := bnd hF
    refine g_last X eh6 dX0_faultCause_7 ?_
    refine g_goto X 14 dX0_faultCause_8 (by decide) ?_
    refine g_iconst (v := (0 : Int32)) X dX0_faultCause_14 (by decide) ?_
    cases hF
    exact g_iret X hr dX0_faultCause_15
def F_X0_play (a1 : Option Nat) (a2 : Option Nat) (h0 : HH) : Option (Int32 × HH) :=
  Option.bind (isO h0 0 a1) fun ob1 =>
  thr (F_X1_play ob1 h0) (fun q4 h2 =>
    if q4.2 = "java/lang/IllegalStateException" then (
      some ((1 : Int32), h2)
    ) else (
      none
    )
  ) (fun v3 h2 =>
    Option.bind (astJ h2 a2 (0 : Int32) (v3.toInt64)) fun h6 =>
    some ((0 : Int32), h6)
  )
set_option maxHeartbeats 4000000 in
theorem w_X0_play (l : Launch) (hl : l.stackTraces = false) (D : va_G) (dA : Nat → ClassId) (h0 : HH) (a1 : Option Nat) (a2 : Option Nat) (rE : Int32) (hE : HH) (hF : F_X0_play a1 a2 h0 = some (rE, hE)) : MC D dA l yX0_play cX0_play 3 (Option.some Jvm.ClassFile.FieldType.int) [(0, 8, 11, 15)] 18 476 [va_rf a1, va_rf a2] h0 (.inr (some (.int rE)), hE) := by
  refine mc_of hl (plainFor_of_name pn_X0) (by simp [lg_sl, cat_rf, cat_i, cat_j, cat_f, cat_d]) ?_
  intro p e s m args below meth c R hRf hRl X hr hnm
  unfold F_X0_play at hF
  rw [show argL [va_rf a1, va_rf a2] = [some (va_rf a1), some (va_rf a2)] from by simp [argL, cat_rf, cat_i, cat_j, cat_f, cat_d]]
  refine G.pad 1 (L' := [some (va_rf a1), some (va_rf a2), none]) rfl ?_
  refine g_aload_n X dX0_play_0 rfl rfl ?_
  refine g_iconst (v := (0 : Int32)) X dX0_play_1 (by decide) ?_
  refine g_aload_n X dX0_play_2 rfl rfl ?_
  obtain ⟨ob1, eob1, hF⟩ := bnd hF
  rcases thr_some hF with ⟨q4, h2, e5, hF⟩ | ⟨v3, h2, e5, hF⟩
  · refine g_callV X eob1 rfl rfl (w_X1_play l hl D dA h0 ob1  (.inl q4) h2 e5) q1748 q1749 q1750 q92 q1751 okn_X1_play ⟨by rw [hRf]; exact Nat.le_of_ble_eq_true rfl, by rw [hRl]; exact Nat.le_of_ble_eq_true rfl⟩ (As := []) (rest := [.int (0 : Int32), va_rf a2]) rfl (by first | exact Nat.le_of_ble_eq_true rfl | simp [cat_rf, cat_i, cat_j, cat_f, cat_d]) dX0_play_3 (ac_x ?_)
    by_cases c7 : q4.2 = "java/lang/IllegalStateException"
    · have hF := (if_pos c7).symm.trans hF
      refine gx_catch X (name := "java/lang/IllegalStateException") [] ⟨0, 8, 11, 15⟩ [] rfl (fun z hz => nomatch hz) rfl (by decide) q1135 (by rw [c7]; exact nw_in q694 rfl) ?_
      refine G.drop [false, false, false] rfl ?_
      refine g_astore_n (L' := [none, none, some (va_rf (some q4.1))]) X dX0_play_11 rfl (Nat.le_of_ble_eq_true rfl) (by first | rfl | simp [stL, rm1, clr2, cat_rf, cat_i, cat_j, cat_f, cat_d]) ?_
      refine g_iconst (v := (1 : Int32)) X dX0_play_12 (by decide) ?_
      cases hF
      exact g_iret X hr dX0_play_13
    · have hF := (if_neg c7).symm.trans hF
      cases hF
  · refine g_callV X eob1 rfl rfl (w_X1_play l hl D dA h0 ob1  (.inr v3) h2 e5) q1748 q1749 q1750 q92 q1751 okn_X1_play ⟨by rw [hRf]; exact Nat.le_of_ble_eq_true rfl, by rw [hRl]; exact Nat.le_of_ble_eq_true rfl⟩ (As := []) (rest := [.int (0 : Int32), va_rf a2]) rfl (by first | exact Nat.le_of_ble_eq_true rfl | simp [cat_rf, cat_i, cat_j, cat_f, cat_d]) dX0_play_3 (ac_v ?_)
    refine g_i2l X dX0_play_6 ?_
    obtain ⟨h6, eh6, hF⟩ := bnd hF
    refine g_last X eh6 dX0_play_7 ?_
    refine g_goto X 14 dX0_play_8 (by decide) ?_
    refine g_iconst (v := (0 : Int32)) X dX0_play_14 (by decide) ?_
    cases hF
    exact g_iret X hr dX0_play_15
