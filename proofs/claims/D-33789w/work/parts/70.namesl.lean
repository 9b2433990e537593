/-! FerryClocksLaw -/
set_option maxRecDepth 100000
def RX0 : String := "FerryClocksLaw"
abbrev cX0_tell : ByteArray := method_3_code
def yX0_tell : MethodName := ⟨RX0, "tell", "(LFerryClocks;III[J)I"⟩
def dkwX0_tell_1 : List UInt8 := [4, 172, 58, 5, 5, 172, 3, 172]
abbrev dktX0_tell_1 : List UInt8 := dkwX0_tell_1 ++ []
def dkwX0_tell_0 : List UInt8 := [25, 4, 3, 42, 27, 28, 29, 182, 0, 7, 153, 0, 7, 10, 167, 0, 4, 9, 80, 167, 0, 11, 58, 5]
abbrev dktX0_tell_0 : List UInt8 := dkwX0_tell_0 ++ dktX0_tell_1
theorem dksX0_tell_0 : cX0_tell.data.toList.drop 0 = dktX0_tell_0 := by decide +kernel
theorem dksX0_tell_1 : cX0_tell.data.toList.drop 24 = dktX0_tell_1 := dk_seg dksX0_tell_0 24 rfl rfl
theorem dX0_tell_0 : decode cX0_tell 0 = .ok (.aload 4, 2) := dk_25 4 (dk_at dksX0_tell_0 0 rfl rfl)
theorem dX0_tell_2 : decode cX0_tell 2 = .ok (.iconst 0, 1) := dk_3 (dk_at dksX0_tell_0 2 rfl rfl)
theorem dX0_tell_3 : decode cX0_tell 3 = .ok (.aload_n 0, 1) := dk_42 (dk_at dksX0_tell_0 3 rfl rfl)
theorem dX0_tell_4 : decode cX0_tell 4 = .ok (.iload_n 1, 1) := dk_27 (dk_at dksX0_tell_0 4 rfl rfl)
theorem dX0_tell_5 : decode cX0_tell 5 = .ok (.iload_n 2, 1) := dk_28 (dk_at dksX0_tell_0 5 rfl rfl)
theorem dX0_tell_6 : decode cX0_tell 6 = .ok (.iload_n 3, 1) := dk_29 (dk_at dksX0_tell_0 6 rfl rfl)
theorem dX0_tell_7 : decode cX0_tell 7 = .ok (.invokevirtual 7, 3) := dk_182 0 7 (dk_at dksX0_tell_0 7 rfl rfl)
theorem dX0_tell_10 : decode cX0_tell 10 = .ok (.ifCond .eq 7, 3) := dk_153 0 7 (dk_at dksX0_tell_0 10 rfl rfl)
theorem dX0_tell_13 : decode cX0_tell 13 = .ok (.lconst 1, 1) := dk_10 (dk_at dksX0_tell_0 13 rfl rfl)
theorem dX0_tell_14 : decode cX0_tell 14 = .ok (.goto 4, 3) := dk_167 0 4 (dk_at dksX0_tell_0 14 rfl rfl)
theorem dX0_tell_17 : decode cX0_tell 17 = .ok (.lconst 0, 1) := dk_9 (dk_at dksX0_tell_0 17 rfl rfl)
theorem dX0_tell_18 : decode cX0_tell 18 = .ok (.lastore, 1) := dk_80 (dk_at dksX0_tell_0 18 rfl rfl)
theorem dX0_tell_19 : decode cX0_tell 19 = .ok (.goto 11, 3) := dk_167 0 11 (dk_at dksX0_tell_0 19 rfl rfl)
theorem dX0_tell_22 : decode cX0_tell 22 = .ok (.astore 5, 2) := dk_58 5 (dk_at dksX0_tell_0 22 rfl rfl)
theorem dX0_tell_24 : decode cX0_tell 24 = .ok (.iconst 1, 1) := dk_4 (dk_at dksX0_tell_1 0 rfl rfl)
theorem dX0_tell_25 : decode cX0_tell 25 = .ok (.ireturn, 1) := dk_172 (dk_at dksX0_tell_1 1 rfl rfl)
theorem dX0_tell_26 : decode cX0_tell 26 = .ok (.astore 5, 2) := dk_58 5 (dk_at dksX0_tell_1 2 rfl rfl)
theorem dX0_tell_28 : decode cX0_tell 28 = .ok (.iconst 2, 1) := dk_5 (dk_at dksX0_tell_1 4 rfl rfl)
theorem dX0_tell_29 : decode cX0_tell 29 = .ok (.ireturn, 1) := dk_172 (dk_at dksX0_tell_1 5 rfl rfl)
theorem dX0_tell_30 : decode cX0_tell 30 = .ok (.iconst 0, 1) := dk_3 (dk_at dksX0_tell_1 6 rfl rfl)
theorem dX0_tell_31 : decode cX0_tell 31 = .ok (.ireturn, 1) := dk_172 (dk_at dksX0_tell_1 7 rfl rfl)
abbrev cX0_forget : ByteArray := method_4_code
def yX0_forget : MethodName := ⟨RX0, "forget", "(LFerryClocks;II[J)I"⟩
def dkwX0_forget_1 : List UInt8 := [58, 4, 5, 172, 3, 172]
abbrev dktX0_forget_1 : List UInt8 := dkwX0_forget_1 ++ []
def dkwX0_forget_0 : List UInt8 := [45, 3, 42, 27, 28, 182, 0, 17, 153, 0, 7, 10, 167, 0, 4, 9, 80, 167, 0, 11, 58, 4, 4, 172]
abbrev dktX0_forget_0 : List UInt8 := dkwX0_forget_0 ++ dktX0_forget_1
theorem dksX0_forget_0 : cX0_forget.data.toList.drop 0 = dktX0_forget_0 := by decide +kernel
theorem dksX0_forget_1 : cX0_forget.data.toList.drop 24 = dktX0_forget_1 := dk_seg dksX0_forget_0 24 rfl rfl
theorem dX0_forget_0 : decode cX0_forget 0 = .ok (.aload_n 3, 1) := dk_45 (dk_at dksX0_forget_0 0 rfl rfl)
theorem dX0_forget_1 : decode cX0_forget 1 = .ok (.iconst 0, 1) := dk_3 (dk_at dksX0_forget_0 1 rfl rfl)
theorem dX0_forget_2 : decode cX0_forget 2 = .ok (.aload_n 0, 1) := dk_42 (dk_at dksX0_forget_0 2 rfl rfl)
theorem dX0_forget_3 : decode cX0_forget 3 = .ok (.iload_n 1, 1) := dk_27 (dk_at dksX0_forget_0 3 rfl rfl)
theorem dX0_forget_4 : decode cX0_forget 4 = .ok (.iload_n 2, 1) := dk_28 (dk_at dksX0_forget_0 4 rfl rfl)
theorem dX0_forget_5 : decode cX0_forget 5 = .ok (.invokevirtual 17, 3) := dk_182 0 17 (dk_at dksX0_forget_0 5 rfl rfl)
theorem dX0_forget_8 : decode cX0_forget 8 = .ok (.ifCond .eq 7, 3) := dk_153 0 7 (dk_at dksX0_forget_0 8 rfl rfl)
theorem dX0_forget_11 : decode cX0_forget 11 = .ok (.lconst 1, 1) := dk_10 (dk_at dksX0_forget_0 11 rfl rfl)
theorem dX0_forget_12 : decode cX0_forget 12 = .ok (.goto 4, 3) := dk_167 0 4 (dk_at dksX0_forget_0 12 rfl rfl)
theorem dX0_forget_15 : decode cX0_forget 15 = .ok (.lconst 0, 1) := dk_9 (dk_at dksX0_forget_0 15 rfl rfl)
theorem dX0_forget_16 : decode cX0_forget 16 = .ok (.lastore, 1) := dk_80 (dk_at dksX0_forget_0 16 rfl rfl)
theorem dX0_forget_17 : decode cX0_forget 17 = .ok (.goto 11, 3) := dk_167 0 11 (dk_at dksX0_forget_0 17 rfl rfl)
theorem dX0_forget_20 : decode cX0_forget 20 = .ok (.astore 4, 2) := dk_58 4 (dk_at dksX0_forget_0 20 rfl rfl)
theorem dX0_forget_22 : decode cX0_forget 22 = .ok (.iconst 1, 1) := dk_4 (dk_at dksX0_forget_0 22 rfl rfl)
theorem dX0_forget_23 : decode cX0_forget 23 = .ok (.ireturn, 1) := dk_172 (dk_at dksX0_forget_0 23 rfl rfl)
theorem dX0_forget_24 : decode cX0_forget 24 = .ok (.astore 4, 2) := dk_58 4 (dk_at dksX0_forget_1 0 rfl rfl)
theorem dX0_forget_26 : decode cX0_forget 26 = .ok (.iconst 2, 1) := dk_5 (dk_at dksX0_forget_1 2 rfl rfl)
theorem dX0_forget_27 : decode cX0_forget 27 = .ok (.ireturn, 1) := dk_172 (dk_at dksX0_forget_1 3 rfl rfl)
theorem dX0_forget_28 : decode cX0_forget 28 = .ok (.iconst 0, 1) := dk_3 (dk_at dksX0_forget_1 4 rfl rfl)
theorem dX0_forget_29 : decode cX0_forget 29 = .ok (.ireturn, 1) := dk_172 (dk_at dksX0_forget_1 5 rfl rfl)
abbrev cX0_tighten : ByteArray := method_5_code
def yX0_tighten : MethodName := ⟨RX0, "tighten", "(LFerryClocks;[J)I"⟩
def dkwX0_tighten_0 : List UInt8 := [43, 3, 42, 182, 0, 21, 133, 80, 167, 0, 6, 77, 4, 172, 3, 172]
abbrev dktX0_tighten_0 : List UInt8 := dkwX0_tighten_0 ++ []
theorem dksX0_tighten_0 : cX0_tighten.data.toList.drop 0 = dktX0_tighten_0 := by decide +kernel
theorem dX0_tighten_0 : decode cX0_tighten 0 = .ok (.aload_n 1, 1) := dk_43 (dk_at dksX0_tighten_0 0 rfl rfl)
theorem dX0_tighten_1 : decode cX0_tighten 1 = .ok (.iconst 0, 1) := dk_3 (dk_at dksX0_tighten_0 1 rfl rfl)
theorem dX0_tighten_2 : decode cX0_tighten 2 = .ok (.aload_n 0, 1) := dk_42 (dk_at dksX0_tighten_0 2 rfl rfl)
theorem dX0_tighten_3 : decode cX0_tighten 3 = .ok (.invokevirtual 21, 3) := dk_182 0 21 (dk_at dksX0_tighten_0 3 rfl rfl)
theorem dX0_tighten_6 : decode cX0_tighten 6 = .ok (.i2l, 1) := dk_133 (dk_at dksX0_tighten_0 6 rfl rfl)
theorem dX0_tighten_7 : decode cX0_tighten 7 = .ok (.lastore, 1) := dk_80 (dk_at dksX0_tighten_0 7 rfl rfl)
theorem dX0_tighten_8 : decode cX0_tighten 8 = .ok (.goto 6, 3) := dk_167 0 6 (dk_at dksX0_tighten_0 8 rfl rfl)
theorem dX0_tighten_11 : decode cX0_tighten 11 = .ok (.astore_n 2, 1) := dk_77 (dk_at dksX0_tighten_0 11 rfl rfl)
theorem dX0_tighten_12 : decode cX0_tighten 12 = .ok (.iconst 1, 1) := dk_4 (dk_at dksX0_tighten_0 12 rfl rfl)
theorem dX0_tighten_13 : decode cX0_tighten 13 = .ok (.ireturn, 1) := dk_172 (dk_at dksX0_tighten_0 13 rfl rfl)
theorem dX0_tighten_14 : decode cX0_tighten 14 = .ok (.iconst 0, 1) := dk_3 (dk_at dksX0_tighten_0 14 rfl rfl)
theorem dX0_tighten_15 : decode cX0_tighten 15 = .ok (.ireturn, 1) := dk_172 (dk_at dksX0_tighten_0 15 rfl rfl)
abbrev cX0_reset : ByteArray := method_6_code
def yX0_reset : MethodName := ⟨RX0, "reset", "(LFerryClocks;II[J)I"⟩
def dkwX0_reset_0 : List UInt8 := [45, 3, 42, 27, 28, 182, 0, 25, 133, 80, 167, 0, 11, 58, 4, 4, 172, 58, 4, 5, 172, 3, 172]
abbrev dktX0_reset_0 : List UInt8 := dkwX0_reset_0 ++ []
theorem dksX0_reset_0 : cX0_reset.data.toList.drop 0 = dktX0_reset_0 := by decide +kernel
theorem dX0_reset_0 : decode cX0_reset 0 = .ok (.aload_n 3, 1) := dk_45 (dk_at dksX0_reset_0 0 rfl rfl)
theorem dX0_reset_1 : decode cX0_reset 1 = .ok (.iconst 0, 1) := dk_3 (dk_at dksX0_reset_0 1 rfl rfl)
theorem dX0_reset_2 : decode cX0_reset 2 = .ok (.aload_n 0, 1) := dk_42 (dk_at dksX0_reset_0 2 rfl rfl)
theorem dX0_reset_3 : decode cX0_reset 3 = .ok (.iload_n 1, 1) := dk_27 (dk_at dksX0_reset_0 3 rfl rfl)
theorem dX0_reset_4 : decode cX0_reset 4 = .ok (.iload_n 2, 1) := dk_28 (dk_at dksX0_reset_0 4 rfl rfl)
theorem dX0_reset_5 : decode cX0_reset 5 = .ok (.invokevirtual 25, 3) := dk_182 0 25 (dk_at dksX0_reset_0 5 rfl rfl)
theorem dX0_reset_8 : decode cX0_reset 8 = .ok (.i2l, 1) := dk_133 (dk_at dksX0_reset_0 8 rfl rfl)
theorem dX0_reset_9 : decode cX0_reset 9 = .ok (.lastore, 1) := dk_80 (dk_at dksX0_reset_0 9 rfl rfl)
theorem dX0_reset_10 : decode cX0_reset 10 = .ok (.goto 11, 3) := dk_167 0 11 (dk_at dksX0_reset_0 10 rfl rfl)
theorem dX0_reset_13 : decode cX0_reset 13 = .ok (.astore 4, 2) := dk_58 4 (dk_at dksX0_reset_0 13 rfl rfl)
theorem dX0_reset_15 : decode cX0_reset 15 = .ok (.iconst 1, 1) := dk_4 (dk_at dksX0_reset_0 15 rfl rfl)
theorem dX0_reset_16 : decode cX0_reset 16 = .ok (.ireturn, 1) := dk_172 (dk_at dksX0_reset_0 16 rfl rfl)
theorem dX0_reset_17 : decode cX0_reset 17 = .ok (.astore 4, 2) := dk_58 4 (dk_at dksX0_reset_0 17 rfl rfl)
theorem dX0_reset_19 : decode cX0_reset 19 = .ok (.iconst 2, 1) := dk_5 (dk_at dksX0_reset_0 19 rfl rfl)
theorem dX0_reset_20 : decode cX0_reset 20 = .ok (.ireturn, 1) := dk_172 (dk_at dksX0_reset_0 20 rfl rfl)
theorem dX0_reset_21 : decode cX0_reset 21 = .ok (.iconst 0, 1) := dk_3 (dk_at dksX0_reset_0 21 rfl rfl)
theorem dX0_reset_22 : decode cX0_reset 22 = .ok (.ireturn, 1) := dk_172 (dk_at dksX0_reset_0 22 rfl rfl)
abbrev cX0_delay : ByteArray := method_7_code
def yX0_delay : MethodName := ⟨RX0, "delay", "(LFerryClocks;[J)I"⟩
def dkwX0_delay_0 : List UInt8 := [43, 3, 42, 182, 0, 29, 133, 80, 167, 0, 6, 77, 4, 172, 3, 172]
abbrev dktX0_delay_0 : List UInt8 := dkwX0_delay_0 ++ []
theorem dksX0_delay_0 : cX0_delay.data.toList.drop 0 = dktX0_delay_0 := by decide +kernel
theorem dX0_delay_0 : decode cX0_delay 0 = .ok (.aload_n 1, 1) := dk_43 (dk_at dksX0_delay_0 0 rfl rfl)
theorem dX0_delay_1 : decode cX0_delay 1 = .ok (.iconst 0, 1) := dk_3 (dk_at dksX0_delay_0 1 rfl rfl)
theorem dX0_delay_2 : decode cX0_delay 2 = .ok (.aload_n 0, 1) := dk_42 (dk_at dksX0_delay_0 2 rfl rfl)
theorem dX0_delay_3 : decode cX0_delay 3 = .ok (.invokevirtual 29, 3) := dk_182 0 29 (dk_at dksX0_delay_0 3 rfl rfl)
theorem dX0_delay_6 : decode cX0_delay 6 = .ok (.i2l, 1) := dk_133 (dk_at dksX0_delay_0 6 rfl rfl)
theorem dX0_delay_7 : decode cX0_delay 7 = .ok (.lastore, 1) := dk_80 (dk_at dksX0_delay_0 7 rfl rfl)
theorem dX0_delay_8 : decode cX0_delay 8 = .ok (.goto 6, 3) := dk_167 0 6 (dk_at dksX0_delay_0 8 rfl rfl)
theorem dX0_delay_11 : decode cX0_delay 11 = .ok (.astore_n 2, 1) := dk_77 (dk_at dksX0_delay_0 11 rfl rfl)
theorem dX0_delay_12 : decode cX0_delay 12 = .ok (.iconst 1, 1) := dk_4 (dk_at dksX0_delay_0 12 rfl rfl)
theorem dX0_delay_13 : decode cX0_delay 13 = .ok (.ireturn, 1) := dk_172 (dk_at dksX0_delay_0 13 rfl rfl)
theorem dX0_delay_14 : decode cX0_delay 14 = .ok (.iconst 0, 1) := dk_3 (dk_at dksX0_delay_0 14 rfl rfl)
theorem dX0_delay_15 : decode cX0_delay 15 = .ok (.ireturn, 1) := dk_172 (dk_at dksX0_delay_0 15 rfl rfl)
abbrev cX0_goBackInTime : ByteArray := method_8_code
def yX0_goBackInTime : MethodName := ⟨RX0, "goBackInTime", "(LFerryClocks;[J)I"⟩
def dkwX0_goBackInTime_0 : List UInt8 := [43, 3, 42, 182, 0, 32, 133, 80, 167, 0, 6, 77, 4, 172, 3, 172]
abbrev dktX0_goBackInTime_0 : List UInt8 := dkwX0_goBackInTime_0 ++ []
theorem dksX0_goBackInTime_0 : cX0_goBackInTime.data.toList.drop 0 = dktX0_goBackInTime_0 := by decide +kernel
theorem dX0_goBackInTime_0 : decode cX0_goBackInTime 0 = .ok (.aload_n 1, 1) := dk_43 (dk_at dksX0_goBackInTime_0 0 rfl rfl)
theorem dX0_goBackInTime_1 : decode cX0_goBackInTime 1 = .ok (.iconst 0, 1) := dk_3 (dk_at dksX0_goBackInTime_0 1 rfl rfl)
theorem dX0_goBackInTime_2 : decode cX0_goBackInTime 2 = .ok (.aload_n 0, 1) := dk_42 (dk_at dksX0_goBackInTime_0 2 rfl rfl)
theorem dX0_goBackInTime_3 : decode cX0_goBackInTime 3 = .ok (.invokevirtual 32, 3) := dk_182 0 32 (dk_at dksX0_goBackInTime_0 3 rfl rfl)
theorem dX0_goBackInTime_6 : decode cX0_goBackInTime 6 = .ok (.i2l, 1) := dk_133 (dk_at dksX0_goBackInTime_0 6 rfl rfl)
theorem dX0_goBackInTime_7 : decode cX0_goBackInTime 7 = .ok (.lastore, 1) := dk_80 (dk_at dksX0_goBackInTime_0 7 rfl rfl)
theorem dX0_goBackInTime_8 : decode cX0_goBackInTime 8 = .ok (.goto 6, 3) := dk_167 0 6 (dk_at dksX0_goBackInTime_0 8 rfl rfl)
theorem dX0_goBackInTime_11 : decode cX0_goBackInTime 11 = .ok (.astore_n 2, 1) := dk_77 (dk_at dksX0_goBackInTime_0 11 rfl rfl)
theorem dX0_goBackInTime_12 : decode cX0_goBackInTime 12 = .ok (.iconst 1, 1) := dk_4 (dk_at dksX0_goBackInTime_0 12 rfl rfl)
theorem dX0_goBackInTime_13 : decode cX0_goBackInTime 13 = .ok (.ireturn, 1) := dk_172 (dk_at dksX0_goBackInTime_0 13 rfl rfl)
theorem dX0_goBackInTime_14 : decode cX0_goBackInTime 14 = .ok (.iconst 0, 1) := dk_3 (dk_at dksX0_goBackInTime_0 14 rfl rfl)
theorem dX0_goBackInTime_15 : decode cX0_goBackInTime 15 = .ok (.ireturn, 1) := dk_172 (dk_at dksX0_goBackInTime_0 15 rfl rfl)
abbrev cX0_setFree : ByteArray := method_9_code
def yX0_setFree : MethodName := ⟨RX0, "setFree", "(LFerryClocks;I[J)I"⟩
def dkwX0_setFree_0 : List UInt8 := [44, 3, 42, 27, 182, 0, 35, 133, 80, 167, 0, 9, 78, 4, 172, 78, 5, 172, 3, 172]
abbrev dktX0_setFree_0 : List UInt8 := dkwX0_setFree_0 ++ []
theorem dksX0_setFree_0 : cX0_setFree.data.toList.drop 0 = dktX0_setFree_0 := by decide +kernel
theorem dX0_setFree_0 : decode cX0_setFree 0 = .ok (.aload_n 2, 1) := dk_44 (dk_at dksX0_setFree_0 0 rfl rfl)
theorem dX0_setFree_1 : decode cX0_setFree 1 = .ok (.iconst 0, 1) := dk_3 (dk_at dksX0_setFree_0 1 rfl rfl)
theorem dX0_setFree_2 : decode cX0_setFree 2 = .ok (.aload_n 0, 1) := dk_42 (dk_at dksX0_setFree_0 2 rfl rfl)
theorem dX0_setFree_3 : decode cX0_setFree 3 = .ok (.iload_n 1, 1) := dk_27 (dk_at dksX0_setFree_0 3 rfl rfl)
theorem dX0_setFree_4 : decode cX0_setFree 4 = .ok (.invokevirtual 35, 3) := dk_182 0 35 (dk_at dksX0_setFree_0 4 rfl rfl)
theorem dX0_setFree_7 : decode cX0_setFree 7 = .ok (.i2l, 1) := dk_133 (dk_at dksX0_setFree_0 7 rfl rfl)
theorem dX0_setFree_8 : decode cX0_setFree 8 = .ok (.lastore, 1) := dk_80 (dk_at dksX0_setFree_0 8 rfl rfl)
theorem dX0_setFree_9 : decode cX0_setFree 9 = .ok (.goto 9, 3) := dk_167 0 9 (dk_at dksX0_setFree_0 9 rfl rfl)
theorem dX0_setFree_12 : decode cX0_setFree 12 = .ok (.astore_n 3, 1) := dk_78 (dk_at dksX0_setFree_0 12 rfl rfl)
theorem dX0_setFree_13 : decode cX0_setFree 13 = .ok (.iconst 1, 1) := dk_4 (dk_at dksX0_setFree_0 13 rfl rfl)
theorem dX0_setFree_14 : decode cX0_setFree 14 = .ok (.ireturn, 1) := dk_172 (dk_at dksX0_setFree_0 14 rfl rfl)
theorem dX0_setFree_15 : decode cX0_setFree 15 = .ok (.astore_n 3, 1) := dk_78 (dk_at dksX0_setFree_0 15 rfl rfl)
theorem dX0_setFree_16 : decode cX0_setFree 16 = .ok (.iconst 2, 1) := dk_5 (dk_at dksX0_setFree_0 16 rfl rfl)
theorem dX0_setFree_17 : decode cX0_setFree 17 = .ok (.ireturn, 1) := dk_172 (dk_at dksX0_setFree_0 17 rfl rfl)
theorem dX0_setFree_18 : decode cX0_setFree 18 = .ok (.iconst 0, 1) := dk_3 (dk_at dksX0_setFree_0 18 rfl rfl)
theorem dX0_setFree_19 : decode cX0_setFree 19 = .ok (.ireturn, 1) := dk_172 (dk_at dksX0_setFree_0 19 rfl rfl)
abbrev cX0_copyClock : ByteArray := method_10_code
def yX0_copyClock : MethodName := ⟨RX0, "copyClock", "(LFerryClocks;II[J)I"⟩
def dkwX0_copyClock_0 : List UInt8 := [45, 3, 42, 27, 28, 182, 0, 39, 133, 80, 167, 0, 11, 58, 4, 4, 172, 58, 4, 5, 172, 3, 172]
abbrev dktX0_copyClock_0 : List UInt8 := dkwX0_copyClock_0 ++ []
theorem dksX0_copyClock_0 : cX0_copyClock.data.toList.drop 0 = dktX0_copyClock_0 := by decide +kernel
theorem dX0_copyClock_0 : decode cX0_copyClock 0 = .ok (.aload_n 3, 1) := dk_45 (dk_at dksX0_copyClock_0 0 rfl rfl)
theorem dX0_copyClock_1 : decode cX0_copyClock 1 = .ok (.iconst 0, 1) := dk_3 (dk_at dksX0_copyClock_0 1 rfl rfl)
theorem dX0_copyClock_2 : decode cX0_copyClock 2 = .ok (.aload_n 0, 1) := dk_42 (dk_at dksX0_copyClock_0 2 rfl rfl)
theorem dX0_copyClock_3 : decode cX0_copyClock 3 = .ok (.iload_n 1, 1) := dk_27 (dk_at dksX0_copyClock_0 3 rfl rfl)
theorem dX0_copyClock_4 : decode cX0_copyClock 4 = .ok (.iload_n 2, 1) := dk_28 (dk_at dksX0_copyClock_0 4 rfl rfl)
theorem dX0_copyClock_5 : decode cX0_copyClock 5 = .ok (.invokevirtual 39, 3) := dk_182 0 39 (dk_at dksX0_copyClock_0 5 rfl rfl)
theorem dX0_copyClock_8 : decode cX0_copyClock 8 = .ok (.i2l, 1) := dk_133 (dk_at dksX0_copyClock_0 8 rfl rfl)
theorem dX0_copyClock_9 : decode cX0_copyClock 9 = .ok (.lastore, 1) := dk_80 (dk_at dksX0_copyClock_0 9 rfl rfl)
theorem dX0_copyClock_10 : decode cX0_copyClock 10 = .ok (.goto 11, 3) := dk_167 0 11 (dk_at dksX0_copyClock_0 10 rfl rfl)
theorem dX0_copyClock_13 : decode cX0_copyClock 13 = .ok (.astore 4, 2) := dk_58 4 (dk_at dksX0_copyClock_0 13 rfl rfl)
theorem dX0_copyClock_15 : decode cX0_copyClock 15 = .ok (.iconst 1, 1) := dk_4 (dk_at dksX0_copyClock_0 15 rfl rfl)
theorem dX0_copyClock_16 : decode cX0_copyClock 16 = .ok (.ireturn, 1) := dk_172 (dk_at dksX0_copyClock_0 16 rfl rfl)
theorem dX0_copyClock_17 : decode cX0_copyClock 17 = .ok (.astore 4, 2) := dk_58 4 (dk_at dksX0_copyClock_0 17 rfl rfl)
theorem dX0_copyClock_19 : decode cX0_copyClock 19 = .ok (.iconst 2, 1) := dk_5 (dk_at dksX0_copyClock_0 19 rfl rfl)
theorem dX0_copyClock_20 : decode cX0_copyClock 20 = .ok (.ireturn, 1) := dk_172 (dk_at dksX0_copyClock_0 20 rfl rfl)
theorem dX0_copyClock_21 : decode cX0_copyClock 21 = .ok (.iconst 0, 1) := dk_3 (dk_at dksX0_copyClock_0 21 rfl rfl)
theorem dX0_copyClock_22 : decode cX0_copyClock 22 = .ok (.ireturn, 1) := dk_172 (dk_at dksX0_copyClock_0 22 rfl rfl)
abbrev cX0_shift : ByteArray := method_11_code
def yX0_shift : MethodName := ⟨RX0, "shift", "(LFerryClocks;II[J)I"⟩
def dkwX0_shift_0 : List UInt8 := [45, 3, 42, 27, 28, 182, 0, 42, 133, 80, 167, 0, 11, 58, 4, 4, 172, 58, 4, 5, 172, 3, 172]
abbrev dktX0_shift_0 : List UInt8 := dkwX0_shift_0 ++ []
theorem dksX0_shift_0 : cX0_shift.data.toList.drop 0 = dktX0_shift_0 := by decide +kernel
theorem dX0_shift_0 : decode cX0_shift 0 = .ok (.aload_n 3, 1) := dk_45 (dk_at dksX0_shift_0 0 rfl rfl)
theorem dX0_shift_1 : decode cX0_shift 1 = .ok (.iconst 0, 1) := dk_3 (dk_at dksX0_shift_0 1 rfl rfl)
theorem dX0_shift_2 : decode cX0_shift 2 = .ok (.aload_n 0, 1) := dk_42 (dk_at dksX0_shift_0 2 rfl rfl)
theorem dX0_shift_3 : decode cX0_shift 3 = .ok (.iload_n 1, 1) := dk_27 (dk_at dksX0_shift_0 3 rfl rfl)
theorem dX0_shift_4 : decode cX0_shift 4 = .ok (.iload_n 2, 1) := dk_28 (dk_at dksX0_shift_0 4 rfl rfl)
theorem dX0_shift_5 : decode cX0_shift 5 = .ok (.invokevirtual 42, 3) := dk_182 0 42 (dk_at dksX0_shift_0 5 rfl rfl)
theorem dX0_shift_8 : decode cX0_shift 8 = .ok (.i2l, 1) := dk_133 (dk_at dksX0_shift_0 8 rfl rfl)
theorem dX0_shift_9 : decode cX0_shift 9 = .ok (.lastore, 1) := dk_80 (dk_at dksX0_shift_0 9 rfl rfl)
theorem dX0_shift_10 : decode cX0_shift 10 = .ok (.goto 11, 3) := dk_167 0 11 (dk_at dksX0_shift_0 10 rfl rfl)
theorem dX0_shift_13 : decode cX0_shift 13 = .ok (.astore 4, 2) := dk_58 4 (dk_at dksX0_shift_0 13 rfl rfl)
theorem dX0_shift_15 : decode cX0_shift 15 = .ok (.iconst 1, 1) := dk_4 (dk_at dksX0_shift_0 15 rfl rfl)
theorem dX0_shift_16 : decode cX0_shift 16 = .ok (.ireturn, 1) := dk_172 (dk_at dksX0_shift_0 16 rfl rfl)
theorem dX0_shift_17 : decode cX0_shift 17 = .ok (.astore 4, 2) := dk_58 4 (dk_at dksX0_shift_0 17 rfl rfl)
theorem dX0_shift_19 : decode cX0_shift 19 = .ok (.iconst 2, 1) := dk_5 (dk_at dksX0_shift_0 19 rfl rfl)
theorem dX0_shift_20 : decode cX0_shift 20 = .ok (.ireturn, 1) := dk_172 (dk_at dksX0_shift_0 20 rfl rfl)
theorem dX0_shift_21 : decode cX0_shift 21 = .ok (.iconst 0, 1) := dk_3 (dk_at dksX0_shift_0 21 rfl rfl)
theorem dX0_shift_22 : decode cX0_shift 22 = .ok (.ireturn, 1) := dk_172 (dk_at dksX0_shift_0 22 rfl rfl)
abbrev cX0_store : ByteArray := method_12_code
def yX0_store : MethodName := ⟨RX0, "store", "(LFerryClocks;I[J)I"⟩
def dkwX0_store_0 : List UInt8 := [44, 3, 42, 27, 182, 0, 45, 153, 0, 7, 10, 167, 0, 4, 9, 80, 167, 0, 6, 78, 4, 172, 3, 172]
abbrev dktX0_store_0 : List UInt8 := dkwX0_store_0 ++ []
theorem dksX0_store_0 : cX0_store.data.toList.drop 0 = dktX0_store_0 := by decide +kernel
theorem dX0_store_0 : decode cX0_store 0 = .ok (.aload_n 2, 1) := dk_44 (dk_at dksX0_store_0 0 rfl rfl)
theorem dX0_store_1 : decode cX0_store 1 = .ok (.iconst 0, 1) := dk_3 (dk_at dksX0_store_0 1 rfl rfl)
theorem dX0_store_2 : decode cX0_store 2 = .ok (.aload_n 0, 1) := dk_42 (dk_at dksX0_store_0 2 rfl rfl)
theorem dX0_store_3 : decode cX0_store 3 = .ok (.iload_n 1, 1) := dk_27 (dk_at dksX0_store_0 3 rfl rfl)
theorem dX0_store_4 : decode cX0_store 4 = .ok (.invokevirtual 45, 3) := dk_182 0 45 (dk_at dksX0_store_0 4 rfl rfl)
theorem dX0_store_7 : decode cX0_store 7 = .ok (.ifCond .eq 7, 3) := dk_153 0 7 (dk_at dksX0_store_0 7 rfl rfl)
theorem dX0_store_10 : decode cX0_store 10 = .ok (.lconst 1, 1) := dk_10 (dk_at dksX0_store_0 10 rfl rfl)
theorem dX0_store_11 : decode cX0_store 11 = .ok (.goto 4, 3) := dk_167 0 4 (dk_at dksX0_store_0 11 rfl rfl)
theorem dX0_store_14 : decode cX0_store 14 = .ok (.lconst 0, 1) := dk_9 (dk_at dksX0_store_0 14 rfl rfl)
theorem dX0_store_15 : decode cX0_store 15 = .ok (.lastore, 1) := dk_80 (dk_at dksX0_store_0 15 rfl rfl)
theorem dX0_store_16 : decode cX0_store 16 = .ok (.goto 6, 3) := dk_167 0 6 (dk_at dksX0_store_0 16 rfl rfl)
theorem dX0_store_19 : decode cX0_store 19 = .ok (.astore_n 3, 1) := dk_78 (dk_at dksX0_store_0 19 rfl rfl)
theorem dX0_store_20 : decode cX0_store 20 = .ok (.iconst 1, 1) := dk_4 (dk_at dksX0_store_0 20 rfl rfl)
theorem dX0_store_21 : decode cX0_store 21 = .ok (.ireturn, 1) := dk_172 (dk_at dksX0_store_0 21 rfl rfl)
theorem dX0_store_22 : decode cX0_store 22 = .ok (.iconst 0, 1) := dk_3 (dk_at dksX0_store_0 22 rfl rfl)
theorem dX0_store_23 : decode cX0_store 23 = .ok (.ireturn, 1) := dk_172 (dk_at dksX0_store_0 23 rfl rfl)
abbrev cX0_meet : ByteArray := method_13_code
def yX0_meet : MethodName := ⟨RX0, "meet", "(LFerryClocks;I[J)I"⟩
def dkwX0_meet_0 : List UInt8 := [44, 3, 42, 27, 182, 0, 49, 133, 80, 167, 0, 9, 78, 4, 172, 78, 5, 172, 3, 172]
abbrev dktX0_meet_0 : List UInt8 := dkwX0_meet_0 ++ []
theorem dksX0_meet_0 : cX0_meet.data.toList.drop 0 = dktX0_meet_0 := by decide +kernel
theorem dX0_meet_0 : decode cX0_meet 0 = .ok (.aload_n 2, 1) := dk_44 (dk_at dksX0_meet_0 0 rfl rfl)
theorem dX0_meet_1 : decode cX0_meet 1 = .ok (.iconst 0, 1) := dk_3 (dk_at dksX0_meet_0 1 rfl rfl)
theorem dX0_meet_2 : decode cX0_meet 2 = .ok (.aload_n 0, 1) := dk_42 (dk_at dksX0_meet_0 2 rfl rfl)
theorem dX0_meet_3 : decode cX0_meet 3 = .ok (.iload_n 1, 1) := dk_27 (dk_at dksX0_meet_0 3 rfl rfl)
theorem dX0_meet_4 : decode cX0_meet 4 = .ok (.invokevirtual 49, 3) := dk_182 0 49 (dk_at dksX0_meet_0 4 rfl rfl)
theorem dX0_meet_7 : decode cX0_meet 7 = .ok (.i2l, 1) := dk_133 (dk_at dksX0_meet_0 7 rfl rfl)
theorem dX0_meet_8 : decode cX0_meet 8 = .ok (.lastore, 1) := dk_80 (dk_at dksX0_meet_0 8 rfl rfl)
theorem dX0_meet_9 : decode cX0_meet 9 = .ok (.goto 9, 3) := dk_167 0 9 (dk_at dksX0_meet_0 9 rfl rfl)
theorem dX0_meet_12 : decode cX0_meet 12 = .ok (.astore_n 3, 1) := dk_78 (dk_at dksX0_meet_0 12 rfl rfl)
theorem dX0_meet_13 : decode cX0_meet 13 = .ok (.iconst 1, 1) := dk_4 (dk_at dksX0_meet_0 13 rfl rfl)
theorem dX0_meet_14 : decode cX0_meet 14 = .ok (.ireturn, 1) := dk_172 (dk_at dksX0_meet_0 14 rfl rfl)
theorem dX0_meet_15 : decode cX0_meet 15 = .ok (.astore_n 3, 1) := dk_78 (dk_at dksX0_meet_0 15 rfl rfl)
theorem dX0_meet_16 : decode cX0_meet 16 = .ok (.iconst 2, 1) := dk_5 (dk_at dksX0_meet_0 16 rfl rfl)
theorem dX0_meet_17 : decode cX0_meet 17 = .ok (.ireturn, 1) := dk_172 (dk_at dksX0_meet_0 17 rfl rfl)
theorem dX0_meet_18 : decode cX0_meet 18 = .ok (.iconst 0, 1) := dk_3 (dk_at dksX0_meet_0 18 rfl rfl)
theorem dX0_meet_19 : decode cX0_meet 19 = .ok (.ireturn, 1) := dk_172 (dk_at dksX0_meet_0 19 rfl rfl)
abbrev cX0_wrap : ByteArray := method_14_code
def yX0_wrap : MethodName := ⟨RX0, "wrap", "(LFerryClocks;I[J)I"⟩
def dkwX0_wrap_0 : List UInt8 := [44, 3, 42, 27, 182, 0, 52, 133, 80, 167, 0, 9, 78, 4, 172, 78, 5, 172, 3, 172]
abbrev dktX0_wrap_0 : List UInt8 := dkwX0_wrap_0 ++ []
theorem dksX0_wrap_0 : cX0_wrap.data.toList.drop 0 = dktX0_wrap_0 := by decide +kernel
theorem dX0_wrap_0 : decode cX0_wrap 0 = .ok (.aload_n 2, 1) := dk_44 (dk_at dksX0_wrap_0 0 rfl rfl)
theorem dX0_wrap_1 : decode cX0_wrap 1 = .ok (.iconst 0, 1) := dk_3 (dk_at dksX0_wrap_0 1 rfl rfl)
theorem dX0_wrap_2 : decode cX0_wrap 2 = .ok (.aload_n 0, 1) := dk_42 (dk_at dksX0_wrap_0 2 rfl rfl)
theorem dX0_wrap_3 : decode cX0_wrap 3 = .ok (.iload_n 1, 1) := dk_27 (dk_at dksX0_wrap_0 3 rfl rfl)
theorem dX0_wrap_4 : decode cX0_wrap 4 = .ok (.invokevirtual 52, 3) := dk_182 0 52 (dk_at dksX0_wrap_0 4 rfl rfl)
theorem dX0_wrap_7 : decode cX0_wrap 7 = .ok (.i2l, 1) := dk_133 (dk_at dksX0_wrap_0 7 rfl rfl)
theorem dX0_wrap_8 : decode cX0_wrap 8 = .ok (.lastore, 1) := dk_80 (dk_at dksX0_wrap_0 8 rfl rfl)
theorem dX0_wrap_9 : decode cX0_wrap 9 = .ok (.goto 9, 3) := dk_167 0 9 (dk_at dksX0_wrap_0 9 rfl rfl)
theorem dX0_wrap_12 : decode cX0_wrap 12 = .ok (.astore_n 3, 1) := dk_78 (dk_at dksX0_wrap_0 12 rfl rfl)
theorem dX0_wrap_13 : decode cX0_wrap 13 = .ok (.iconst 1, 1) := dk_4 (dk_at dksX0_wrap_0 13 rfl rfl)
theorem dX0_wrap_14 : decode cX0_wrap 14 = .ok (.ireturn, 1) := dk_172 (dk_at dksX0_wrap_0 14 rfl rfl)
theorem dX0_wrap_15 : decode cX0_wrap 15 = .ok (.astore_n 3, 1) := dk_78 (dk_at dksX0_wrap_0 15 rfl rfl)
theorem dX0_wrap_16 : decode cX0_wrap 16 = .ok (.iconst 2, 1) := dk_5 (dk_at dksX0_wrap_0 16 rfl rfl)
theorem dX0_wrap_17 : decode cX0_wrap 17 = .ok (.ireturn, 1) := dk_172 (dk_at dksX0_wrap_0 17 rfl rfl)
theorem dX0_wrap_18 : decode cX0_wrap 18 = .ok (.iconst 0, 1) := dk_3 (dk_at dksX0_wrap_0 18 rfl rfl)
theorem dX0_wrap_19 : decode cX0_wrap 19 = .ok (.ireturn, 1) := dk_172 (dk_at dksX0_wrap_0 19 rfl rfl)
abbrev cX0_setStay : ByteArray := method_15_code
def yX0_setStay : MethodName := ⟨RX0, "setStay", "(LFerryClocks;III[J)I"⟩
def dkwX0_setStay_0 : List UInt8 := [25, 4, 3, 42, 27, 28, 29, 182, 0, 55, 133, 80, 167, 0, 7, 58, 5, 4, 172, 3, 172]
abbrev dktX0_setStay_0 : List UInt8 := dkwX0_setStay_0 ++ []
theorem dksX0_setStay_0 : cX0_setStay.data.toList.drop 0 = dktX0_setStay_0 := by decide +kernel
theorem dX0_setStay_0 : decode cX0_setStay 0 = .ok (.aload 4, 2) := dk_25 4 (dk_at dksX0_setStay_0 0 rfl rfl)
theorem dX0_setStay_2 : decode cX0_setStay 2 = .ok (.iconst 0, 1) := dk_3 (dk_at dksX0_setStay_0 2 rfl rfl)
theorem dX0_setStay_3 : decode cX0_setStay 3 = .ok (.aload_n 0, 1) := dk_42 (dk_at dksX0_setStay_0 3 rfl rfl)
theorem dX0_setStay_4 : decode cX0_setStay 4 = .ok (.iload_n 1, 1) := dk_27 (dk_at dksX0_setStay_0 4 rfl rfl)
theorem dX0_setStay_5 : decode cX0_setStay 5 = .ok (.iload_n 2, 1) := dk_28 (dk_at dksX0_setStay_0 5 rfl rfl)
theorem dX0_setStay_6 : decode cX0_setStay 6 = .ok (.iload_n 3, 1) := dk_29 (dk_at dksX0_setStay_0 6 rfl rfl)
theorem dX0_setStay_7 : decode cX0_setStay 7 = .ok (.invokevirtual 55, 3) := dk_182 0 55 (dk_at dksX0_setStay_0 7 rfl rfl)
theorem dX0_setStay_10 : decode cX0_setStay 10 = .ok (.i2l, 1) := dk_133 (dk_at dksX0_setStay_0 10 rfl rfl)
theorem dX0_setStay_11 : decode cX0_setStay 11 = .ok (.lastore, 1) := dk_80 (dk_at dksX0_setStay_0 11 rfl rfl)
theorem dX0_setStay_12 : decode cX0_setStay 12 = .ok (.goto 7, 3) := dk_167 0 7 (dk_at dksX0_setStay_0 12 rfl rfl)
theorem dX0_setStay_15 : decode cX0_setStay 15 = .ok (.astore 5, 2) := dk_58 5 (dk_at dksX0_setStay_0 15 rfl rfl)
theorem dX0_setStay_17 : decode cX0_setStay 17 = .ok (.iconst 1, 1) := dk_4 (dk_at dksX0_setStay_0 17 rfl rfl)
theorem dX0_setStay_18 : decode cX0_setStay 18 = .ok (.ireturn, 1) := dk_172 (dk_at dksX0_setStay_0 18 rfl rfl)
theorem dX0_setStay_19 : decode cX0_setStay 19 = .ok (.iconst 0, 1) := dk_3 (dk_at dksX0_setStay_0 19 rfl rfl)
theorem dX0_setStay_20 : decode cX0_setStay 20 = .ok (.ireturn, 1) := dk_172 (dk_at dksX0_setStay_0 20 rfl rfl)
abbrev cX0_addLine : ByteArray := method_16_code
def yX0_addLine : MethodName := ⟨RX0, "addLine", "(LFerryClocks;II[J)I"⟩
def dkwX0_addLine_0 : List UInt8 := [45, 3, 42, 27, 28, 182, 0, 59, 133, 80, 167, 0, 11, 58, 4, 4, 172, 58, 4, 5, 172, 3, 172]
abbrev dktX0_addLine_0 : List UInt8 := dkwX0_addLine_0 ++ []
theorem dksX0_addLine_0 : cX0_addLine.data.toList.drop 0 = dktX0_addLine_0 := by decide +kernel
theorem dX0_addLine_0 : decode cX0_addLine 0 = .ok (.aload_n 3, 1) := dk_45 (dk_at dksX0_addLine_0 0 rfl rfl)
theorem dX0_addLine_1 : decode cX0_addLine 1 = .ok (.iconst 0, 1) := dk_3 (dk_at dksX0_addLine_0 1 rfl rfl)
theorem dX0_addLine_2 : decode cX0_addLine 2 = .ok (.aload_n 0, 1) := dk_42 (dk_at dksX0_addLine_0 2 rfl rfl)
theorem dX0_addLine_3 : decode cX0_addLine 3 = .ok (.iload_n 1, 1) := dk_27 (dk_at dksX0_addLine_0 3 rfl rfl)
theorem dX0_addLine_4 : decode cX0_addLine 4 = .ok (.iload_n 2, 1) := dk_28 (dk_at dksX0_addLine_0 4 rfl rfl)
theorem dX0_addLine_5 : decode cX0_addLine 5 = .ok (.invokevirtual 59, 3) := dk_182 0 59 (dk_at dksX0_addLine_0 5 rfl rfl)
theorem dX0_addLine_8 : decode cX0_addLine 8 = .ok (.i2l, 1) := dk_133 (dk_at dksX0_addLine_0 8 rfl rfl)
theorem dX0_addLine_9 : decode cX0_addLine 9 = .ok (.lastore, 1) := dk_80 (dk_at dksX0_addLine_0 9 rfl rfl)
theorem dX0_addLine_10 : decode cX0_addLine 10 = .ok (.goto 11, 3) := dk_167 0 11 (dk_at dksX0_addLine_0 10 rfl rfl)
theorem dX0_addLine_13 : decode cX0_addLine 13 = .ok (.astore 4, 2) := dk_58 4 (dk_at dksX0_addLine_0 13 rfl rfl)
theorem dX0_addLine_15 : decode cX0_addLine 15 = .ok (.iconst 1, 1) := dk_4 (dk_at dksX0_addLine_0 15 rfl rfl)
theorem dX0_addLine_16 : decode cX0_addLine 16 = .ok (.ireturn, 1) := dk_172 (dk_at dksX0_addLine_0 16 rfl rfl)
theorem dX0_addLine_17 : decode cX0_addLine 17 = .ok (.astore 4, 2) := dk_58 4 (dk_at dksX0_addLine_0 17 rfl rfl)
theorem dX0_addLine_19 : decode cX0_addLine 19 = .ok (.iconst 2, 1) := dk_5 (dk_at dksX0_addLine_0 19 rfl rfl)
theorem dX0_addLine_20 : decode cX0_addLine 20 = .ok (.ireturn, 1) := dk_172 (dk_at dksX0_addLine_0 20 rfl rfl)
theorem dX0_addLine_21 : decode cX0_addLine 21 = .ok (.iconst 0, 1) := dk_3 (dk_at dksX0_addLine_0 21 rfl rfl)
theorem dX0_addLine_22 : decode cX0_addLine 22 = .ok (.ireturn, 1) := dk_172 (dk_at dksX0_addLine_0 22 rfl rfl)
abbrev cX0_setNeed : ByteArray := method_17_code
def yX0_setNeed : MethodName := ⟨RX0, "setNeed", "(LFerryClocks;IIII[J)I"⟩
def dkwX0_setNeed_0 : List UInt8 := [25, 5, 3, 42, 27, 28, 29, 21, 4, 182, 0, 62, 133, 80, 167, 0, 7, 58, 6, 4, 172, 3, 172]
abbrev dktX0_setNeed_0 : List UInt8 := dkwX0_setNeed_0 ++ []
theorem dksX0_setNeed_0 : cX0_setNeed.data.toList.drop 0 = dktX0_setNeed_0 := by decide +kernel
theorem dX0_setNeed_0 : decode cX0_setNeed 0 = .ok (.aload 5, 2) := dk_25 5 (dk_at dksX0_setNeed_0 0 rfl rfl)
theorem dX0_setNeed_2 : decode cX0_setNeed 2 = .ok (.iconst 0, 1) := dk_3 (dk_at dksX0_setNeed_0 2 rfl rfl)
theorem dX0_setNeed_3 : decode cX0_setNeed 3 = .ok (.aload_n 0, 1) := dk_42 (dk_at dksX0_setNeed_0 3 rfl rfl)
theorem dX0_setNeed_4 : decode cX0_setNeed 4 = .ok (.iload_n 1, 1) := dk_27 (dk_at dksX0_setNeed_0 4 rfl rfl)
theorem dX0_setNeed_5 : decode cX0_setNeed 5 = .ok (.iload_n 2, 1) := dk_28 (dk_at dksX0_setNeed_0 5 rfl rfl)
theorem dX0_setNeed_6 : decode cX0_setNeed 6 = .ok (.iload_n 3, 1) := dk_29 (dk_at dksX0_setNeed_0 6 rfl rfl)
theorem dX0_setNeed_7 : decode cX0_setNeed 7 = .ok (.iload 4, 2) := dk_21 4 (dk_at dksX0_setNeed_0 7 rfl rfl)
theorem dX0_setNeed_9 : decode cX0_setNeed 9 = .ok (.invokevirtual 62, 3) := dk_182 0 62 (dk_at dksX0_setNeed_0 9 rfl rfl)
theorem dX0_setNeed_12 : decode cX0_setNeed 12 = .ok (.i2l, 1) := dk_133 (dk_at dksX0_setNeed_0 12 rfl rfl)
theorem dX0_setNeed_13 : decode cX0_setNeed 13 = .ok (.lastore, 1) := dk_80 (dk_at dksX0_setNeed_0 13 rfl rfl)
theorem dX0_setNeed_14 : decode cX0_setNeed 14 = .ok (.goto 7, 3) := dk_167 0 7 (dk_at dksX0_setNeed_0 14 rfl rfl)
theorem dX0_setNeed_17 : decode cX0_setNeed 17 = .ok (.astore 6, 2) := dk_58 6 (dk_at dksX0_setNeed_0 17 rfl rfl)
theorem dX0_setNeed_19 : decode cX0_setNeed 19 = .ok (.iconst 1, 1) := dk_4 (dk_at dksX0_setNeed_0 19 rfl rfl)
theorem dX0_setNeed_20 : decode cX0_setNeed 20 = .ok (.ireturn, 1) := dk_172 (dk_at dksX0_setNeed_0 20 rfl rfl)
theorem dX0_setNeed_21 : decode cX0_setNeed 21 = .ok (.iconst 0, 1) := dk_3 (dk_at dksX0_setNeed_0 21 rfl rfl)
theorem dX0_setNeed_22 : decode cX0_setNeed 22 = .ok (.ireturn, 1) := dk_172 (dk_at dksX0_setNeed_0 22 rfl rfl)
abbrev cX0_turnReset : ByteArray := method_18_code
def yX0_turnReset : MethodName := ⟨RX0, "turnReset", "(LFerryClocks;II[J)I"⟩
def dkwX0_turnReset_1 : List UInt8 := [3, 172]
abbrev dktX0_turnReset_1 : List UInt8 := dkwX0_turnReset_1 ++ []
def dkwX0_turnReset_0 : List UInt8 := [45, 3, 42, 27, 28, 182, 0, 66, 153, 0, 7, 10, 167, 0, 4, 9, 80, 167, 0, 7, 58, 4, 4, 172]
abbrev dktX0_turnReset_0 : List UInt8 := dkwX0_turnReset_0 ++ dktX0_turnReset_1
theorem dksX0_turnReset_0 : cX0_turnReset.data.toList.drop 0 = dktX0_turnReset_0 := by decide +kernel
theorem dksX0_turnReset_1 : cX0_turnReset.data.toList.drop 24 = dktX0_turnReset_1 := dk_seg dksX0_turnReset_0 24 rfl rfl
theorem dX0_turnReset_0 : decode cX0_turnReset 0 = .ok (.aload_n 3, 1) := dk_45 (dk_at dksX0_turnReset_0 0 rfl rfl)
theorem dX0_turnReset_1 : decode cX0_turnReset 1 = .ok (.iconst 0, 1) := dk_3 (dk_at dksX0_turnReset_0 1 rfl rfl)
theorem dX0_turnReset_2 : decode cX0_turnReset 2 = .ok (.aload_n 0, 1) := dk_42 (dk_at dksX0_turnReset_0 2 rfl rfl)
theorem dX0_turnReset_3 : decode cX0_turnReset 3 = .ok (.iload_n 1, 1) := dk_27 (dk_at dksX0_turnReset_0 3 rfl rfl)
theorem dX0_turnReset_4 : decode cX0_turnReset 4 = .ok (.iload_n 2, 1) := dk_28 (dk_at dksX0_turnReset_0 4 rfl rfl)
theorem dX0_turnReset_5 : decode cX0_turnReset 5 = .ok (.invokevirtual 66, 3) := dk_182 0 66 (dk_at dksX0_turnReset_0 5 rfl rfl)
theorem dX0_turnReset_8 : decode cX0_turnReset 8 = .ok (.ifCond .eq 7, 3) := dk_153 0 7 (dk_at dksX0_turnReset_0 8 rfl rfl)
theorem dX0_turnReset_11 : decode cX0_turnReset 11 = .ok (.lconst 1, 1) := dk_10 (dk_at dksX0_turnReset_0 11 rfl rfl)
theorem dX0_turnReset_12 : decode cX0_turnReset 12 = .ok (.goto 4, 3) := dk_167 0 4 (dk_at dksX0_turnReset_0 12 rfl rfl)
theorem dX0_turnReset_15 : decode cX0_turnReset 15 = .ok (.lconst 0, 1) := dk_9 (dk_at dksX0_turnReset_0 15 rfl rfl)
theorem dX0_turnReset_16 : decode cX0_turnReset 16 = .ok (.lastore, 1) := dk_80 (dk_at dksX0_turnReset_0 16 rfl rfl)
theorem dX0_turnReset_17 : decode cX0_turnReset 17 = .ok (.goto 7, 3) := dk_167 0 7 (dk_at dksX0_turnReset_0 17 rfl rfl)
theorem dX0_turnReset_20 : decode cX0_turnReset 20 = .ok (.astore 4, 2) := dk_58 4 (dk_at dksX0_turnReset_0 20 rfl rfl)
theorem dX0_turnReset_22 : decode cX0_turnReset 22 = .ok (.iconst 1, 1) := dk_4 (dk_at dksX0_turnReset_0 22 rfl rfl)
theorem dX0_turnReset_23 : decode cX0_turnReset 23 = .ok (.ireturn, 1) := dk_172 (dk_at dksX0_turnReset_0 23 rfl rfl)
theorem dX0_turnReset_24 : decode cX0_turnReset 24 = .ok (.iconst 0, 1) := dk_3 (dk_at dksX0_turnReset_1 0 rfl rfl)
theorem dX0_turnReset_25 : decode cX0_turnReset 25 = .ok (.ireturn, 1) := dk_172 (dk_at dksX0_turnReset_1 1 rfl rfl)
abbrev cX0_told : ByteArray := method_19_code
def yX0_told : MethodName := ⟨RX0, "told", "(LFerryClocks;II[J)I"⟩
def dkwX0_told_0 : List UInt8 := [45, 3, 42, 27, 28, 182, 0, 69, 133, 80, 167, 0, 11, 58, 4, 4, 172, 58, 4, 5, 172, 3, 172]
abbrev dktX0_told_0 : List UInt8 := dkwX0_told_0 ++ []
theorem dksX0_told_0 : cX0_told.data.toList.drop 0 = dktX0_told_0 := by decide +kernel
theorem dX0_told_0 : decode cX0_told 0 = .ok (.aload_n 3, 1) := dk_45 (dk_at dksX0_told_0 0 rfl rfl)
theorem dX0_told_1 : decode cX0_told 1 = .ok (.iconst 0, 1) := dk_3 (dk_at dksX0_told_0 1 rfl rfl)
theorem dX0_told_2 : decode cX0_told 2 = .ok (.aload_n 0, 1) := dk_42 (dk_at dksX0_told_0 2 rfl rfl)
theorem dX0_told_3 : decode cX0_told 3 = .ok (.iload_n 1, 1) := dk_27 (dk_at dksX0_told_0 3 rfl rfl)
theorem dX0_told_4 : decode cX0_told 4 = .ok (.iload_n 2, 1) := dk_28 (dk_at dksX0_told_0 4 rfl rfl)
theorem dX0_told_5 : decode cX0_told 5 = .ok (.invokevirtual 69, 3) := dk_182 0 69 (dk_at dksX0_told_0 5 rfl rfl)
theorem dX0_told_8 : decode cX0_told 8 = .ok (.i2l, 1) := dk_133 (dk_at dksX0_told_0 8 rfl rfl)
theorem dX0_told_9 : decode cX0_told 9 = .ok (.lastore, 1) := dk_80 (dk_at dksX0_told_0 9 rfl rfl)
theorem dX0_told_10 : decode cX0_told 10 = .ok (.goto 11, 3) := dk_167 0 11 (dk_at dksX0_told_0 10 rfl rfl)
theorem dX0_told_13 : decode cX0_told 13 = .ok (.astore 4, 2) := dk_58 4 (dk_at dksX0_told_0 13 rfl rfl)
theorem dX0_told_15 : decode cX0_told 15 = .ok (.iconst 1, 1) := dk_4 (dk_at dksX0_told_0 15 rfl rfl)
theorem dX0_told_16 : decode cX0_told 16 = .ok (.ireturn, 1) := dk_172 (dk_at dksX0_told_0 16 rfl rfl)
theorem dX0_told_17 : decode cX0_told 17 = .ok (.astore 4, 2) := dk_58 4 (dk_at dksX0_told_0 17 rfl rfl)
theorem dX0_told_19 : decode cX0_told 19 = .ok (.iconst 2, 1) := dk_5 (dk_at dksX0_told_0 19 rfl rfl)
theorem dX0_told_20 : decode cX0_told 20 = .ok (.ireturn, 1) := dk_172 (dk_at dksX0_told_0 20 rfl rfl)
theorem dX0_told_21 : decode cX0_told 21 = .ok (.iconst 0, 1) := dk_3 (dk_at dksX0_told_0 21 rfl rfl)
theorem dX0_told_22 : decode cX0_told 22 = .ok (.ireturn, 1) := dk_172 (dk_at dksX0_told_0 22 rfl rfl)
abbrev cX0_tightened : ByteArray := method_20_code
def yX0_tightened : MethodName := ⟨RX0, "tightened", "(LFerryClocks;II[J)I"⟩
def dkwX0_tightened_0 : List UInt8 := [45, 3, 42, 27, 28, 182, 0, 74, 133, 80, 167, 0, 11, 58, 4, 4, 172, 58, 4, 5, 172, 3, 172]
abbrev dktX0_tightened_0 : List UInt8 := dkwX0_tightened_0 ++ []
theorem dksX0_tightened_0 : cX0_tightened.data.toList.drop 0 = dktX0_tightened_0 := by decide +kernel
theorem dX0_tightened_0 : decode cX0_tightened 0 = .ok (.aload_n 3, 1) := dk_45 (dk_at dksX0_tightened_0 0 rfl rfl)
theorem dX0_tightened_1 : decode cX0_tightened 1 = .ok (.iconst 0, 1) := dk_3 (dk_at dksX0_tightened_0 1 rfl rfl)
theorem dX0_tightened_2 : decode cX0_tightened 2 = .ok (.aload_n 0, 1) := dk_42 (dk_at dksX0_tightened_0 2 rfl rfl)
theorem dX0_tightened_3 : decode cX0_tightened 3 = .ok (.iload_n 1, 1) := dk_27 (dk_at dksX0_tightened_0 3 rfl rfl)
theorem dX0_tightened_4 : decode cX0_tightened 4 = .ok (.iload_n 2, 1) := dk_28 (dk_at dksX0_tightened_0 4 rfl rfl)
theorem dX0_tightened_5 : decode cX0_tightened 5 = .ok (.invokevirtual 74, 3) := dk_182 0 74 (dk_at dksX0_tightened_0 5 rfl rfl)
theorem dX0_tightened_8 : decode cX0_tightened 8 = .ok (.i2l, 1) := dk_133 (dk_at dksX0_tightened_0 8 rfl rfl)
theorem dX0_tightened_9 : decode cX0_tightened 9 = .ok (.lastore, 1) := dk_80 (dk_at dksX0_tightened_0 9 rfl rfl)
theorem dX0_tightened_10 : decode cX0_tightened 10 = .ok (.goto 11, 3) := dk_167 0 11 (dk_at dksX0_tightened_0 10 rfl rfl)
theorem dX0_tightened_13 : decode cX0_tightened 13 = .ok (.astore 4, 2) := dk_58 4 (dk_at dksX0_tightened_0 13 rfl rfl)
theorem dX0_tightened_15 : decode cX0_tightened 15 = .ok (.iconst 1, 1) := dk_4 (dk_at dksX0_tightened_0 15 rfl rfl)
theorem dX0_tightened_16 : decode cX0_tightened 16 = .ok (.ireturn, 1) := dk_172 (dk_at dksX0_tightened_0 16 rfl rfl)
theorem dX0_tightened_17 : decode cX0_tightened 17 = .ok (.astore 4, 2) := dk_58 4 (dk_at dksX0_tightened_0 17 rfl rfl)
theorem dX0_tightened_19 : decode cX0_tightened 19 = .ok (.iconst 2, 1) := dk_5 (dk_at dksX0_tightened_0 19 rfl rfl)
theorem dX0_tightened_20 : decode cX0_tightened 20 = .ok (.ireturn, 1) := dk_172 (dk_at dksX0_tightened_0 20 rfl rfl)
theorem dX0_tightened_21 : decode cX0_tightened 21 = .ok (.iconst 0, 1) := dk_3 (dk_at dksX0_tightened_0 21 rfl rfl)
theorem dX0_tightened_22 : decode cX0_tightened 22 = .ok (.ireturn, 1) := dk_172 (dk_at dksX0_tightened_0 22 rfl rfl)
abbrev cX0_hasMoment : ByteArray := method_21_code
def yX0_hasMoment : MethodName := ⟨RX0, "hasMoment", "(LFerryClocks;III[J)I"⟩
def dkwX0_hasMoment_1 : List UInt8 := [4, 172, 3, 172]
abbrev dktX0_hasMoment_1 : List UInt8 := dkwX0_hasMoment_1 ++ []
def dkwX0_hasMoment_0 : List UInt8 := [25, 4, 3, 42, 27, 28, 29, 182, 0, 77, 153, 0, 7, 10, 167, 0, 4, 9, 80, 167, 0, 7, 58, 5]
abbrev dktX0_hasMoment_0 : List UInt8 := dkwX0_hasMoment_0 ++ dktX0_hasMoment_1
theorem dksX0_hasMoment_0 : cX0_hasMoment.data.toList.drop 0 = dktX0_hasMoment_0 := by decide +kernel
theorem dksX0_hasMoment_1 : cX0_hasMoment.data.toList.drop 24 = dktX0_hasMoment_1 := dk_seg dksX0_hasMoment_0 24 rfl rfl
theorem dX0_hasMoment_0 : decode cX0_hasMoment 0 = .ok (.aload 4, 2) := dk_25 4 (dk_at dksX0_hasMoment_0 0 rfl rfl)
theorem dX0_hasMoment_2 : decode cX0_hasMoment 2 = .ok (.iconst 0, 1) := dk_3 (dk_at dksX0_hasMoment_0 2 rfl rfl)
theorem dX0_hasMoment_3 : decode cX0_hasMoment 3 = .ok (.aload_n 0, 1) := dk_42 (dk_at dksX0_hasMoment_0 3 rfl rfl)
theorem dX0_hasMoment_4 : decode cX0_hasMoment 4 = .ok (.iload_n 1, 1) := dk_27 (dk_at dksX0_hasMoment_0 4 rfl rfl)
theorem dX0_hasMoment_5 : decode cX0_hasMoment 5 = .ok (.iload_n 2, 1) := dk_28 (dk_at dksX0_hasMoment_0 5 rfl rfl)
theorem dX0_hasMoment_6 : decode cX0_hasMoment 6 = .ok (.iload_n 3, 1) := dk_29 (dk_at dksX0_hasMoment_0 6 rfl rfl)
theorem dX0_hasMoment_7 : decode cX0_hasMoment 7 = .ok (.invokevirtual 77, 3) := dk_182 0 77 (dk_at dksX0_hasMoment_0 7 rfl rfl)
theorem dX0_hasMoment_10 : decode cX0_hasMoment 10 = .ok (.ifCond .eq 7, 3) := dk_153 0 7 (dk_at dksX0_hasMoment_0 10 rfl rfl)
theorem dX0_hasMoment_13 : decode cX0_hasMoment 13 = .ok (.lconst 1, 1) := dk_10 (dk_at dksX0_hasMoment_0 13 rfl rfl)
theorem dX0_hasMoment_14 : decode cX0_hasMoment 14 = .ok (.goto 4, 3) := dk_167 0 4 (dk_at dksX0_hasMoment_0 14 rfl rfl)
theorem dX0_hasMoment_17 : decode cX0_hasMoment 17 = .ok (.lconst 0, 1) := dk_9 (dk_at dksX0_hasMoment_0 17 rfl rfl)
theorem dX0_hasMoment_18 : decode cX0_hasMoment 18 = .ok (.lastore, 1) := dk_80 (dk_at dksX0_hasMoment_0 18 rfl rfl)
theorem dX0_hasMoment_19 : decode cX0_hasMoment 19 = .ok (.goto 7, 3) := dk_167 0 7 (dk_at dksX0_hasMoment_0 19 rfl rfl)
theorem dX0_hasMoment_22 : decode cX0_hasMoment 22 = .ok (.astore 5, 2) := dk_58 5 (dk_at dksX0_hasMoment_0 22 rfl rfl)
theorem dX0_hasMoment_24 : decode cX0_hasMoment 24 = .ok (.iconst 1, 1) := dk_4 (dk_at dksX0_hasMoment_1 0 rfl rfl)
theorem dX0_hasMoment_25 : decode cX0_hasMoment 25 = .ok (.ireturn, 1) := dk_172 (dk_at dksX0_hasMoment_1 1 rfl rfl)
theorem dX0_hasMoment_26 : decode cX0_hasMoment 26 = .ok (.iconst 0, 1) := dk_3 (dk_at dksX0_hasMoment_1 2 rfl rfl)
theorem dX0_hasMoment_27 : decode cX0_hasMoment 27 = .ok (.ireturn, 1) := dk_172 (dk_at dksX0_hasMoment_1 3 rfl rfl)
abbrev cX0_leastOf : ByteArray := method_22_code
def yX0_leastOf : MethodName := ⟨RX0, "leastOf", "(LFerryClocks;I[J)I"⟩
def dkwX0_leastOf_0 : List UInt8 := [44, 3, 42, 27, 182, 0, 80, 133, 80, 167, 0, 9, 78, 4, 172, 78, 5, 172, 3, 172]
abbrev dktX0_leastOf_0 : List UInt8 := dkwX0_leastOf_0 ++ []
theorem dksX0_leastOf_0 : cX0_leastOf.data.toList.drop 0 = dktX0_leastOf_0 := by decide +kernel
theorem dX0_leastOf_0 : decode cX0_leastOf 0 = .ok (.aload_n 2, 1) := dk_44 (dk_at dksX0_leastOf_0 0 rfl rfl)
theorem dX0_leastOf_1 : decode cX0_leastOf 1 = .ok (.iconst 0, 1) := dk_3 (dk_at dksX0_leastOf_0 1 rfl rfl)
theorem dX0_leastOf_2 : decode cX0_leastOf 2 = .ok (.aload_n 0, 1) := dk_42 (dk_at dksX0_leastOf_0 2 rfl rfl)
theorem dX0_leastOf_3 : decode cX0_leastOf 3 = .ok (.iload_n 1, 1) := dk_27 (dk_at dksX0_leastOf_0 3 rfl rfl)
theorem dX0_leastOf_4 : decode cX0_leastOf 4 = .ok (.invokevirtual 80, 3) := dk_182 0 80 (dk_at dksX0_leastOf_0 4 rfl rfl)
theorem dX0_leastOf_7 : decode cX0_leastOf 7 = .ok (.i2l, 1) := dk_133 (dk_at dksX0_leastOf_0 7 rfl rfl)
theorem dX0_leastOf_8 : decode cX0_leastOf 8 = .ok (.lastore, 1) := dk_80 (dk_at dksX0_leastOf_0 8 rfl rfl)
theorem dX0_leastOf_9 : decode cX0_leastOf 9 = .ok (.goto 9, 3) := dk_167 0 9 (dk_at dksX0_leastOf_0 9 rfl rfl)
theorem dX0_leastOf_12 : decode cX0_leastOf 12 = .ok (.astore_n 3, 1) := dk_78 (dk_at dksX0_leastOf_0 12 rfl rfl)
theorem dX0_leastOf_13 : decode cX0_leastOf 13 = .ok (.iconst 1, 1) := dk_4 (dk_at dksX0_leastOf_0 13 rfl rfl)
theorem dX0_leastOf_14 : decode cX0_leastOf 14 = .ok (.ireturn, 1) := dk_172 (dk_at dksX0_leastOf_0 14 rfl rfl)
theorem dX0_leastOf_15 : decode cX0_leastOf 15 = .ok (.astore_n 3, 1) := dk_78 (dk_at dksX0_leastOf_0 15 rfl rfl)
theorem dX0_leastOf_16 : decode cX0_leastOf 16 = .ok (.iconst 2, 1) := dk_5 (dk_at dksX0_leastOf_0 16 rfl rfl)
theorem dX0_leastOf_17 : decode cX0_leastOf 17 = .ok (.ireturn, 1) := dk_172 (dk_at dksX0_leastOf_0 17 rfl rfl)
theorem dX0_leastOf_18 : decode cX0_leastOf 18 = .ok (.iconst 0, 1) := dk_3 (dk_at dksX0_leastOf_0 18 rfl rfl)
theorem dX0_leastOf_19 : decode cX0_leastOf 19 = .ok (.ireturn, 1) := dk_172 (dk_at dksX0_leastOf_0 19 rfl rfl)
abbrev cX0_mostOf : ByteArray := method_23_code
def yX0_mostOf : MethodName := ⟨RX0, "mostOf", "(LFerryClocks;I[J)I"⟩
def dkwX0_mostOf_0 : List UInt8 := [44, 3, 42, 27, 182, 0, 83, 133, 80, 167, 0, 9, 78, 4, 172, 78, 5, 172, 3, 172]
abbrev dktX0_mostOf_0 : List UInt8 := dkwX0_mostOf_0 ++ []
theorem dksX0_mostOf_0 : cX0_mostOf.data.toList.drop 0 = dktX0_mostOf_0 := by decide +kernel
theorem dX0_mostOf_0 : decode cX0_mostOf 0 = .ok (.aload_n 2, 1) := dk_44 (dk_at dksX0_mostOf_0 0 rfl rfl)
theorem dX0_mostOf_1 : decode cX0_mostOf 1 = .ok (.iconst 0, 1) := dk_3 (dk_at dksX0_mostOf_0 1 rfl rfl)
theorem dX0_mostOf_2 : decode cX0_mostOf 2 = .ok (.aload_n 0, 1) := dk_42 (dk_at dksX0_mostOf_0 2 rfl rfl)
theorem dX0_mostOf_3 : decode cX0_mostOf 3 = .ok (.iload_n 1, 1) := dk_27 (dk_at dksX0_mostOf_0 3 rfl rfl)
theorem dX0_mostOf_4 : decode cX0_mostOf 4 = .ok (.invokevirtual 83, 3) := dk_182 0 83 (dk_at dksX0_mostOf_0 4 rfl rfl)
theorem dX0_mostOf_7 : decode cX0_mostOf 7 = .ok (.i2l, 1) := dk_133 (dk_at dksX0_mostOf_0 7 rfl rfl)
theorem dX0_mostOf_8 : decode cX0_mostOf 8 = .ok (.lastore, 1) := dk_80 (dk_at dksX0_mostOf_0 8 rfl rfl)
theorem dX0_mostOf_9 : decode cX0_mostOf 9 = .ok (.goto 9, 3) := dk_167 0 9 (dk_at dksX0_mostOf_0 9 rfl rfl)
theorem dX0_mostOf_12 : decode cX0_mostOf 12 = .ok (.astore_n 3, 1) := dk_78 (dk_at dksX0_mostOf_0 12 rfl rfl)
theorem dX0_mostOf_13 : decode cX0_mostOf 13 = .ok (.iconst 1, 1) := dk_4 (dk_at dksX0_mostOf_0 13 rfl rfl)
theorem dX0_mostOf_14 : decode cX0_mostOf 14 = .ok (.ireturn, 1) := dk_172 (dk_at dksX0_mostOf_0 14 rfl rfl)
theorem dX0_mostOf_15 : decode cX0_mostOf 15 = .ok (.astore_n 3, 1) := dk_78 (dk_at dksX0_mostOf_0 15 rfl rfl)
theorem dX0_mostOf_16 : decode cX0_mostOf 16 = .ok (.iconst 2, 1) := dk_5 (dk_at dksX0_mostOf_0 16 rfl rfl)
theorem dX0_mostOf_17 : decode cX0_mostOf 17 = .ok (.ireturn, 1) := dk_172 (dk_at dksX0_mostOf_0 17 rfl rfl)
theorem dX0_mostOf_18 : decode cX0_mostOf 18 = .ok (.iconst 0, 1) := dk_3 (dk_at dksX0_mostOf_0 18 rfl rfl)
theorem dX0_mostOf_19 : decode cX0_mostOf 19 = .ok (.ireturn, 1) := dk_172 (dk_at dksX0_mostOf_0 19 rfl rfl)
abbrev cX0_longestDelay : ByteArray := method_24_code
def yX0_longestDelay : MethodName := ⟨RX0, "longestDelay", "(LFerryClocks;III[J)I"⟩
def dkwX0_longestDelay_1 : List UInt8 := [172]
abbrev dktX0_longestDelay_1 : List UInt8 := dkwX0_longestDelay_1 ++ []
def dkwX0_longestDelay_0 : List UInt8 := [25, 4, 3, 42, 27, 28, 29, 182, 0, 86, 133, 80, 167, 0, 11, 58, 5, 4, 172, 58, 5, 5, 172, 3]
abbrev dktX0_longestDelay_0 : List UInt8 := dkwX0_longestDelay_0 ++ dktX0_longestDelay_1
theorem dksX0_longestDelay_0 : cX0_longestDelay.data.toList.drop 0 = dktX0_longestDelay_0 := by decide +kernel
theorem dksX0_longestDelay_1 : cX0_longestDelay.data.toList.drop 24 = dktX0_longestDelay_1 := dk_seg dksX0_longestDelay_0 24 rfl rfl
theorem dX0_longestDelay_0 : decode cX0_longestDelay 0 = .ok (.aload 4, 2) := dk_25 4 (dk_at dksX0_longestDelay_0 0 rfl rfl)
theorem dX0_longestDelay_2 : decode cX0_longestDelay 2 = .ok (.iconst 0, 1) := dk_3 (dk_at dksX0_longestDelay_0 2 rfl rfl)
theorem dX0_longestDelay_3 : decode cX0_longestDelay 3 = .ok (.aload_n 0, 1) := dk_42 (dk_at dksX0_longestDelay_0 3 rfl rfl)
theorem dX0_longestDelay_4 : decode cX0_longestDelay 4 = .ok (.iload_n 1, 1) := dk_27 (dk_at dksX0_longestDelay_0 4 rfl rfl)
theorem dX0_longestDelay_5 : decode cX0_longestDelay 5 = .ok (.iload_n 2, 1) := dk_28 (dk_at dksX0_longestDelay_0 5 rfl rfl)
theorem dX0_longestDelay_6 : decode cX0_longestDelay 6 = .ok (.iload_n 3, 1) := dk_29 (dk_at dksX0_longestDelay_0 6 rfl rfl)
theorem dX0_longestDelay_7 : decode cX0_longestDelay 7 = .ok (.invokevirtual 86, 3) := dk_182 0 86 (dk_at dksX0_longestDelay_0 7 rfl rfl)
theorem dX0_longestDelay_10 : decode cX0_longestDelay 10 = .ok (.i2l, 1) := dk_133 (dk_at dksX0_longestDelay_0 10 rfl rfl)
theorem dX0_longestDelay_11 : decode cX0_longestDelay 11 = .ok (.lastore, 1) := dk_80 (dk_at dksX0_longestDelay_0 11 rfl rfl)
theorem dX0_longestDelay_12 : decode cX0_longestDelay 12 = .ok (.goto 11, 3) := dk_167 0 11 (dk_at dksX0_longestDelay_0 12 rfl rfl)
theorem dX0_longestDelay_15 : decode cX0_longestDelay 15 = .ok (.astore 5, 2) := dk_58 5 (dk_at dksX0_longestDelay_0 15 rfl rfl)
theorem dX0_longestDelay_17 : decode cX0_longestDelay 17 = .ok (.iconst 1, 1) := dk_4 (dk_at dksX0_longestDelay_0 17 rfl rfl)
theorem dX0_longestDelay_18 : decode cX0_longestDelay 18 = .ok (.ireturn, 1) := dk_172 (dk_at dksX0_longestDelay_0 18 rfl rfl)
theorem dX0_longestDelay_19 : decode cX0_longestDelay 19 = .ok (.astore 5, 2) := dk_58 5 (dk_at dksX0_longestDelay_0 19 rfl rfl)
theorem dX0_longestDelay_21 : decode cX0_longestDelay 21 = .ok (.iconst 2, 1) := dk_5 (dk_at dksX0_longestDelay_0 21 rfl rfl)
theorem dX0_longestDelay_22 : decode cX0_longestDelay 22 = .ok (.ireturn, 1) := dk_172 (dk_at dksX0_longestDelay_0 22 rfl rfl)
theorem dX0_longestDelay_23 : decode cX0_longestDelay 23 = .ok (.iconst 0, 1) := dk_3 (dk_at dksX0_longestDelay_0 23 rfl rfl)
theorem dX0_longestDelay_24 : decode cX0_longestDelay 24 = .ok (.ireturn, 1) := dk_172 (dk_at dksX0_longestDelay_1 0 rfl rfl)
abbrev cX0_needless : ByteArray := method_25_code
def yX0_needless : MethodName := ⟨RX0, "needless", "(LFerryClocks;[J)I"⟩
def dkwX0_needless_0 : List UInt8 := [43, 3, 42, 182, 0, 89, 133, 80, 167, 0, 6, 77, 4, 172, 3, 172]
abbrev dktX0_needless_0 : List UInt8 := dkwX0_needless_0 ++ []
theorem dksX0_needless_0 : cX0_needless.data.toList.drop 0 = dktX0_needless_0 := by decide +kernel
theorem dX0_needless_0 : decode cX0_needless 0 = .ok (.aload_n 1, 1) := dk_43 (dk_at dksX0_needless_0 0 rfl rfl)
theorem dX0_needless_1 : decode cX0_needless 1 = .ok (.iconst 0, 1) := dk_3 (dk_at dksX0_needless_0 1 rfl rfl)
theorem dX0_needless_2 : decode cX0_needless 2 = .ok (.aload_n 0, 1) := dk_42 (dk_at dksX0_needless_0 2 rfl rfl)
theorem dX0_needless_3 : decode cX0_needless 3 = .ok (.invokevirtual 89, 3) := dk_182 0 89 (dk_at dksX0_needless_0 3 rfl rfl)
theorem dX0_needless_6 : decode cX0_needless 6 = .ok (.i2l, 1) := dk_133 (dk_at dksX0_needless_0 6 rfl rfl)
theorem dX0_needless_7 : decode cX0_needless 7 = .ok (.lastore, 1) := dk_80 (dk_at dksX0_needless_0 7 rfl rfl)
theorem dX0_needless_8 : decode cX0_needless 8 = .ok (.goto 6, 3) := dk_167 0 6 (dk_at dksX0_needless_0 8 rfl rfl)
theorem dX0_needless_11 : decode cX0_needless 11 = .ok (.astore_n 2, 1) := dk_77 (dk_at dksX0_needless_0 11 rfl rfl)
theorem dX0_needless_12 : decode cX0_needless 12 = .ok (.iconst 1, 1) := dk_4 (dk_at dksX0_needless_0 12 rfl rfl)
theorem dX0_needless_13 : decode cX0_needless 13 = .ok (.ireturn, 1) := dk_172 (dk_at dksX0_needless_0 13 rfl rfl)
theorem dX0_needless_14 : decode cX0_needless 14 = .ok (.iconst 0, 1) := dk_3 (dk_at dksX0_needless_0 14 rfl rfl)
theorem dX0_needless_15 : decode cX0_needless 15 = .ok (.ireturn, 1) := dk_172 (dk_at dksX0_needless_0 15 rfl rfl)
abbrev cX0_isShelfEmpty : ByteArray := method_26_code
def yX0_isShelfEmpty : MethodName := ⟨RX0, "isShelfEmpty", "(LFerryClocks;I[J)I"⟩
def dkwX0_isShelfEmpty_0 : List UInt8 := [44, 3, 42, 27, 182, 0, 92, 153, 0, 7, 10, 167, 0, 4, 9, 80, 167, 0, 6, 78, 4, 172, 3, 172]
abbrev dktX0_isShelfEmpty_0 : List UInt8 := dkwX0_isShelfEmpty_0 ++ []
theorem dksX0_isShelfEmpty_0 : cX0_isShelfEmpty.data.toList.drop 0 = dktX0_isShelfEmpty_0 := by decide +kernel
theorem dX0_isShelfEmpty_0 : decode cX0_isShelfEmpty 0 = .ok (.aload_n 2, 1) := dk_44 (dk_at dksX0_isShelfEmpty_0 0 rfl rfl)
theorem dX0_isShelfEmpty_1 : decode cX0_isShelfEmpty 1 = .ok (.iconst 0, 1) := dk_3 (dk_at dksX0_isShelfEmpty_0 1 rfl rfl)
theorem dX0_isShelfEmpty_2 : decode cX0_isShelfEmpty 2 = .ok (.aload_n 0, 1) := dk_42 (dk_at dksX0_isShelfEmpty_0 2 rfl rfl)
theorem dX0_isShelfEmpty_3 : decode cX0_isShelfEmpty 3 = .ok (.iload_n 1, 1) := dk_27 (dk_at dksX0_isShelfEmpty_0 3 rfl rfl)
theorem dX0_isShelfEmpty_4 : decode cX0_isShelfEmpty 4 = .ok (.invokevirtual 92, 3) := dk_182 0 92 (dk_at dksX0_isShelfEmpty_0 4 rfl rfl)
theorem dX0_isShelfEmpty_7 : decode cX0_isShelfEmpty 7 = .ok (.ifCond .eq 7, 3) := dk_153 0 7 (dk_at dksX0_isShelfEmpty_0 7 rfl rfl)
theorem dX0_isShelfEmpty_10 : decode cX0_isShelfEmpty 10 = .ok (.lconst 1, 1) := dk_10 (dk_at dksX0_isShelfEmpty_0 10 rfl rfl)
theorem dX0_isShelfEmpty_11 : decode cX0_isShelfEmpty 11 = .ok (.goto 4, 3) := dk_167 0 4 (dk_at dksX0_isShelfEmpty_0 11 rfl rfl)
theorem dX0_isShelfEmpty_14 : decode cX0_isShelfEmpty 14 = .ok (.lconst 0, 1) := dk_9 (dk_at dksX0_isShelfEmpty_0 14 rfl rfl)
theorem dX0_isShelfEmpty_15 : decode cX0_isShelfEmpty 15 = .ok (.lastore, 1) := dk_80 (dk_at dksX0_isShelfEmpty_0 15 rfl rfl)
theorem dX0_isShelfEmpty_16 : decode cX0_isShelfEmpty 16 = .ok (.goto 6, 3) := dk_167 0 6 (dk_at dksX0_isShelfEmpty_0 16 rfl rfl)
theorem dX0_isShelfEmpty_19 : decode cX0_isShelfEmpty 19 = .ok (.astore_n 3, 1) := dk_78 (dk_at dksX0_isShelfEmpty_0 19 rfl rfl)
theorem dX0_isShelfEmpty_20 : decode cX0_isShelfEmpty 20 = .ok (.iconst 1, 1) := dk_4 (dk_at dksX0_isShelfEmpty_0 20 rfl rfl)
theorem dX0_isShelfEmpty_21 : decode cX0_isShelfEmpty 21 = .ok (.ireturn, 1) := dk_172 (dk_at dksX0_isShelfEmpty_0 21 rfl rfl)
theorem dX0_isShelfEmpty_22 : decode cX0_isShelfEmpty 22 = .ok (.iconst 0, 1) := dk_3 (dk_at dksX0_isShelfEmpty_0 22 rfl rfl)
theorem dX0_isShelfEmpty_23 : decode cX0_isShelfEmpty 23 = .ok (.ireturn, 1) := dk_172 (dk_at dksX0_isShelfEmpty_0 23 rfl rfl)
abbrev cX0_isWithin : ByteArray := method_27_code
def yX0_isWithin : MethodName := ⟨RX0, "isWithin", "(LFerryClocks;I[J)I"⟩
def dkwX0_isWithin_1 : List UInt8 := [172, 3, 172]
abbrev dktX0_isWithin_1 : List UInt8 := dkwX0_isWithin_1 ++ []
def dkwX0_isWithin_0 : List UInt8 := [44, 3, 42, 27, 182, 0, 95, 153, 0, 7, 10, 167, 0, 4, 9, 80, 167, 0, 9, 78, 4, 172, 78, 5]
abbrev dktX0_isWithin_0 : List UInt8 := dkwX0_isWithin_0 ++ dktX0_isWithin_1
theorem dksX0_isWithin_0 : cX0_isWithin.data.toList.drop 0 = dktX0_isWithin_0 := by decide +kernel
theorem dksX0_isWithin_1 : cX0_isWithin.data.toList.drop 24 = dktX0_isWithin_1 := dk_seg dksX0_isWithin_0 24 rfl rfl
theorem dX0_isWithin_0 : decode cX0_isWithin 0 = .ok (.aload_n 2, 1) := dk_44 (dk_at dksX0_isWithin_0 0 rfl rfl)
theorem dX0_isWithin_1 : decode cX0_isWithin 1 = .ok (.iconst 0, 1) := dk_3 (dk_at dksX0_isWithin_0 1 rfl rfl)
theorem dX0_isWithin_2 : decode cX0_isWithin 2 = .ok (.aload_n 0, 1) := dk_42 (dk_at dksX0_isWithin_0 2 rfl rfl)
theorem dX0_isWithin_3 : decode cX0_isWithin 3 = .ok (.iload_n 1, 1) := dk_27 (dk_at dksX0_isWithin_0 3 rfl rfl)
theorem dX0_isWithin_4 : decode cX0_isWithin 4 = .ok (.invokevirtual 95, 3) := dk_182 0 95 (dk_at dksX0_isWithin_0 4 rfl rfl)
theorem dX0_isWithin_7 : decode cX0_isWithin 7 = .ok (.ifCond .eq 7, 3) := dk_153 0 7 (dk_at dksX0_isWithin_0 7 rfl rfl)
theorem dX0_isWithin_10 : decode cX0_isWithin 10 = .ok (.lconst 1, 1) := dk_10 (dk_at dksX0_isWithin_0 10 rfl rfl)
theorem dX0_isWithin_11 : decode cX0_isWithin 11 = .ok (.goto 4, 3) := dk_167 0 4 (dk_at dksX0_isWithin_0 11 rfl rfl)
theorem dX0_isWithin_14 : decode cX0_isWithin 14 = .ok (.lconst 0, 1) := dk_9 (dk_at dksX0_isWithin_0 14 rfl rfl)
theorem dX0_isWithin_15 : decode cX0_isWithin 15 = .ok (.lastore, 1) := dk_80 (dk_at dksX0_isWithin_0 15 rfl rfl)
theorem dX0_isWithin_16 : decode cX0_isWithin 16 = .ok (.goto 9, 3) := dk_167 0 9 (dk_at dksX0_isWithin_0 16 rfl rfl)
theorem dX0_isWithin_19 : decode cX0_isWithin 19 = .ok (.astore_n 3, 1) := dk_78 (dk_at dksX0_isWithin_0 19 rfl rfl)
theorem dX0_isWithin_20 : decode cX0_isWithin 20 = .ok (.iconst 1, 1) := dk_4 (dk_at dksX0_isWithin_0 20 rfl rfl)
theorem dX0_isWithin_21 : decode cX0_isWithin 21 = .ok (.ireturn, 1) := dk_172 (dk_at dksX0_isWithin_0 21 rfl rfl)
theorem dX0_isWithin_22 : decode cX0_isWithin 22 = .ok (.astore_n 3, 1) := dk_78 (dk_at dksX0_isWithin_0 22 rfl rfl)
theorem dX0_isWithin_23 : decode cX0_isWithin 23 = .ok (.iconst 2, 1) := dk_5 (dk_at dksX0_isWithin_0 23 rfl rfl)
theorem dX0_isWithin_24 : decode cX0_isWithin 24 = .ok (.ireturn, 1) := dk_172 (dk_at dksX0_isWithin_1 0 rfl rfl)
theorem dX0_isWithin_25 : decode cX0_isWithin 25 = .ok (.iconst 0, 1) := dk_3 (dk_at dksX0_isWithin_1 1 rfl rfl)
theorem dX0_isWithin_26 : decode cX0_isWithin 26 = .ok (.ireturn, 1) := dk_172 (dk_at dksX0_isWithin_1 2 rfl rfl)
abbrev cX0_momentsBeyond : ByteArray := method_28_code
def yX0_momentsBeyond : MethodName := ⟨RX0, "momentsBeyond", "(LFerryClocks;I[J)I"⟩
def dkwX0_momentsBeyond_0 : List UInt8 := [44, 3, 42, 27, 182, 0, 98, 133, 80, 167, 0, 9, 78, 4, 172, 78, 5, 172, 3, 172]
abbrev dktX0_momentsBeyond_0 : List UInt8 := dkwX0_momentsBeyond_0 ++ []
theorem dksX0_momentsBeyond_0 : cX0_momentsBeyond.data.toList.drop 0 = dktX0_momentsBeyond_0 := by decide +kernel
theorem dX0_momentsBeyond_0 : decode cX0_momentsBeyond 0 = .ok (.aload_n 2, 1) := dk_44 (dk_at dksX0_momentsBeyond_0 0 rfl rfl)
theorem dX0_momentsBeyond_1 : decode cX0_momentsBeyond 1 = .ok (.iconst 0, 1) := dk_3 (dk_at dksX0_momentsBeyond_0 1 rfl rfl)
theorem dX0_momentsBeyond_2 : decode cX0_momentsBeyond 2 = .ok (.aload_n 0, 1) := dk_42 (dk_at dksX0_momentsBeyond_0 2 rfl rfl)
theorem dX0_momentsBeyond_3 : decode cX0_momentsBeyond 3 = .ok (.iload_n 1, 1) := dk_27 (dk_at dksX0_momentsBeyond_0 3 rfl rfl)
theorem dX0_momentsBeyond_4 : decode cX0_momentsBeyond 4 = .ok (.invokevirtual 98, 3) := dk_182 0 98 (dk_at dksX0_momentsBeyond_0 4 rfl rfl)
theorem dX0_momentsBeyond_7 : decode cX0_momentsBeyond 7 = .ok (.i2l, 1) := dk_133 (dk_at dksX0_momentsBeyond_0 7 rfl rfl)
theorem dX0_momentsBeyond_8 : decode cX0_momentsBeyond 8 = .ok (.lastore, 1) := dk_80 (dk_at dksX0_momentsBeyond_0 8 rfl rfl)
theorem dX0_momentsBeyond_9 : decode cX0_momentsBeyond 9 = .ok (.goto 9, 3) := dk_167 0 9 (dk_at dksX0_momentsBeyond_0 9 rfl rfl)
theorem dX0_momentsBeyond_12 : decode cX0_momentsBeyond 12 = .ok (.astore_n 3, 1) := dk_78 (dk_at dksX0_momentsBeyond_0 12 rfl rfl)
theorem dX0_momentsBeyond_13 : decode cX0_momentsBeyond 13 = .ok (.iconst 1, 1) := dk_4 (dk_at dksX0_momentsBeyond_0 13 rfl rfl)
theorem dX0_momentsBeyond_14 : decode cX0_momentsBeyond 14 = .ok (.ireturn, 1) := dk_172 (dk_at dksX0_momentsBeyond_0 14 rfl rfl)
theorem dX0_momentsBeyond_15 : decode cX0_momentsBeyond 15 = .ok (.astore_n 3, 1) := dk_78 (dk_at dksX0_momentsBeyond_0 15 rfl rfl)
theorem dX0_momentsBeyond_16 : decode cX0_momentsBeyond 16 = .ok (.iconst 2, 1) := dk_5 (dk_at dksX0_momentsBeyond_0 16 rfl rfl)
theorem dX0_momentsBeyond_17 : decode cX0_momentsBeyond 17 = .ok (.ireturn, 1) := dk_172 (dk_at dksX0_momentsBeyond_0 17 rfl rfl)
theorem dX0_momentsBeyond_18 : decode cX0_momentsBeyond 18 = .ok (.iconst 0, 1) := dk_3 (dk_at dksX0_momentsBeyond_0 18 rfl rfl)
theorem dX0_momentsBeyond_19 : decode cX0_momentsBeyond 19 = .ok (.ireturn, 1) := dk_172 (dk_at dksX0_momentsBeyond_0 19 rfl rfl)
abbrev cX0_doMeet : ByteArray := method_29_code
def yX0_doMeet : MethodName := ⟨RX0, "doMeet", "(LFerryClocks;I[J)I"⟩
def dkwX0_doMeet_1 : List UInt8 := [172, 3, 172]
abbrev dktX0_doMeet_1 : List UInt8 := dkwX0_doMeet_1 ++ []
def dkwX0_doMeet_0 : List UInt8 := [44, 3, 42, 27, 182, 0, 101, 153, 0, 7, 10, 167, 0, 4, 9, 80, 167, 0, 9, 78, 4, 172, 78, 5]
abbrev dktX0_doMeet_0 : List UInt8 := dkwX0_doMeet_0 ++ dktX0_doMeet_1
theorem dksX0_doMeet_0 : cX0_doMeet.data.toList.drop 0 = dktX0_doMeet_0 := by decide +kernel
theorem dksX0_doMeet_1 : cX0_doMeet.data.toList.drop 24 = dktX0_doMeet_1 := dk_seg dksX0_doMeet_0 24 rfl rfl
theorem dX0_doMeet_0 : decode cX0_doMeet 0 = .ok (.aload_n 2, 1) := dk_44 (dk_at dksX0_doMeet_0 0 rfl rfl)
theorem dX0_doMeet_1 : decode cX0_doMeet 1 = .ok (.iconst 0, 1) := dk_3 (dk_at dksX0_doMeet_0 1 rfl rfl)
theorem dX0_doMeet_2 : decode cX0_doMeet 2 = .ok (.aload_n 0, 1) := dk_42 (dk_at dksX0_doMeet_0 2 rfl rfl)
theorem dX0_doMeet_3 : decode cX0_doMeet 3 = .ok (.iload_n 1, 1) := dk_27 (dk_at dksX0_doMeet_0 3 rfl rfl)
theorem dX0_doMeet_4 : decode cX0_doMeet 4 = .ok (.invokevirtual 101, 3) := dk_182 0 101 (dk_at dksX0_doMeet_0 4 rfl rfl)
theorem dX0_doMeet_7 : decode cX0_doMeet 7 = .ok (.ifCond .eq 7, 3) := dk_153 0 7 (dk_at dksX0_doMeet_0 7 rfl rfl)
theorem dX0_doMeet_10 : decode cX0_doMeet 10 = .ok (.lconst 1, 1) := dk_10 (dk_at dksX0_doMeet_0 10 rfl rfl)
theorem dX0_doMeet_11 : decode cX0_doMeet 11 = .ok (.goto 4, 3) := dk_167 0 4 (dk_at dksX0_doMeet_0 11 rfl rfl)
theorem dX0_doMeet_14 : decode cX0_doMeet 14 = .ok (.lconst 0, 1) := dk_9 (dk_at dksX0_doMeet_0 14 rfl rfl)
theorem dX0_doMeet_15 : decode cX0_doMeet 15 = .ok (.lastore, 1) := dk_80 (dk_at dksX0_doMeet_0 15 rfl rfl)
theorem dX0_doMeet_16 : decode cX0_doMeet 16 = .ok (.goto 9, 3) := dk_167 0 9 (dk_at dksX0_doMeet_0 16 rfl rfl)
theorem dX0_doMeet_19 : decode cX0_doMeet 19 = .ok (.astore_n 3, 1) := dk_78 (dk_at dksX0_doMeet_0 19 rfl rfl)
theorem dX0_doMeet_20 : decode cX0_doMeet 20 = .ok (.iconst 1, 1) := dk_4 (dk_at dksX0_doMeet_0 20 rfl rfl)
theorem dX0_doMeet_21 : decode cX0_doMeet 21 = .ok (.ireturn, 1) := dk_172 (dk_at dksX0_doMeet_0 21 rfl rfl)
theorem dX0_doMeet_22 : decode cX0_doMeet 22 = .ok (.astore_n 3, 1) := dk_78 (dk_at dksX0_doMeet_0 22 rfl rfl)
theorem dX0_doMeet_23 : decode cX0_doMeet 23 = .ok (.iconst 2, 1) := dk_5 (dk_at dksX0_doMeet_0 23 rfl rfl)
theorem dX0_doMeet_24 : decode cX0_doMeet 24 = .ok (.ireturn, 1) := dk_172 (dk_at dksX0_doMeet_1 0 rfl rfl)
theorem dX0_doMeet_25 : decode cX0_doMeet 25 = .ok (.iconst 0, 1) := dk_3 (dk_at dksX0_doMeet_1 1 rfl rfl)
theorem dX0_doMeet_26 : decode cX0_doMeet 26 = .ok (.ireturn, 1) := dk_172 (dk_at dksX0_doMeet_1 2 rfl rfl)
abbrev cX0_stayOf : ByteArray := method_30_code
def yX0_stayOf : MethodName := ⟨RX0, "stayOf", "(LFerryClocks;II[J)I"⟩
def dkwX0_stayOf_0 : List UInt8 := [45, 3, 42, 27, 28, 182, 0, 104, 133, 80, 167, 0, 7, 58, 4, 4, 172, 3, 172]
abbrev dktX0_stayOf_0 : List UInt8 := dkwX0_stayOf_0 ++ []
theorem dksX0_stayOf_0 : cX0_stayOf.data.toList.drop 0 = dktX0_stayOf_0 := by decide +kernel
theorem dX0_stayOf_0 : decode cX0_stayOf 0 = .ok (.aload_n 3, 1) := dk_45 (dk_at dksX0_stayOf_0 0 rfl rfl)
theorem dX0_stayOf_1 : decode cX0_stayOf 1 = .ok (.iconst 0, 1) := dk_3 (dk_at dksX0_stayOf_0 1 rfl rfl)
theorem dX0_stayOf_2 : decode cX0_stayOf 2 = .ok (.aload_n 0, 1) := dk_42 (dk_at dksX0_stayOf_0 2 rfl rfl)
theorem dX0_stayOf_3 : decode cX0_stayOf 3 = .ok (.iload_n 1, 1) := dk_27 (dk_at dksX0_stayOf_0 3 rfl rfl)
theorem dX0_stayOf_4 : decode cX0_stayOf 4 = .ok (.iload_n 2, 1) := dk_28 (dk_at dksX0_stayOf_0 4 rfl rfl)
theorem dX0_stayOf_5 : decode cX0_stayOf 5 = .ok (.invokevirtual 104, 3) := dk_182 0 104 (dk_at dksX0_stayOf_0 5 rfl rfl)
theorem dX0_stayOf_8 : decode cX0_stayOf 8 = .ok (.i2l, 1) := dk_133 (dk_at dksX0_stayOf_0 8 rfl rfl)
theorem dX0_stayOf_9 : decode cX0_stayOf 9 = .ok (.lastore, 1) := dk_80 (dk_at dksX0_stayOf_0 9 rfl rfl)
theorem dX0_stayOf_10 : decode cX0_stayOf 10 = .ok (.goto 7, 3) := dk_167 0 7 (dk_at dksX0_stayOf_0 10 rfl rfl)
theorem dX0_stayOf_13 : decode cX0_stayOf 13 = .ok (.astore 4, 2) := dk_58 4 (dk_at dksX0_stayOf_0 13 rfl rfl)
theorem dX0_stayOf_15 : decode cX0_stayOf 15 = .ok (.iconst 1, 1) := dk_4 (dk_at dksX0_stayOf_0 15 rfl rfl)
theorem dX0_stayOf_16 : decode cX0_stayOf 16 = .ok (.ireturn, 1) := dk_172 (dk_at dksX0_stayOf_0 16 rfl rfl)
theorem dX0_stayOf_17 : decode cX0_stayOf 17 = .ok (.iconst 0, 1) := dk_3 (dk_at dksX0_stayOf_0 17 rfl rfl)
theorem dX0_stayOf_18 : decode cX0_stayOf 18 = .ok (.ireturn, 1) := dk_172 (dk_at dksX0_stayOf_0 18 rfl rfl)
abbrev cX0_fromOf : ByteArray := method_31_code
def yX0_fromOf : MethodName := ⟨RX0, "fromOf", "(LFerryClocks;I[J)I"⟩
def dkwX0_fromOf_0 : List UInt8 := [44, 3, 42, 27, 182, 0, 107, 133, 80, 167, 0, 6, 78, 4, 172, 3, 172]
abbrev dktX0_fromOf_0 : List UInt8 := dkwX0_fromOf_0 ++ []
theorem dksX0_fromOf_0 : cX0_fromOf.data.toList.drop 0 = dktX0_fromOf_0 := by decide +kernel
theorem dX0_fromOf_0 : decode cX0_fromOf 0 = .ok (.aload_n 2, 1) := dk_44 (dk_at dksX0_fromOf_0 0 rfl rfl)
theorem dX0_fromOf_1 : decode cX0_fromOf 1 = .ok (.iconst 0, 1) := dk_3 (dk_at dksX0_fromOf_0 1 rfl rfl)
theorem dX0_fromOf_2 : decode cX0_fromOf 2 = .ok (.aload_n 0, 1) := dk_42 (dk_at dksX0_fromOf_0 2 rfl rfl)
theorem dX0_fromOf_3 : decode cX0_fromOf 3 = .ok (.iload_n 1, 1) := dk_27 (dk_at dksX0_fromOf_0 3 rfl rfl)
theorem dX0_fromOf_4 : decode cX0_fromOf 4 = .ok (.invokevirtual 107, 3) := dk_182 0 107 (dk_at dksX0_fromOf_0 4 rfl rfl)
theorem dX0_fromOf_7 : decode cX0_fromOf 7 = .ok (.i2l, 1) := dk_133 (dk_at dksX0_fromOf_0 7 rfl rfl)
theorem dX0_fromOf_8 : decode cX0_fromOf 8 = .ok (.lastore, 1) := dk_80 (dk_at dksX0_fromOf_0 8 rfl rfl)
theorem dX0_fromOf_9 : decode cX0_fromOf 9 = .ok (.goto 6, 3) := dk_167 0 6 (dk_at dksX0_fromOf_0 9 rfl rfl)
theorem dX0_fromOf_12 : decode cX0_fromOf 12 = .ok (.astore_n 3, 1) := dk_78 (dk_at dksX0_fromOf_0 12 rfl rfl)
theorem dX0_fromOf_13 : decode cX0_fromOf 13 = .ok (.iconst 1, 1) := dk_4 (dk_at dksX0_fromOf_0 13 rfl rfl)
theorem dX0_fromOf_14 : decode cX0_fromOf 14 = .ok (.ireturn, 1) := dk_172 (dk_at dksX0_fromOf_0 14 rfl rfl)
theorem dX0_fromOf_15 : decode cX0_fromOf 15 = .ok (.iconst 0, 1) := dk_3 (dk_at dksX0_fromOf_0 15 rfl rfl)
theorem dX0_fromOf_16 : decode cX0_fromOf 16 = .ok (.ireturn, 1) := dk_172 (dk_at dksX0_fromOf_0 16 rfl rfl)
abbrev cX0_toOf : ByteArray := method_32_code
def yX0_toOf : MethodName := ⟨RX0, "toOf", "(LFerryClocks;I[J)I"⟩
def dkwX0_toOf_0 : List UInt8 := [44, 3, 42, 27, 182, 0, 110, 133, 80, 167, 0, 6, 78, 4, 172, 3, 172]
abbrev dktX0_toOf_0 : List UInt8 := dkwX0_toOf_0 ++ []
theorem dksX0_toOf_0 : cX0_toOf.data.toList.drop 0 = dktX0_toOf_0 := by decide +kernel
theorem dX0_toOf_0 : decode cX0_toOf 0 = .ok (.aload_n 2, 1) := dk_44 (dk_at dksX0_toOf_0 0 rfl rfl)
theorem dX0_toOf_1 : decode cX0_toOf 1 = .ok (.iconst 0, 1) := dk_3 (dk_at dksX0_toOf_0 1 rfl rfl)
theorem dX0_toOf_2 : decode cX0_toOf 2 = .ok (.aload_n 0, 1) := dk_42 (dk_at dksX0_toOf_0 2 rfl rfl)
theorem dX0_toOf_3 : decode cX0_toOf 3 = .ok (.iload_n 1, 1) := dk_27 (dk_at dksX0_toOf_0 3 rfl rfl)
theorem dX0_toOf_4 : decode cX0_toOf 4 = .ok (.invokevirtual 110, 3) := dk_182 0 110 (dk_at dksX0_toOf_0 4 rfl rfl)
theorem dX0_toOf_7 : decode cX0_toOf 7 = .ok (.i2l, 1) := dk_133 (dk_at dksX0_toOf_0 7 rfl rfl)
theorem dX0_toOf_8 : decode cX0_toOf 8 = .ok (.lastore, 1) := dk_80 (dk_at dksX0_toOf_0 8 rfl rfl)
theorem dX0_toOf_9 : decode cX0_toOf 9 = .ok (.goto 6, 3) := dk_167 0 6 (dk_at dksX0_toOf_0 9 rfl rfl)
theorem dX0_toOf_12 : decode cX0_toOf 12 = .ok (.astore_n 3, 1) := dk_78 (dk_at dksX0_toOf_0 12 rfl rfl)
theorem dX0_toOf_13 : decode cX0_toOf 13 = .ok (.iconst 1, 1) := dk_4 (dk_at dksX0_toOf_0 13 rfl rfl)
theorem dX0_toOf_14 : decode cX0_toOf 14 = .ok (.ireturn, 1) := dk_172 (dk_at dksX0_toOf_0 14 rfl rfl)
theorem dX0_toOf_15 : decode cX0_toOf 15 = .ok (.iconst 0, 1) := dk_3 (dk_at dksX0_toOf_0 15 rfl rfl)
theorem dX0_toOf_16 : decode cX0_toOf 16 = .ok (.ireturn, 1) := dk_172 (dk_at dksX0_toOf_0 16 rfl rfl)
abbrev cX0_doesReset : ByteArray := method_33_code
def yX0_doesReset : MethodName := ⟨RX0, "doesReset", "(LFerryClocks;II[J)I"⟩
def dkwX0_doesReset_1 : List UInt8 := [3, 172]
abbrev dktX0_doesReset_1 : List UInt8 := dkwX0_doesReset_1 ++ []
def dkwX0_doesReset_0 : List UInt8 := [45, 3, 42, 27, 28, 182, 0, 113, 153, 0, 7, 10, 167, 0, 4, 9, 80, 167, 0, 7, 58, 4, 4, 172]
abbrev dktX0_doesReset_0 : List UInt8 := dkwX0_doesReset_0 ++ dktX0_doesReset_1
theorem dksX0_doesReset_0 : cX0_doesReset.data.toList.drop 0 = dktX0_doesReset_0 := by decide +kernel
theorem dksX0_doesReset_1 : cX0_doesReset.data.toList.drop 24 = dktX0_doesReset_1 := dk_seg dksX0_doesReset_0 24 rfl rfl
theorem dX0_doesReset_0 : decode cX0_doesReset 0 = .ok (.aload_n 3, 1) := dk_45 (dk_at dksX0_doesReset_0 0 rfl rfl)
theorem dX0_doesReset_1 : decode cX0_doesReset 1 = .ok (.iconst 0, 1) := dk_3 (dk_at dksX0_doesReset_0 1 rfl rfl)
theorem dX0_doesReset_2 : decode cX0_doesReset 2 = .ok (.aload_n 0, 1) := dk_42 (dk_at dksX0_doesReset_0 2 rfl rfl)
theorem dX0_doesReset_3 : decode cX0_doesReset 3 = .ok (.iload_n 1, 1) := dk_27 (dk_at dksX0_doesReset_0 3 rfl rfl)
theorem dX0_doesReset_4 : decode cX0_doesReset 4 = .ok (.iload_n 2, 1) := dk_28 (dk_at dksX0_doesReset_0 4 rfl rfl)
theorem dX0_doesReset_5 : decode cX0_doesReset 5 = .ok (.invokevirtual 113, 3) := dk_182 0 113 (dk_at dksX0_doesReset_0 5 rfl rfl)
theorem dX0_doesReset_8 : decode cX0_doesReset 8 = .ok (.ifCond .eq 7, 3) := dk_153 0 7 (dk_at dksX0_doesReset_0 8 rfl rfl)
theorem dX0_doesReset_11 : decode cX0_doesReset 11 = .ok (.lconst 1, 1) := dk_10 (dk_at dksX0_doesReset_0 11 rfl rfl)
theorem dX0_doesReset_12 : decode cX0_doesReset 12 = .ok (.goto 4, 3) := dk_167 0 4 (dk_at dksX0_doesReset_0 12 rfl rfl)
theorem dX0_doesReset_15 : decode cX0_doesReset 15 = .ok (.lconst 0, 1) := dk_9 (dk_at dksX0_doesReset_0 15 rfl rfl)
theorem dX0_doesReset_16 : decode cX0_doesReset 16 = .ok (.lastore, 1) := dk_80 (dk_at dksX0_doesReset_0 16 rfl rfl)
theorem dX0_doesReset_17 : decode cX0_doesReset 17 = .ok (.goto 7, 3) := dk_167 0 7 (dk_at dksX0_doesReset_0 17 rfl rfl)
theorem dX0_doesReset_20 : decode cX0_doesReset 20 = .ok (.astore 4, 2) := dk_58 4 (dk_at dksX0_doesReset_0 20 rfl rfl)
theorem dX0_doesReset_22 : decode cX0_doesReset 22 = .ok (.iconst 1, 1) := dk_4 (dk_at dksX0_doesReset_0 22 rfl rfl)
theorem dX0_doesReset_23 : decode cX0_doesReset 23 = .ok (.ireturn, 1) := dk_172 (dk_at dksX0_doesReset_0 23 rfl rfl)
theorem dX0_doesReset_24 : decode cX0_doesReset 24 = .ok (.iconst 0, 1) := dk_3 (dk_at dksX0_doesReset_1 0 rfl rfl)
theorem dX0_doesReset_25 : decode cX0_doesReset 25 = .ok (.ireturn, 1) := dk_172 (dk_at dksX0_doesReset_1 1 rfl rfl)
abbrev cX0_reachable : ByteArray := method_34_code
def yX0_reachable : MethodName := ⟨RX0, "reachable", "(LFerryClocks;[J)I"⟩
def dkwX0_reachable_0 : List UInt8 := [43, 3, 42, 182, 0, 116, 133, 80, 167, 0, 6, 77, 4, 172, 3, 172]
abbrev dktX0_reachable_0 : List UInt8 := dkwX0_reachable_0 ++ []
theorem dksX0_reachable_0 : cX0_reachable.data.toList.drop 0 = dktX0_reachable_0 := by decide +kernel
theorem dX0_reachable_0 : decode cX0_reachable 0 = .ok (.aload_n 1, 1) := dk_43 (dk_at dksX0_reachable_0 0 rfl rfl)
theorem dX0_reachable_1 : decode cX0_reachable 1 = .ok (.iconst 0, 1) := dk_3 (dk_at dksX0_reachable_0 1 rfl rfl)
theorem dX0_reachable_2 : decode cX0_reachable 2 = .ok (.aload_n 0, 1) := dk_42 (dk_at dksX0_reachable_0 2 rfl rfl)
theorem dX0_reachable_3 : decode cX0_reachable 3 = .ok (.invokevirtual 116, 3) := dk_182 0 116 (dk_at dksX0_reachable_0 3 rfl rfl)
theorem dX0_reachable_6 : decode cX0_reachable 6 = .ok (.i2l, 1) := dk_133 (dk_at dksX0_reachable_0 6 rfl rfl)
theorem dX0_reachable_7 : decode cX0_reachable 7 = .ok (.lastore, 1) := dk_80 (dk_at dksX0_reachable_0 7 rfl rfl)
theorem dX0_reachable_8 : decode cX0_reachable 8 = .ok (.goto 6, 3) := dk_167 0 6 (dk_at dksX0_reachable_0 8 rfl rfl)
theorem dX0_reachable_11 : decode cX0_reachable 11 = .ok (.astore_n 2, 1) := dk_77 (dk_at dksX0_reachable_0 11 rfl rfl)
theorem dX0_reachable_12 : decode cX0_reachable 12 = .ok (.iconst 1, 1) := dk_4 (dk_at dksX0_reachable_0 12 rfl rfl)
theorem dX0_reachable_13 : decode cX0_reachable 13 = .ok (.ireturn, 1) := dk_172 (dk_at dksX0_reachable_0 13 rfl rfl)
theorem dX0_reachable_14 : decode cX0_reachable 14 = .ok (.iconst 0, 1) := dk_3 (dk_at dksX0_reachable_0 14 rfl rfl)
theorem dX0_reachable_15 : decode cX0_reachable 15 = .ok (.ireturn, 1) := dk_172 (dk_at dksX0_reachable_0 15 rfl rfl)
abbrev cX0_zones : ByteArray := method_35_code
def yX0_zones : MethodName := ⟨RX0, "zones", "(LFerryClocks;[J)I"⟩
def dkwX0_zones_0 : List UInt8 := [43, 3, 42, 182, 0, 119, 133, 80, 167, 0, 6, 77, 4, 172, 3, 172]
abbrev dktX0_zones_0 : List UInt8 := dkwX0_zones_0 ++ []
theorem dksX0_zones_0 : cX0_zones.data.toList.drop 0 = dktX0_zones_0 := by decide +kernel
theorem dX0_zones_0 : decode cX0_zones 0 = .ok (.aload_n 1, 1) := dk_43 (dk_at dksX0_zones_0 0 rfl rfl)
theorem dX0_zones_1 : decode cX0_zones 1 = .ok (.iconst 0, 1) := dk_3 (dk_at dksX0_zones_0 1 rfl rfl)
theorem dX0_zones_2 : decode cX0_zones 2 = .ok (.aload_n 0, 1) := dk_42 (dk_at dksX0_zones_0 2 rfl rfl)
theorem dX0_zones_3 : decode cX0_zones 3 = .ok (.invokevirtual 119, 3) := dk_182 0 119 (dk_at dksX0_zones_0 3 rfl rfl)
theorem dX0_zones_6 : decode cX0_zones 6 = .ok (.i2l, 1) := dk_133 (dk_at dksX0_zones_0 6 rfl rfl)
theorem dX0_zones_7 : decode cX0_zones 7 = .ok (.lastore, 1) := dk_80 (dk_at dksX0_zones_0 7 rfl rfl)
theorem dX0_zones_8 : decode cX0_zones 8 = .ok (.goto 6, 3) := dk_167 0 6 (dk_at dksX0_zones_0 8 rfl rfl)
theorem dX0_zones_11 : decode cX0_zones 11 = .ok (.astore_n 2, 1) := dk_77 (dk_at dksX0_zones_0 11 rfl rfl)
theorem dX0_zones_12 : decode cX0_zones 12 = .ok (.iconst 1, 1) := dk_4 (dk_at dksX0_zones_0 12 rfl rfl)
theorem dX0_zones_13 : decode cX0_zones 13 = .ok (.ireturn, 1) := dk_172 (dk_at dksX0_zones_0 13 rfl rfl)
theorem dX0_zones_14 : decode cX0_zones 14 = .ok (.iconst 0, 1) := dk_3 (dk_at dksX0_zones_0 14 rfl rfl)
theorem dX0_zones_15 : decode cX0_zones 15 = .ok (.ireturn, 1) := dk_172 (dk_at dksX0_zones_0 15 rfl rfl)
abbrev cX0_zonesOf : ByteArray := method_36_code
def yX0_zonesOf : MethodName := ⟨RX0, "zonesOf", "(LFerryClocks;I[J)I"⟩
def dkwX0_zonesOf_0 : List UInt8 := [44, 3, 42, 27, 182, 0, 122, 133, 80, 167, 0, 9, 78, 4, 172, 78, 5, 172, 3, 172]
abbrev dktX0_zonesOf_0 : List UInt8 := dkwX0_zonesOf_0 ++ []
theorem dksX0_zonesOf_0 : cX0_zonesOf.data.toList.drop 0 = dktX0_zonesOf_0 := by decide +kernel
theorem dX0_zonesOf_0 : decode cX0_zonesOf 0 = .ok (.aload_n 2, 1) := dk_44 (dk_at dksX0_zonesOf_0 0 rfl rfl)
theorem dX0_zonesOf_1 : decode cX0_zonesOf 1 = .ok (.iconst 0, 1) := dk_3 (dk_at dksX0_zonesOf_0 1 rfl rfl)
theorem dX0_zonesOf_2 : decode cX0_zonesOf 2 = .ok (.aload_n 0, 1) := dk_42 (dk_at dksX0_zonesOf_0 2 rfl rfl)
theorem dX0_zonesOf_3 : decode cX0_zonesOf 3 = .ok (.iload_n 1, 1) := dk_27 (dk_at dksX0_zonesOf_0 3 rfl rfl)
theorem dX0_zonesOf_4 : decode cX0_zonesOf 4 = .ok (.invokevirtual 122, 3) := dk_182 0 122 (dk_at dksX0_zonesOf_0 4 rfl rfl)
theorem dX0_zonesOf_7 : decode cX0_zonesOf 7 = .ok (.i2l, 1) := dk_133 (dk_at dksX0_zonesOf_0 7 rfl rfl)
theorem dX0_zonesOf_8 : decode cX0_zonesOf 8 = .ok (.lastore, 1) := dk_80 (dk_at dksX0_zonesOf_0 8 rfl rfl)
theorem dX0_zonesOf_9 : decode cX0_zonesOf 9 = .ok (.goto 9, 3) := dk_167 0 9 (dk_at dksX0_zonesOf_0 9 rfl rfl)
theorem dX0_zonesOf_12 : decode cX0_zonesOf 12 = .ok (.astore_n 3, 1) := dk_78 (dk_at dksX0_zonesOf_0 12 rfl rfl)
theorem dX0_zonesOf_13 : decode cX0_zonesOf 13 = .ok (.iconst 1, 1) := dk_4 (dk_at dksX0_zonesOf_0 13 rfl rfl)
theorem dX0_zonesOf_14 : decode cX0_zonesOf 14 = .ok (.ireturn, 1) := dk_172 (dk_at dksX0_zonesOf_0 14 rfl rfl)
theorem dX0_zonesOf_15 : decode cX0_zonesOf 15 = .ok (.astore_n 3, 1) := dk_78 (dk_at dksX0_zonesOf_0 15 rfl rfl)
theorem dX0_zonesOf_16 : decode cX0_zonesOf 16 = .ok (.iconst 2, 1) := dk_5 (dk_at dksX0_zonesOf_0 16 rfl rfl)
theorem dX0_zonesOf_17 : decode cX0_zonesOf 17 = .ok (.ireturn, 1) := dk_172 (dk_at dksX0_zonesOf_0 17 rfl rfl)
theorem dX0_zonesOf_18 : decode cX0_zonesOf 18 = .ok (.iconst 0, 1) := dk_3 (dk_at dksX0_zonesOf_0 18 rfl rfl)
theorem dX0_zonesOf_19 : decode cX0_zonesOf 19 = .ok (.ireturn, 1) := dk_172 (dk_at dksX0_zonesOf_0 19 rfl rfl)
abbrev cX0_fewestLines : ByteArray := method_37_code
def yX0_fewestLines : MethodName := ⟨RX0, "fewestLines", "(LFerryClocks;I[J)I"⟩
def dkwX0_fewestLines_0 : List UInt8 := [44, 3, 42, 27, 182, 0, 125, 133, 80, 167, 0, 9, 78, 4, 172, 78, 5, 172, 3, 172]
abbrev dktX0_fewestLines_0 : List UInt8 := dkwX0_fewestLines_0 ++ []
theorem dksX0_fewestLines_0 : cX0_fewestLines.data.toList.drop 0 = dktX0_fewestLines_0 := by decide +kernel
theorem dX0_fewestLines_0 : decode cX0_fewestLines 0 = .ok (.aload_n 2, 1) := dk_44 (dk_at dksX0_fewestLines_0 0 rfl rfl)
theorem dX0_fewestLines_1 : decode cX0_fewestLines 1 = .ok (.iconst 0, 1) := dk_3 (dk_at dksX0_fewestLines_0 1 rfl rfl)
theorem dX0_fewestLines_2 : decode cX0_fewestLines 2 = .ok (.aload_n 0, 1) := dk_42 (dk_at dksX0_fewestLines_0 2 rfl rfl)
theorem dX0_fewestLines_3 : decode cX0_fewestLines 3 = .ok (.iload_n 1, 1) := dk_27 (dk_at dksX0_fewestLines_0 3 rfl rfl)
theorem dX0_fewestLines_4 : decode cX0_fewestLines 4 = .ok (.invokevirtual 125, 3) := dk_182 0 125 (dk_at dksX0_fewestLines_0 4 rfl rfl)
theorem dX0_fewestLines_7 : decode cX0_fewestLines 7 = .ok (.i2l, 1) := dk_133 (dk_at dksX0_fewestLines_0 7 rfl rfl)
theorem dX0_fewestLines_8 : decode cX0_fewestLines 8 = .ok (.lastore, 1) := dk_80 (dk_at dksX0_fewestLines_0 8 rfl rfl)
theorem dX0_fewestLines_9 : decode cX0_fewestLines 9 = .ok (.goto 9, 3) := dk_167 0 9 (dk_at dksX0_fewestLines_0 9 rfl rfl)
theorem dX0_fewestLines_12 : decode cX0_fewestLines 12 = .ok (.astore_n 3, 1) := dk_78 (dk_at dksX0_fewestLines_0 12 rfl rfl)
theorem dX0_fewestLines_13 : decode cX0_fewestLines 13 = .ok (.iconst 1, 1) := dk_4 (dk_at dksX0_fewestLines_0 13 rfl rfl)
theorem dX0_fewestLines_14 : decode cX0_fewestLines 14 = .ok (.ireturn, 1) := dk_172 (dk_at dksX0_fewestLines_0 14 rfl rfl)
theorem dX0_fewestLines_15 : decode cX0_fewestLines 15 = .ok (.astore_n 3, 1) := dk_78 (dk_at dksX0_fewestLines_0 15 rfl rfl)
theorem dX0_fewestLines_16 : decode cX0_fewestLines 16 = .ok (.iconst 2, 1) := dk_5 (dk_at dksX0_fewestLines_0 16 rfl rfl)
theorem dX0_fewestLines_17 : decode cX0_fewestLines 17 = .ok (.ireturn, 1) := dk_172 (dk_at dksX0_fewestLines_0 17 rfl rfl)
theorem dX0_fewestLines_18 : decode cX0_fewestLines 18 = .ok (.iconst 0, 1) := dk_3 (dk_at dksX0_fewestLines_0 18 rfl rfl)
theorem dX0_fewestLines_19 : decode cX0_fewestLines 19 = .ok (.ireturn, 1) := dk_172 (dk_at dksX0_fewestLines_0 19 rfl rfl)
abbrev cX0_fewestTicks : ByteArray := method_38_code
def yX0_fewestTicks : MethodName := ⟨RX0, "fewestTicks", "(LFerryClocks;I[J)I"⟩
def dkwX0_fewestTicks_0 : List UInt8 := [44, 3, 42, 27, 182, 0, 128, 133, 80, 167, 0, 9, 78, 4, 172, 78, 5, 172, 3, 172]
abbrev dktX0_fewestTicks_0 : List UInt8 := dkwX0_fewestTicks_0 ++ []
theorem dksX0_fewestTicks_0 : cX0_fewestTicks.data.toList.drop 0 = dktX0_fewestTicks_0 := by decide +kernel
theorem dX0_fewestTicks_0 : decode cX0_fewestTicks 0 = .ok (.aload_n 2, 1) := dk_44 (dk_at dksX0_fewestTicks_0 0 rfl rfl)
theorem dX0_fewestTicks_1 : decode cX0_fewestTicks 1 = .ok (.iconst 0, 1) := dk_3 (dk_at dksX0_fewestTicks_0 1 rfl rfl)
theorem dX0_fewestTicks_2 : decode cX0_fewestTicks 2 = .ok (.aload_n 0, 1) := dk_42 (dk_at dksX0_fewestTicks_0 2 rfl rfl)
theorem dX0_fewestTicks_3 : decode cX0_fewestTicks 3 = .ok (.iload_n 1, 1) := dk_27 (dk_at dksX0_fewestTicks_0 3 rfl rfl)
theorem dX0_fewestTicks_4 : decode cX0_fewestTicks 4 = .ok (.invokevirtual 128, 3) := dk_182 0 128 (dk_at dksX0_fewestTicks_0 4 rfl rfl)
theorem dX0_fewestTicks_7 : decode cX0_fewestTicks 7 = .ok (.i2l, 1) := dk_133 (dk_at dksX0_fewestTicks_0 7 rfl rfl)
theorem dX0_fewestTicks_8 : decode cX0_fewestTicks 8 = .ok (.lastore, 1) := dk_80 (dk_at dksX0_fewestTicks_0 8 rfl rfl)
theorem dX0_fewestTicks_9 : decode cX0_fewestTicks 9 = .ok (.goto 9, 3) := dk_167 0 9 (dk_at dksX0_fewestTicks_0 9 rfl rfl)
theorem dX0_fewestTicks_12 : decode cX0_fewestTicks 12 = .ok (.astore_n 3, 1) := dk_78 (dk_at dksX0_fewestTicks_0 12 rfl rfl)
theorem dX0_fewestTicks_13 : decode cX0_fewestTicks 13 = .ok (.iconst 1, 1) := dk_4 (dk_at dksX0_fewestTicks_0 13 rfl rfl)
theorem dX0_fewestTicks_14 : decode cX0_fewestTicks 14 = .ok (.ireturn, 1) := dk_172 (dk_at dksX0_fewestTicks_0 14 rfl rfl)
theorem dX0_fewestTicks_15 : decode cX0_fewestTicks 15 = .ok (.astore_n 3, 1) := dk_78 (dk_at dksX0_fewestTicks_0 15 rfl rfl)
theorem dX0_fewestTicks_16 : decode cX0_fewestTicks 16 = .ok (.iconst 2, 1) := dk_5 (dk_at dksX0_fewestTicks_0 16 rfl rfl)
theorem dX0_fewestTicks_17 : decode cX0_fewestTicks 17 = .ok (.ireturn, 1) := dk_172 (dk_at dksX0_fewestTicks_0 17 rfl rfl)
theorem dX0_fewestTicks_18 : decode cX0_fewestTicks 18 = .ok (.iconst 0, 1) := dk_3 (dk_at dksX0_fewestTicks_0 18 rfl rfl)
theorem dX0_fewestTicks_19 : decode cX0_fewestTicks 19 = .ok (.ireturn, 1) := dk_172 (dk_at dksX0_fewestTicks_0 19 rfl rfl)
abbrev cX0_meanBits : ByteArray := method_39_code
def yX0_meanBits : MethodName := ⟨RX0, "meanBits", "(LFerryClocks;I[J)I"⟩
def dkwX0_meanBits_0 : List UInt8 := [44, 3, 42, 27, 182, 0, 131, 80, 167, 0, 9, 78, 4, 172, 78, 5, 172, 3, 172]
abbrev dktX0_meanBits_0 : List UInt8 := dkwX0_meanBits_0 ++ []
theorem dksX0_meanBits_0 : cX0_meanBits.data.toList.drop 0 = dktX0_meanBits_0 := by decide +kernel
theorem dX0_meanBits_0 : decode cX0_meanBits 0 = .ok (.aload_n 2, 1) := dk_44 (dk_at dksX0_meanBits_0 0 rfl rfl)
theorem dX0_meanBits_1 : decode cX0_meanBits 1 = .ok (.iconst 0, 1) := dk_3 (dk_at dksX0_meanBits_0 1 rfl rfl)
theorem dX0_meanBits_2 : decode cX0_meanBits 2 = .ok (.aload_n 0, 1) := dk_42 (dk_at dksX0_meanBits_0 2 rfl rfl)
theorem dX0_meanBits_3 : decode cX0_meanBits 3 = .ok (.iload_n 1, 1) := dk_27 (dk_at dksX0_meanBits_0 3 rfl rfl)
theorem dX0_meanBits_4 : decode cX0_meanBits 4 = .ok (.invokevirtual 131, 3) := dk_182 0 131 (dk_at dksX0_meanBits_0 4 rfl rfl)
theorem dX0_meanBits_7 : decode cX0_meanBits 7 = .ok (.lastore, 1) := dk_80 (dk_at dksX0_meanBits_0 7 rfl rfl)
theorem dX0_meanBits_8 : decode cX0_meanBits 8 = .ok (.goto 9, 3) := dk_167 0 9 (dk_at dksX0_meanBits_0 8 rfl rfl)
theorem dX0_meanBits_11 : decode cX0_meanBits 11 = .ok (.astore_n 3, 1) := dk_78 (dk_at dksX0_meanBits_0 11 rfl rfl)
theorem dX0_meanBits_12 : decode cX0_meanBits 12 = .ok (.iconst 1, 1) := dk_4 (dk_at dksX0_meanBits_0 12 rfl rfl)
theorem dX0_meanBits_13 : decode cX0_meanBits 13 = .ok (.ireturn, 1) := dk_172 (dk_at dksX0_meanBits_0 13 rfl rfl)
theorem dX0_meanBits_14 : decode cX0_meanBits 14 = .ok (.astore_n 3, 1) := dk_78 (dk_at dksX0_meanBits_0 14 rfl rfl)
theorem dX0_meanBits_15 : decode cX0_meanBits 15 = .ok (.iconst 2, 1) := dk_5 (dk_at dksX0_meanBits_0 15 rfl rfl)
theorem dX0_meanBits_16 : decode cX0_meanBits 16 = .ok (.ireturn, 1) := dk_172 (dk_at dksX0_meanBits_0 16 rfl rfl)
theorem dX0_meanBits_17 : decode cX0_meanBits 17 = .ok (.iconst 0, 1) := dk_3 (dk_at dksX0_meanBits_0 17 rfl rfl)
theorem dX0_meanBits_18 : decode cX0_meanBits 18 = .ok (.ireturn, 1) := dk_172 (dk_at dksX0_meanBits_0 18 rfl rfl)
abbrev cX0_goBack : ByteArray := method_40_code
def yX0_goBack : MethodName := ⟨RX0, "goBack", "(LFerryClocks;[J)I"⟩
def dkwX0_goBack_0 : List UInt8 := [43, 3, 42, 182, 0, 135, 133, 80, 167, 0, 6, 77, 4, 172, 3, 172]
abbrev dktX0_goBack_0 : List UInt8 := dkwX0_goBack_0 ++ []
theorem dksX0_goBack_0 : cX0_goBack.data.toList.drop 0 = dktX0_goBack_0 := by decide +kernel
theorem dX0_goBack_0 : decode cX0_goBack 0 = .ok (.aload_n 1, 1) := dk_43 (dk_at dksX0_goBack_0 0 rfl rfl)
theorem dX0_goBack_1 : decode cX0_goBack 1 = .ok (.iconst 0, 1) := dk_3 (dk_at dksX0_goBack_0 1 rfl rfl)
theorem dX0_goBack_2 : decode cX0_goBack 2 = .ok (.aload_n 0, 1) := dk_42 (dk_at dksX0_goBack_0 2 rfl rfl)
theorem dX0_goBack_3 : decode cX0_goBack 3 = .ok (.invokevirtual 135, 3) := dk_182 0 135 (dk_at dksX0_goBack_0 3 rfl rfl)
theorem dX0_goBack_6 : decode cX0_goBack 6 = .ok (.i2l, 1) := dk_133 (dk_at dksX0_goBack_0 6 rfl rfl)
theorem dX0_goBack_7 : decode cX0_goBack 7 = .ok (.lastore, 1) := dk_80 (dk_at dksX0_goBack_0 7 rfl rfl)
theorem dX0_goBack_8 : decode cX0_goBack 8 = .ok (.goto 6, 3) := dk_167 0 6 (dk_at dksX0_goBack_0 8 rfl rfl)
theorem dX0_goBack_11 : decode cX0_goBack 11 = .ok (.astore_n 2, 1) := dk_77 (dk_at dksX0_goBack_0 11 rfl rfl)
theorem dX0_goBack_12 : decode cX0_goBack 12 = .ok (.iconst 1, 1) := dk_4 (dk_at dksX0_goBack_0 12 rfl rfl)
theorem dX0_goBack_13 : decode cX0_goBack 13 = .ok (.ireturn, 1) := dk_172 (dk_at dksX0_goBack_0 13 rfl rfl)
theorem dX0_goBack_14 : decode cX0_goBack 14 = .ok (.iconst 0, 1) := dk_3 (dk_at dksX0_goBack_0 14 rfl rfl)
theorem dX0_goBack_15 : decode cX0_goBack 15 = .ok (.ireturn, 1) := dk_172 (dk_at dksX0_goBack_0 15 rfl rfl)
abbrev cX0_undo : ByteArray := method_41_code
def yX0_undo : MethodName := ⟨RX0, "undo", "(LFerryClocks;[J)I"⟩
def dkwX0_undo_0 : List UInt8 := [43, 3, 42, 182, 0, 138, 133, 80, 167, 0, 6, 77, 4, 172, 3, 172]
abbrev dktX0_undo_0 : List UInt8 := dkwX0_undo_0 ++ []
theorem dksX0_undo_0 : cX0_undo.data.toList.drop 0 = dktX0_undo_0 := by decide +kernel
theorem dX0_undo_0 : decode cX0_undo 0 = .ok (.aload_n 1, 1) := dk_43 (dk_at dksX0_undo_0 0 rfl rfl)
theorem dX0_undo_1 : decode cX0_undo 1 = .ok (.iconst 0, 1) := dk_3 (dk_at dksX0_undo_0 1 rfl rfl)
theorem dX0_undo_2 : decode cX0_undo 2 = .ok (.aload_n 0, 1) := dk_42 (dk_at dksX0_undo_0 2 rfl rfl)
theorem dX0_undo_3 : decode cX0_undo 3 = .ok (.invokevirtual 138, 3) := dk_182 0 138 (dk_at dksX0_undo_0 3 rfl rfl)
theorem dX0_undo_6 : decode cX0_undo 6 = .ok (.i2l, 1) := dk_133 (dk_at dksX0_undo_0 6 rfl rfl)
theorem dX0_undo_7 : decode cX0_undo 7 = .ok (.lastore, 1) := dk_80 (dk_at dksX0_undo_0 7 rfl rfl)
theorem dX0_undo_8 : decode cX0_undo 8 = .ok (.goto 6, 3) := dk_167 0 6 (dk_at dksX0_undo_0 8 rfl rfl)
theorem dX0_undo_11 : decode cX0_undo 11 = .ok (.astore_n 2, 1) := dk_77 (dk_at dksX0_undo_0 11 rfl rfl)
theorem dX0_undo_12 : decode cX0_undo 12 = .ok (.iconst 1, 1) := dk_4 (dk_at dksX0_undo_0 12 rfl rfl)
theorem dX0_undo_13 : decode cX0_undo 13 = .ok (.ireturn, 1) := dk_172 (dk_at dksX0_undo_0 13 rfl rfl)
theorem dX0_undo_14 : decode cX0_undo 14 = .ok (.iconst 0, 1) := dk_3 (dk_at dksX0_undo_0 14 rfl rfl)
theorem dX0_undo_15 : decode cX0_undo 15 = .ok (.ireturn, 1) := dk_172 (dk_at dksX0_undo_0 15 rfl rfl)
abbrev cX0_type : ByteArray := method_42_code
def yX0_type : MethodName := ⟨RX0, "type", "(LFerryClocks;I[J)I"⟩
def dkwX0_type_0 : List UInt8 := [44, 3, 42, 27, 182, 0, 141, 133, 80, 167, 0, 9, 78, 4, 172, 78, 5, 172, 3, 172]
abbrev dktX0_type_0 : List UInt8 := dkwX0_type_0 ++ []
theorem dksX0_type_0 : cX0_type.data.toList.drop 0 = dktX0_type_0 := by decide +kernel
theorem dX0_type_0 : decode cX0_type 0 = .ok (.aload_n 2, 1) := dk_44 (dk_at dksX0_type_0 0 rfl rfl)
theorem dX0_type_1 : decode cX0_type 1 = .ok (.iconst 0, 1) := dk_3 (dk_at dksX0_type_0 1 rfl rfl)
theorem dX0_type_2 : decode cX0_type 2 = .ok (.aload_n 0, 1) := dk_42 (dk_at dksX0_type_0 2 rfl rfl)
theorem dX0_type_3 : decode cX0_type 3 = .ok (.iload_n 1, 1) := dk_27 (dk_at dksX0_type_0 3 rfl rfl)
theorem dX0_type_4 : decode cX0_type 4 = .ok (.invokevirtual 141, 3) := dk_182 0 141 (dk_at dksX0_type_0 4 rfl rfl)
theorem dX0_type_7 : decode cX0_type 7 = .ok (.i2l, 1) := dk_133 (dk_at dksX0_type_0 7 rfl rfl)
theorem dX0_type_8 : decode cX0_type 8 = .ok (.lastore, 1) := dk_80 (dk_at dksX0_type_0 8 rfl rfl)
theorem dX0_type_9 : decode cX0_type 9 = .ok (.goto 9, 3) := dk_167 0 9 (dk_at dksX0_type_0 9 rfl rfl)
theorem dX0_type_12 : decode cX0_type 12 = .ok (.astore_n 3, 1) := dk_78 (dk_at dksX0_type_0 12 rfl rfl)
theorem dX0_type_13 : decode cX0_type 13 = .ok (.iconst 1, 1) := dk_4 (dk_at dksX0_type_0 13 rfl rfl)
theorem dX0_type_14 : decode cX0_type 14 = .ok (.ireturn, 1) := dk_172 (dk_at dksX0_type_0 14 rfl rfl)
theorem dX0_type_15 : decode cX0_type 15 = .ok (.astore_n 3, 1) := dk_78 (dk_at dksX0_type_0 15 rfl rfl)
theorem dX0_type_16 : decode cX0_type 16 = .ok (.iconst 2, 1) := dk_5 (dk_at dksX0_type_0 16 rfl rfl)
theorem dX0_type_17 : decode cX0_type 17 = .ok (.ireturn, 1) := dk_172 (dk_at dksX0_type_0 17 rfl rfl)
theorem dX0_type_18 : decode cX0_type 18 = .ok (.iconst 0, 1) := dk_3 (dk_at dksX0_type_0 18 rfl rfl)
theorem dX0_type_19 : decode cX0_type 19 = .ok (.ireturn, 1) := dk_172 (dk_at dksX0_type_0 19 rfl rfl)
abbrev cX0_faultPosition : ByteArray := method_43_code
def yX0_faultPosition : MethodName := ⟨RX0, "faultPosition", "(LFerryClocks;[J)I"⟩
def dkwX0_faultPosition_0 : List UInt8 := [43, 3, 42, 182, 0, 144, 133, 80, 167, 0, 6, 77, 4, 172, 3, 172]
abbrev dktX0_faultPosition_0 : List UInt8 := dkwX0_faultPosition_0 ++ []
theorem dksX0_faultPosition_0 : cX0_faultPosition.data.toList.drop 0 = dktX0_faultPosition_0 := by decide +kernel
theorem dX0_faultPosition_0 : decode cX0_faultPosition 0 = .ok (.aload_n 1, 1) := dk_43 (dk_at dksX0_faultPosition_0 0 rfl rfl)
theorem dX0_faultPosition_1 : decode cX0_faultPosition 1 = .ok (.iconst 0, 1) := dk_3 (dk_at dksX0_faultPosition_0 1 rfl rfl)
theorem dX0_faultPosition_2 : decode cX0_faultPosition 2 = .ok (.aload_n 0, 1) := dk_42 (dk_at dksX0_faultPosition_0 2 rfl rfl)
theorem dX0_faultPosition_3 : decode cX0_faultPosition 3 = .ok (.invokevirtual 144, 3) := dk_182 0 144 (dk_at dksX0_faultPosition_0 3 rfl rfl)
theorem dX0_faultPosition_6 : decode cX0_faultPosition 6 = .ok (.i2l, 1) := dk_133 (dk_at dksX0_faultPosition_0 6 rfl rfl)
theorem dX0_faultPosition_7 : decode cX0_faultPosition 7 = .ok (.lastore, 1) := dk_80 (dk_at dksX0_faultPosition_0 7 rfl rfl)
theorem dX0_faultPosition_8 : decode cX0_faultPosition 8 = .ok (.goto 6, 3) := dk_167 0 6 (dk_at dksX0_faultPosition_0 8 rfl rfl)
theorem dX0_faultPosition_11 : decode cX0_faultPosition 11 = .ok (.astore_n 2, 1) := dk_77 (dk_at dksX0_faultPosition_0 11 rfl rfl)
theorem dX0_faultPosition_12 : decode cX0_faultPosition 12 = .ok (.iconst 1, 1) := dk_4 (dk_at dksX0_faultPosition_0 12 rfl rfl)
theorem dX0_faultPosition_13 : decode cX0_faultPosition 13 = .ok (.ireturn, 1) := dk_172 (dk_at dksX0_faultPosition_0 13 rfl rfl)
theorem dX0_faultPosition_14 : decode cX0_faultPosition 14 = .ok (.iconst 0, 1) := dk_3 (dk_at dksX0_faultPosition_0 14 rfl rfl)
theorem dX0_faultPosition_15 : decode cX0_faultPosition 15 = .ok (.ireturn, 1) := dk_172 (dk_at dksX0_faultPosition_0 15 rfl rfl)
abbrev cX0_faultReason : ByteArray := method_44_code
def yX0_faultReason : MethodName := ⟨RX0, "faultReason", "(LFerryClocks;[J)I"⟩
def dkwX0_faultReason_0 : List UInt8 := [43, 3, 42, 182, 0, 147, 133, 80, 167, 0, 6, 77, 4, 172, 3, 172]
abbrev dktX0_faultReason_0 : List UInt8 := dkwX0_faultReason_0 ++ []
theorem dksX0_faultReason_0 : cX0_faultReason.data.toList.drop 0 = dktX0_faultReason_0 := by decide +kernel
theorem dX0_faultReason_0 : decode cX0_faultReason 0 = .ok (.aload_n 1, 1) := dk_43 (dk_at dksX0_faultReason_0 0 rfl rfl)
theorem dX0_faultReason_1 : decode cX0_faultReason 1 = .ok (.iconst 0, 1) := dk_3 (dk_at dksX0_faultReason_0 1 rfl rfl)
theorem dX0_faultReason_2 : decode cX0_faultReason 2 = .ok (.aload_n 0, 1) := dk_42 (dk_at dksX0_faultReason_0 2 rfl rfl)
theorem dX0_faultReason_3 : decode cX0_faultReason 3 = .ok (.invokevirtual 147, 3) := dk_182 0 147 (dk_at dksX0_faultReason_0 3 rfl rfl)
theorem dX0_faultReason_6 : decode cX0_faultReason 6 = .ok (.i2l, 1) := dk_133 (dk_at dksX0_faultReason_0 6 rfl rfl)
theorem dX0_faultReason_7 : decode cX0_faultReason 7 = .ok (.lastore, 1) := dk_80 (dk_at dksX0_faultReason_0 7 rfl rfl)
theorem dX0_faultReason_8 : decode cX0_faultReason 8 = .ok (.goto 6, 3) := dk_167 0 6 (dk_at dksX0_faultReason_0 8 rfl rfl)
theorem dX0_faultReason_11 : decode cX0_faultReason 11 = .ok (.astore_n 2, 1) := dk_77 (dk_at dksX0_faultReason_0 11 rfl rfl)
theorem dX0_faultReason_12 : decode cX0_faultReason 12 = .ok (.iconst 1, 1) := dk_4 (dk_at dksX0_faultReason_0 12 rfl rfl)
theorem dX0_faultReason_13 : decode cX0_faultReason 13 = .ok (.ireturn, 1) := dk_172 (dk_at dksX0_faultReason_0 13 rfl rfl)
theorem dX0_faultReason_14 : decode cX0_faultReason 14 = .ok (.iconst 0, 1) := dk_3 (dk_at dksX0_faultReason_0 14 rfl rfl)
theorem dX0_faultReason_15 : decode cX0_faultReason 15 = .ok (.ireturn, 1) := dk_172 (dk_at dksX0_faultReason_0 15 rfl rfl)
abbrev cX0_faultCause : ByteArray := method_45_code
def yX0_faultCause : MethodName := ⟨RX0, "faultCause", "(LFerryClocks;[J)I"⟩
def dkwX0_faultCause_0 : List UInt8 := [43, 3, 42, 182, 0, 150, 133, 80, 167, 0, 6, 77, 4, 172, 3, 172]
abbrev dktX0_faultCause_0 : List UInt8 := dkwX0_faultCause_0 ++ []
theorem dksX0_faultCause_0 : cX0_faultCause.data.toList.drop 0 = dktX0_faultCause_0 := by decide +kernel
theorem dX0_faultCause_0 : decode cX0_faultCause 0 = .ok (.aload_n 1, 1) := dk_43 (dk_at dksX0_faultCause_0 0 rfl rfl)
theorem dX0_faultCause_1 : decode cX0_faultCause 1 = .ok (.iconst 0, 1) := dk_3 (dk_at dksX0_faultCause_0 1 rfl rfl)
theorem dX0_faultCause_2 : decode cX0_faultCause 2 = .ok (.aload_n 0, 1) := dk_42 (dk_at dksX0_faultCause_0 2 rfl rfl)
theorem dX0_faultCause_3 : decode cX0_faultCause 3 = .ok (.invokevirtual 150, 3) := dk_182 0 150 (dk_at dksX0_faultCause_0 3 rfl rfl)
theorem dX0_faultCause_6 : decode cX0_faultCause 6 = .ok (.i2l, 1) := dk_133 (dk_at dksX0_faultCause_0 6 rfl rfl)
theorem dX0_faultCause_7 : decode cX0_faultCause 7 = .ok (.lastore, 1) := dk_80 (dk_at dksX0_faultCause_0 7 rfl rfl)
theorem dX0_faultCause_8 : decode cX0_faultCause 8 = .ok (.goto 6, 3) := dk_167 0 6 (dk_at dksX0_faultCause_0 8 rfl rfl)
theorem dX0_faultCause_11 : decode cX0_faultCause 11 = .ok (.astore_n 2, 1) := dk_77 (dk_at dksX0_faultCause_0 11 rfl rfl)
theorem dX0_faultCause_12 : decode cX0_faultCause 12 = .ok (.iconst 1, 1) := dk_4 (dk_at dksX0_faultCause_0 12 rfl rfl)
theorem dX0_faultCause_13 : decode cX0_faultCause 13 = .ok (.ireturn, 1) := dk_172 (dk_at dksX0_faultCause_0 13 rfl rfl)
theorem dX0_faultCause_14 : decode cX0_faultCause 14 = .ok (.iconst 0, 1) := dk_3 (dk_at dksX0_faultCause_0 14 rfl rfl)
theorem dX0_faultCause_15 : decode cX0_faultCause 15 = .ok (.ireturn, 1) := dk_172 (dk_at dksX0_faultCause_0 15 rfl rfl)
abbrev cX0_play : ByteArray := method_46_code
def yX0_play : MethodName := ⟨RX0, "play", "(LFerryClocks;[J)I"⟩
def dkwX0_play_0 : List UInt8 := [43, 3, 42, 182, 0, 153, 133, 80, 167, 0, 6, 77, 4, 172, 3, 172]
abbrev dktX0_play_0 : List UInt8 := dkwX0_play_0 ++ []
theorem dksX0_play_0 : cX0_play.data.toList.drop 0 = dktX0_play_0 := by decide +kernel
theorem dX0_play_0 : decode cX0_play 0 = .ok (.aload_n 1, 1) := dk_43 (dk_at dksX0_play_0 0 rfl rfl)
theorem dX0_play_1 : decode cX0_play 1 = .ok (.iconst 0, 1) := dk_3 (dk_at dksX0_play_0 1 rfl rfl)
theorem dX0_play_2 : decode cX0_play 2 = .ok (.aload_n 0, 1) := dk_42 (dk_at dksX0_play_0 2 rfl rfl)
theorem dX0_play_3 : decode cX0_play 3 = .ok (.invokevirtual 153, 3) := dk_182 0 153 (dk_at dksX0_play_0 3 rfl rfl)
theorem dX0_play_6 : decode cX0_play 6 = .ok (.i2l, 1) := dk_133 (dk_at dksX0_play_0 6 rfl rfl)
theorem dX0_play_7 : decode cX0_play 7 = .ok (.lastore, 1) := dk_80 (dk_at dksX0_play_0 7 rfl rfl)
theorem dX0_play_8 : decode cX0_play 8 = .ok (.goto 6, 3) := dk_167 0 6 (dk_at dksX0_play_0 8 rfl rfl)
theorem dX0_play_11 : decode cX0_play 11 = .ok (.astore_n 2, 1) := dk_77 (dk_at dksX0_play_0 11 rfl rfl)
theorem dX0_play_12 : decode cX0_play 12 = .ok (.iconst 1, 1) := dk_4 (dk_at dksX0_play_0 12 rfl rfl)
theorem dX0_play_13 : decode cX0_play 13 = .ok (.ireturn, 1) := dk_172 (dk_at dksX0_play_0 13 rfl rfl)
theorem dX0_play_14 : decode cX0_play 14 = .ok (.iconst 0, 1) := dk_3 (dk_at dksX0_play_0 14 rfl rfl)
theorem dX0_play_15 : decode cX0_play 15 = .ok (.ireturn, 1) := dk_172 (dk_at dksX0_play_0 15 rfl rfl)
theorem q91 : (Jvm.Cond.initialized "FerryClocksLaw") ∈ lw_all := lw_g (lw_at lw_m1 0 rfl) rfl
theorem q126 : (Jvm.Cond.classLink "FerryClocksLaw" (8 : Nat) "FerryClocks") ∈ lw_all := lw_g (lw_at lw_m1 35 rfl) rfl
theorem q128 : (Jvm.Cond.methodLink "FerryClocksLaw" (156 : Nat) ({ cls := "FerryClocks", name := "<init>", desc := "()V" } : Jvm.MethodName)) ∈ lw_all := lw_g (lw_at lw_m1 37 rfl) rfl
theorem q269 : (Jvm.Cond.methodLink "FerryClocksLaw" (173 : Nat) ({ cls := "FerryClocks", name := "forgetAll", desc := "()I" } : Jvm.MethodName)) ∈ lw_all := lw_g (lw_at lw_m1 178 rfl) rfl
theorem q774 : (Jvm.Cond.methodLink "FerryClocksLaw" (228 : Nat) ({ cls := "FerryClocks", name := "isTight", desc := "()Z" } : Jvm.MethodName)) ∈ lw_all := lw_g (lw_at lw_m3 203 rfl) rfl
theorem q781 : (Jvm.Cond.methodLink "FerryClocksLaw" (233 : Nat) ({ cls := "FerryClocks", name := "isEmpty", desc := "()Z" } : Jvm.MethodName)) ∈ lw_all := lw_g (lw_at lw_m3 210 rfl) rfl
theorem q791 : (Jvm.Cond.methodLink "FerryClocksLaw" (237 : Nat) ({ cls := "FerryClocks", name := "isEmptyByMoments", desc := "()Z" } : Jvm.MethodName)) ∈ lw_all := lw_g (lw_at lw_m3 220 rfl) rfl
theorem q806 : (Jvm.Cond.methodLink "FerryClocksLaw" (244 : Nat) ({ cls := "FerryClocks", name := "moments", desc := "()I" } : Jvm.MethodName)) ∈ lw_all := lw_g (lw_at lw_m3 235 rfl) rfl
theorem q810 : (Jvm.Cond.methodLink "FerryClocksLaw" (248 : Nat) ({ cls := "FerryClocks", name := "momentsTightened", desc := "()I" } : Jvm.MethodName)) ∈ lw_all := lw_g (lw_at lw_m3 239 rfl) rfl
theorem q814 : (Jvm.Cond.methodLink "FerryClocksLaw" (279 : Nat) ({ cls := "FerryClocks", name := "lines", desc := "()I" } : Jvm.MethodName)) ∈ lw_all := lw_g (lw_at lw_m4 3 rfl) rfl
theorem q819 : (Jvm.Cond.methodLink "FerryClocksLaw" (295 : Nat) ({ cls := "FerryClocks", name := "reachableByMoments", desc := "()I" } : Jvm.MethodName)) ∈ lw_all := lw_g (lw_at lw_m4 8 rfl) rfl
theorem q858 : (Jvm.Cond.methodLink "FerryClocksLaw" (311 : Nat) ({ cls := "FerryClocks", name := "stuckIn", desc := "()I" } : Jvm.MethodName)) ∈ lw_all := lw_g (lw_at lw_m4 47 rfl) rfl
theorem q870 : (Jvm.Cond.methodLink "FerryClocksLaw" (315 : Nat) ({ cls := "FerryClocks", name := "usableLines", desc := "()I" } : Jvm.MethodName)) ∈ lw_all := lw_g (lw_at lw_m4 59 rfl) rfl
theorem q878 : (Jvm.Cond.methodLink "FerryClocksLaw" (319 : Nat) ({ cls := "FerryClocks", name := "share", desc := "()F" } : Jvm.MethodName)) ∈ lw_all := lw_g (lw_at lw_m4 67 rfl) rfl
theorem q884 : (Jvm.Cond.methodLink "FerryClocksLaw" (324 : Nat) ({ cls := "FerryClocks", name := "shareBits", desc := "()I" } : Jvm.MethodName)) ∈ lw_all := lw_g (lw_at lw_m4 73 rfl) rfl
theorem q899 : (Jvm.Cond.methodLink "FerryClocksLaw" (331 : Nat) ({ cls := "FerryClocks", name := "worked", desc := "()I" } : Jvm.MethodName)) ∈ lw_all := lw_g (lw_at lw_m4 88 rfl) rfl
theorem q903 : (Jvm.Cond.methodLink "FerryClocksLaw" (335 : Nat) ({ cls := "FerryClocks", name := "keep", desc := "()I" } : Jvm.MethodName)) ∈ lw_all := lw_g (lw_at lw_m4 92 rfl) rfl
theorem q907 : (Jvm.Cond.methodLink "FerryClocksLaw" (342 : Nat) ({ cls := "FerryClocks", name := "states", desc := "()I" } : Jvm.MethodName)) ∈ lw_all := lw_g (lw_at lw_m4 96 rfl) rfl
theorem q911 : (Jvm.Cond.methodLink "FerryClocksLaw" (352 : Nat) ({ cls := "FerryClocks", name := "clearText", desc := "()I" } : Jvm.MethodName)) ∈ lw_all := lw_g (lw_at lw_m4 100 rfl) rfl
theorem q1131 : (Jvm.Cond.methodLink "FerryClocksLaw" (160 : Nat) ({ cls := "FerryClocksLaw", name := "tell", desc := "(LFerryClocks;III[J)I" } : Jvm.MethodName)) ∈ lw_all := lw_g (lw_at lw_m5 80 rfl) rfl
theorem q1132 : (Jvm.Cond.static ({ cls := "FerryClocksLaw", name := "tell", desc := "(LFerryClocks;III[J)I" } : Jvm.MethodName)) ∈ lw_all := lw_g (lw_at lw_m5 81 rfl) rfl
theorem q1133 : (Jvm.Cond.codeWith ({ cls := "FerryClocksLaw", name := "tell", desc := "(LFerryClocks;III[J)I" } : Jvm.MethodName) method_3_code (6 : Nat) (Option.some Jvm.ClassFile.FieldType.int) [((0 : Nat), (19 : Nat), (22 : Nat), (13 : Nat)), ((0 : Nat), (19 : Nat), (26 : Nat), (15 : Nat))]) ∈ lw_all := lw_g (lw_at lw_m5 82 rfl) rfl
theorem q1134 : (Jvm.Cond.classLink "FerryClocksLaw" (13 : Nat) "java/lang/IllegalArgumentException") ∈ lw_all := lw_g (lw_at lw_m5 83 rfl) rfl
theorem q1135 : (Jvm.Cond.classLink "FerryClocksLaw" (15 : Nat) "java/lang/IllegalStateException") ∈ lw_all := lw_g (lw_at lw_m5 84 rfl) rfl
theorem q1136 : (Jvm.Cond.methodLink "FerryClocksLaw" (7 : Nat) ({ cls := "FerryClocks", name := "tell", desc := "(III)Z" } : Jvm.MethodName)) ∈ lw_all := lw_g (lw_at lw_m5 85 rfl) rfl
theorem q1140 : (Jvm.Cond.methodLink "FerryClocksLaw" (169 : Nat) ({ cls := "FerryClocksLaw", name := "forget", desc := "(LFerryClocks;II[J)I" } : Jvm.MethodName)) ∈ lw_all := lw_g (lw_at lw_m5 89 rfl) rfl
theorem q1141 : (Jvm.Cond.static ({ cls := "FerryClocksLaw", name := "forget", desc := "(LFerryClocks;II[J)I" } : Jvm.MethodName)) ∈ lw_all := lw_g (lw_at lw_m5 90 rfl) rfl
theorem q1142 : (Jvm.Cond.codeWith ({ cls := "FerryClocksLaw", name := "forget", desc := "(LFerryClocks;II[J)I" } : Jvm.MethodName) method_4_code (5 : Nat) (Option.some Jvm.ClassFile.FieldType.int) [((0 : Nat), (17 : Nat), (20 : Nat), (13 : Nat)), ((0 : Nat), (17 : Nat), (24 : Nat), (15 : Nat))]) ∈ lw_all := lw_g (lw_at lw_m5 91 rfl) rfl
theorem q1143 : (Jvm.Cond.methodLink "FerryClocksLaw" (17 : Nat) ({ cls := "FerryClocks", name := "forget", desc := "(II)Z" } : Jvm.MethodName)) ∈ lw_all := lw_g (lw_at lw_m5 92 rfl) rfl
theorem q1147 : (Jvm.Cond.methodLink "FerryClocksLaw" (177 : Nat) ({ cls := "FerryClocksLaw", name := "tighten", desc := "(LFerryClocks;[J)I" } : Jvm.MethodName)) ∈ lw_all := lw_g (lw_at lw_m5 96 rfl) rfl
theorem q1148 : (Jvm.Cond.static ({ cls := "FerryClocksLaw", name := "tighten", desc := "(LFerryClocks;[J)I" } : Jvm.MethodName)) ∈ lw_all := lw_g (lw_at lw_m5 97 rfl) rfl
theorem q1149 : (Jvm.Cond.codeWith ({ cls := "FerryClocksLaw", name := "tighten", desc := "(LFerryClocks;[J)I" } : Jvm.MethodName) method_5_code (3 : Nat) (Option.some Jvm.ClassFile.FieldType.int) [((0 : Nat), (8 : Nat), (11 : Nat), (15 : Nat))]) ∈ lw_all := lw_g (lw_at lw_m5 98 rfl) rfl
theorem q1150 : (Jvm.Cond.methodLink "FerryClocksLaw" (21 : Nat) ({ cls := "FerryClocks", name := "tighten", desc := "()I" } : Jvm.MethodName)) ∈ lw_all := lw_g (lw_at lw_m5 99 rfl) rfl
theorem q1154 : (Jvm.Cond.methodLink "FerryClocksLaw" (181 : Nat) ({ cls := "FerryClocksLaw", name := "reset", desc := "(LFerryClocks;II[J)I" } : Jvm.MethodName)) ∈ lw_all := lw_g (lw_at lw_m5 103 rfl) rfl
theorem q1155 : (Jvm.Cond.static ({ cls := "FerryClocksLaw", name := "reset", desc := "(LFerryClocks;II[J)I" } : Jvm.MethodName)) ∈ lw_all := lw_g (lw_at lw_m5 104 rfl) rfl
theorem q1156 : (Jvm.Cond.codeWith ({ cls := "FerryClocksLaw", name := "reset", desc := "(LFerryClocks;II[J)I" } : Jvm.MethodName) method_6_code (5 : Nat) (Option.some Jvm.ClassFile.FieldType.int) [((0 : Nat), (10 : Nat), (13 : Nat), (13 : Nat)), ((0 : Nat), (10 : Nat), (17 : Nat), (15 : Nat))]) ∈ lw_all := lw_g (lw_at lw_m5 105 rfl) rfl
theorem q1157 : (Jvm.Cond.methodLink "FerryClocksLaw" (25 : Nat) ({ cls := "FerryClocks", name := "reset", desc := "(II)I" } : Jvm.MethodName)) ∈ lw_all := lw_g (lw_at lw_m5 106 rfl) rfl
theorem q1161 : (Jvm.Cond.methodLink "FerryClocksLaw" (184 : Nat) ({ cls := "FerryClocksLaw", name := "delay", desc := "(LFerryClocks;[J)I" } : Jvm.MethodName)) ∈ lw_all := lw_g (lw_at lw_m5 110 rfl) rfl
theorem q1162 : (Jvm.Cond.static ({ cls := "FerryClocksLaw", name := "delay", desc := "(LFerryClocks;[J)I" } : Jvm.MethodName)) ∈ lw_all := lw_g (lw_at lw_m5 111 rfl) rfl
theorem q1163 : (Jvm.Cond.codeWith ({ cls := "FerryClocksLaw", name := "delay", desc := "(LFerryClocks;[J)I" } : Jvm.MethodName) method_7_code (3 : Nat) (Option.some Jvm.ClassFile.FieldType.int) [((0 : Nat), (8 : Nat), (11 : Nat), (15 : Nat))]) ∈ lw_all := lw_g (lw_at lw_m5 112 rfl) rfl
theorem q1164 : (Jvm.Cond.methodLink "FerryClocksLaw" (29 : Nat) ({ cls := "FerryClocks", name := "delay", desc := "()I" } : Jvm.MethodName)) ∈ lw_all := lw_g (lw_at lw_m5 113 rfl) rfl
theorem q1168 : (Jvm.Cond.methodLink "FerryClocksLaw" (187 : Nat) ({ cls := "FerryClocksLaw", name := "goBackInTime", desc := "(LFerryClocks;[J)I" } : Jvm.MethodName)) ∈ lw_all := lw_g (lw_at lw_m5 117 rfl) rfl
theorem q1169 : (Jvm.Cond.static ({ cls := "FerryClocksLaw", name := "goBackInTime", desc := "(LFerryClocks;[J)I" } : Jvm.MethodName)) ∈ lw_all := lw_g (lw_at lw_m5 118 rfl) rfl
theorem q1170 : (Jvm.Cond.codeWith ({ cls := "FerryClocksLaw", name := "goBackInTime", desc := "(LFerryClocks;[J)I" } : Jvm.MethodName) method_8_code (3 : Nat) (Option.some Jvm.ClassFile.FieldType.int) [((0 : Nat), (8 : Nat), (11 : Nat), (15 : Nat))]) ∈ lw_all := lw_g (lw_at lw_m5 119 rfl) rfl
theorem q1171 : (Jvm.Cond.methodLink "FerryClocksLaw" (32 : Nat) ({ cls := "FerryClocks", name := "goBackInTime", desc := "()I" } : Jvm.MethodName)) ∈ lw_all := lw_g (lw_at lw_m5 120 rfl) rfl
theorem q1175 : (Jvm.Cond.methodLink "FerryClocksLaw" (190 : Nat) ({ cls := "FerryClocksLaw", name := "setFree", desc := "(LFerryClocks;I[J)I" } : Jvm.MethodName)) ∈ lw_all := lw_g (lw_at lw_m5 124 rfl) rfl
theorem q1176 : (Jvm.Cond.static ({ cls := "FerryClocksLaw", name := "setFree", desc := "(LFerryClocks;I[J)I" } : Jvm.MethodName)) ∈ lw_all := lw_g (lw_at lw_m5 125 rfl) rfl
theorem q1177 : (Jvm.Cond.codeWith ({ cls := "FerryClocksLaw", name := "setFree", desc := "(LFerryClocks;I[J)I" } : Jvm.MethodName) method_9_code (4 : Nat) (Option.some Jvm.ClassFile.FieldType.int) [((0 : Nat), (9 : Nat), (12 : Nat), (13 : Nat)), ((0 : Nat), (9 : Nat), (15 : Nat), (15 : Nat))]) ∈ lw_all := lw_g (lw_at lw_m5 126 rfl) rfl
theorem q1178 : (Jvm.Cond.methodLink "FerryClocksLaw" (35 : Nat) ({ cls := "FerryClocks", name := "setFree", desc := "(I)I" } : Jvm.MethodName)) ∈ lw_all := lw_g (lw_at lw_m5 127 rfl) rfl
theorem q1182 : (Jvm.Cond.methodLink "FerryClocksLaw" (194 : Nat) ({ cls := "FerryClocksLaw", name := "copyClock", desc := "(LFerryClocks;II[J)I" } : Jvm.MethodName)) ∈ lw_all := lw_g (lw_at lw_m5 131 rfl) rfl
theorem q1183 : (Jvm.Cond.static ({ cls := "FerryClocksLaw", name := "copyClock", desc := "(LFerryClocks;II[J)I" } : Jvm.MethodName)) ∈ lw_all := lw_g (lw_at lw_m5 132 rfl) rfl
theorem q1184 : (Jvm.Cond.codeWith ({ cls := "FerryClocksLaw", name := "copyClock", desc := "(LFerryClocks;II[J)I" } : Jvm.MethodName) method_10_code (5 : Nat) (Option.some Jvm.ClassFile.FieldType.int) [((0 : Nat), (10 : Nat), (13 : Nat), (13 : Nat)), ((0 : Nat), (10 : Nat), (17 : Nat), (15 : Nat))]) ∈ lw_all := lw_g (lw_at lw_m5 133 rfl) rfl
theorem q1185 : (Jvm.Cond.methodLink "FerryClocksLaw" (39 : Nat) ({ cls := "FerryClocks", name := "copyClock", desc := "(II)I" } : Jvm.MethodName)) ∈ lw_all := lw_g (lw_at lw_m5 134 rfl) rfl
theorem q1189 : (Jvm.Cond.methodLink "FerryClocksLaw" (197 : Nat) ({ cls := "FerryClocksLaw", name := "shift", desc := "(LFerryClocks;II[J)I" } : Jvm.MethodName)) ∈ lw_all := lw_g (lw_at lw_m5 138 rfl) rfl
theorem q1190 : (Jvm.Cond.static ({ cls := "FerryClocksLaw", name := "shift", desc := "(LFerryClocks;II[J)I" } : Jvm.MethodName)) ∈ lw_all := lw_g (lw_at lw_m5 139 rfl) rfl
theorem q1191 : (Jvm.Cond.codeWith ({ cls := "FerryClocksLaw", name := "shift", desc := "(LFerryClocks;II[J)I" } : Jvm.MethodName) method_11_code (5 : Nat) (Option.some Jvm.ClassFile.FieldType.int) [((0 : Nat), (10 : Nat), (13 : Nat), (13 : Nat)), ((0 : Nat), (10 : Nat), (17 : Nat), (15 : Nat))]) ∈ lw_all := lw_g (lw_at lw_m5 140 rfl) rfl
theorem q1192 : (Jvm.Cond.methodLink "FerryClocksLaw" (42 : Nat) ({ cls := "FerryClocks", name := "shift", desc := "(II)I" } : Jvm.MethodName)) ∈ lw_all := lw_g (lw_at lw_m5 141 rfl) rfl
theorem q1196 : (Jvm.Cond.methodLink "FerryClocksLaw" (200 : Nat) ({ cls := "FerryClocksLaw", name := "store", desc := "(LFerryClocks;I[J)I" } : Jvm.MethodName)) ∈ lw_all := lw_g (lw_at lw_m5 145 rfl) rfl
theorem q1197 : (Jvm.Cond.static ({ cls := "FerryClocksLaw", name := "store", desc := "(LFerryClocks;I[J)I" } : Jvm.MethodName)) ∈ lw_all := lw_g (lw_at lw_m5 146 rfl) rfl
theorem q1198 : (Jvm.Cond.codeWith ({ cls := "FerryClocksLaw", name := "store", desc := "(LFerryClocks;I[J)I" } : Jvm.MethodName) method_12_code (4 : Nat) (Option.some Jvm.ClassFile.FieldType.int) [((0 : Nat), (16 : Nat), (19 : Nat), (13 : Nat))]) ∈ lw_all := lw_g (lw_at lw_m5 147 rfl) rfl
theorem q1199 : (Jvm.Cond.methodLink "FerryClocksLaw" (45 : Nat) ({ cls := "FerryClocks", name := "store", desc := "(I)Z" } : Jvm.MethodName)) ∈ lw_all := lw_g (lw_at lw_m5 148 rfl) rfl
theorem q1203 : (Jvm.Cond.methodLink "FerryClocksLaw" (203 : Nat) ({ cls := "FerryClocksLaw", name := "meet", desc := "(LFerryClocks;I[J)I" } : Jvm.MethodName)) ∈ lw_all := lw_g (lw_at lw_m5 152 rfl) rfl
theorem q1204 : (Jvm.Cond.static ({ cls := "FerryClocksLaw", name := "meet", desc := "(LFerryClocks;I[J)I" } : Jvm.MethodName)) ∈ lw_all := lw_g (lw_at lw_m5 153 rfl) rfl
theorem q1205 : (Jvm.Cond.codeWith ({ cls := "FerryClocksLaw", name := "meet", desc := "(LFerryClocks;I[J)I" } : Jvm.MethodName) method_13_code (4 : Nat) (Option.some Jvm.ClassFile.FieldType.int) [((0 : Nat), (9 : Nat), (12 : Nat), (13 : Nat)), ((0 : Nat), (9 : Nat), (15 : Nat), (15 : Nat))]) ∈ lw_all := lw_g (lw_at lw_m5 154 rfl) rfl
theorem q1206 : (Jvm.Cond.methodLink "FerryClocksLaw" (49 : Nat) ({ cls := "FerryClocks", name := "meet", desc := "(I)I" } : Jvm.MethodName)) ∈ lw_all := lw_g (lw_at lw_m5 155 rfl) rfl
theorem q1210 : (Jvm.Cond.methodLink "FerryClocksLaw" (206 : Nat) ({ cls := "FerryClocksLaw", name := "wrap", desc := "(LFerryClocks;I[J)I" } : Jvm.MethodName)) ∈ lw_all := lw_g (lw_at lw_m5 159 rfl) rfl
theorem q1211 : (Jvm.Cond.static ({ cls := "FerryClocksLaw", name := "wrap", desc := "(LFerryClocks;I[J)I" } : Jvm.MethodName)) ∈ lw_all := lw_g (lw_at lw_m5 160 rfl) rfl
theorem q1212 : (Jvm.Cond.codeWith ({ cls := "FerryClocksLaw", name := "wrap", desc := "(LFerryClocks;I[J)I" } : Jvm.MethodName) method_14_code (4 : Nat) (Option.some Jvm.ClassFile.FieldType.int) [((0 : Nat), (9 : Nat), (12 : Nat), (13 : Nat)), ((0 : Nat), (9 : Nat), (15 : Nat), (15 : Nat))]) ∈ lw_all := lw_g (lw_at lw_m5 161 rfl) rfl
theorem q1213 : (Jvm.Cond.methodLink "FerryClocksLaw" (52 : Nat) ({ cls := "FerryClocks", name := "wrap", desc := "(I)I" } : Jvm.MethodName)) ∈ lw_all := lw_g (lw_at lw_m5 162 rfl) rfl
theorem q1217 : (Jvm.Cond.methodLink "FerryClocksLaw" (209 : Nat) ({ cls := "FerryClocksLaw", name := "setStay", desc := "(LFerryClocks;III[J)I" } : Jvm.MethodName)) ∈ lw_all := lw_g (lw_at lw_m5 166 rfl) rfl
theorem q1218 : (Jvm.Cond.static ({ cls := "FerryClocksLaw", name := "setStay", desc := "(LFerryClocks;III[J)I" } : Jvm.MethodName)) ∈ lw_all := lw_g (lw_at lw_m5 167 rfl) rfl
theorem q1219 : (Jvm.Cond.codeWith ({ cls := "FerryClocksLaw", name := "setStay", desc := "(LFerryClocks;III[J)I" } : Jvm.MethodName) method_15_code (6 : Nat) (Option.some Jvm.ClassFile.FieldType.int) [((0 : Nat), (12 : Nat), (15 : Nat), (13 : Nat))]) ∈ lw_all := lw_g (lw_at lw_m5 168 rfl) rfl
theorem q1220 : (Jvm.Cond.methodLink "FerryClocksLaw" (55 : Nat) ({ cls := "FerryClocks", name := "setStay", desc := "(III)I" } : Jvm.MethodName)) ∈ lw_all := lw_g (lw_at lw_m5 169 rfl) rfl
theorem q1224 : (Jvm.Cond.methodLink "FerryClocksLaw" (212 : Nat) ({ cls := "FerryClocksLaw", name := "addLine", desc := "(LFerryClocks;II[J)I" } : Jvm.MethodName)) ∈ lw_all := lw_g (lw_at lw_m5 173 rfl) rfl
theorem q1225 : (Jvm.Cond.static ({ cls := "FerryClocksLaw", name := "addLine", desc := "(LFerryClocks;II[J)I" } : Jvm.MethodName)) ∈ lw_all := lw_g (lw_at lw_m5 174 rfl) rfl
theorem q1226 : (Jvm.Cond.codeWith ({ cls := "FerryClocksLaw", name := "addLine", desc := "(LFerryClocks;II[J)I" } : Jvm.MethodName) method_16_code (5 : Nat) (Option.some Jvm.ClassFile.FieldType.int) [((0 : Nat), (10 : Nat), (13 : Nat), (13 : Nat)), ((0 : Nat), (10 : Nat), (17 : Nat), (15 : Nat))]) ∈ lw_all := lw_g (lw_at lw_m5 175 rfl) rfl
theorem q1227 : (Jvm.Cond.methodLink "FerryClocksLaw" (59 : Nat) ({ cls := "FerryClocks", name := "addLine", desc := "(II)I" } : Jvm.MethodName)) ∈ lw_all := lw_g (lw_at lw_m5 176 rfl) rfl
theorem q1231 : (Jvm.Cond.methodLink "FerryClocksLaw" (215 : Nat) ({ cls := "FerryClocksLaw", name := "setNeed", desc := "(LFerryClocks;IIII[J)I" } : Jvm.MethodName)) ∈ lw_all := lw_g (lw_at lw_m5 180 rfl) rfl
theorem q1232 : (Jvm.Cond.static ({ cls := "FerryClocksLaw", name := "setNeed", desc := "(LFerryClocks;IIII[J)I" } : Jvm.MethodName)) ∈ lw_all := lw_g (lw_at lw_m5 181 rfl) rfl
theorem q1233 : (Jvm.Cond.codeWith ({ cls := "FerryClocksLaw", name := "setNeed", desc := "(LFerryClocks;IIII[J)I" } : Jvm.MethodName) method_17_code (7 : Nat) (Option.some Jvm.ClassFile.FieldType.int) [((0 : Nat), (14 : Nat), (17 : Nat), (13 : Nat))]) ∈ lw_all := lw_g (lw_at lw_m5 182 rfl) rfl
theorem q1234 : (Jvm.Cond.methodLink "FerryClocksLaw" (62 : Nat) ({ cls := "FerryClocks", name := "setNeed", desc := "(IIII)I" } : Jvm.MethodName)) ∈ lw_all := lw_g (lw_at lw_m5 183 rfl) rfl
theorem q1238 : (Jvm.Cond.methodLink "FerryClocksLaw" (219 : Nat) ({ cls := "FerryClocksLaw", name := "turnReset", desc := "(LFerryClocks;II[J)I" } : Jvm.MethodName)) ∈ lw_all := lw_g (lw_at lw_m5 187 rfl) rfl
theorem q1239 : (Jvm.Cond.static ({ cls := "FerryClocksLaw", name := "turnReset", desc := "(LFerryClocks;II[J)I" } : Jvm.MethodName)) ∈ lw_all := lw_g (lw_at lw_m5 188 rfl) rfl
theorem q1240 : (Jvm.Cond.codeWith ({ cls := "FerryClocksLaw", name := "turnReset", desc := "(LFerryClocks;II[J)I" } : Jvm.MethodName) method_18_code (5 : Nat) (Option.some Jvm.ClassFile.FieldType.int) [((0 : Nat), (17 : Nat), (20 : Nat), (13 : Nat))]) ∈ lw_all := lw_g (lw_at lw_m5 189 rfl) rfl
theorem q1241 : (Jvm.Cond.methodLink "FerryClocksLaw" (66 : Nat) ({ cls := "FerryClocks", name := "turnReset", desc := "(II)Z" } : Jvm.MethodName)) ∈ lw_all := lw_g (lw_at lw_m5 190 rfl) rfl
theorem q1245 : (Jvm.Cond.methodLink "FerryClocksLaw" (222 : Nat) ({ cls := "FerryClocksLaw", name := "told", desc := "(LFerryClocks;II[J)I" } : Jvm.MethodName)) ∈ lw_all := lw_g (lw_at lw_m5 194 rfl) rfl
theorem q1246 : (Jvm.Cond.static ({ cls := "FerryClocksLaw", name := "told", desc := "(LFerryClocks;II[J)I" } : Jvm.MethodName)) ∈ lw_all := lw_g (lw_at lw_m5 195 rfl) rfl
theorem q1247 : (Jvm.Cond.codeWith ({ cls := "FerryClocksLaw", name := "told", desc := "(LFerryClocks;II[J)I" } : Jvm.MethodName) method_19_code (5 : Nat) (Option.some Jvm.ClassFile.FieldType.int) [((0 : Nat), (10 : Nat), (13 : Nat), (13 : Nat)), ((0 : Nat), (10 : Nat), (17 : Nat), (72 : Nat))]) ∈ lw_all := lw_g (lw_at lw_m5 196 rfl) rfl
theorem q1248 : (Jvm.Cond.classLink "FerryClocksLaw" (72 : Nat) "java/util/NoSuchElementException") ∈ lw_all := lw_g (lw_at lw_m5 197 rfl) rfl
theorem q1249 : (Jvm.Cond.methodLink "FerryClocksLaw" (69 : Nat) ({ cls := "FerryClocks", name := "told", desc := "(II)I" } : Jvm.MethodName)) ∈ lw_all := lw_g (lw_at lw_m5 198 rfl) rfl
theorem q1270 : (Jvm.Cond.methodLink "FerryClocksLaw" (225 : Nat) ({ cls := "FerryClocksLaw", name := "tightened", desc := "(LFerryClocks;II[J)I" } : Jvm.MethodName)) ∈ lw_all := lw_g (lw_at lw_m5 219 rfl) rfl
theorem q1271 : (Jvm.Cond.static ({ cls := "FerryClocksLaw", name := "tightened", desc := "(LFerryClocks;II[J)I" } : Jvm.MethodName)) ∈ lw_all := lw_g (lw_at lw_m5 220 rfl) rfl
theorem q1272 : (Jvm.Cond.codeWith ({ cls := "FerryClocksLaw", name := "tightened", desc := "(LFerryClocks;II[J)I" } : Jvm.MethodName) method_20_code (5 : Nat) (Option.some Jvm.ClassFile.FieldType.int) [((0 : Nat), (10 : Nat), (13 : Nat), (13 : Nat)), ((0 : Nat), (10 : Nat), (17 : Nat), (72 : Nat))]) ∈ lw_all := lw_g (lw_at lw_m5 221 rfl) rfl
theorem q1273 : (Jvm.Cond.methodLink "FerryClocksLaw" (74 : Nat) ({ cls := "FerryClocks", name := "tightened", desc := "(II)I" } : Jvm.MethodName)) ∈ lw_all := lw_g (lw_at lw_m5 222 rfl) rfl
theorem q1281 : (Jvm.Cond.methodLink "FerryClocksLaw" (241 : Nat) ({ cls := "FerryClocksLaw", name := "hasMoment", desc := "(LFerryClocks;III[J)I" } : Jvm.MethodName)) ∈ lw_all := lw_g (lw_at lw_m5 230 rfl) rfl
theorem q1282 : (Jvm.Cond.static ({ cls := "FerryClocksLaw", name := "hasMoment", desc := "(LFerryClocks;III[J)I" } : Jvm.MethodName)) ∈ lw_all := lw_g (lw_at lw_m5 231 rfl) rfl
theorem q1283 : (Jvm.Cond.codeWith ({ cls := "FerryClocksLaw", name := "hasMoment", desc := "(LFerryClocks;III[J)I" } : Jvm.MethodName) method_21_code (6 : Nat) (Option.some Jvm.ClassFile.FieldType.int) [((0 : Nat), (19 : Nat), (22 : Nat), (13 : Nat))]) ∈ lw_all := lw_g (lw_at lw_m5 232 rfl) rfl
theorem q1284 : (Jvm.Cond.methodLink "FerryClocksLaw" (77 : Nat) ({ cls := "FerryClocks", name := "hasMoment", desc := "(III)Z" } : Jvm.MethodName)) ∈ lw_all := lw_g (lw_at lw_m5 233 rfl) rfl
theorem q1293 : (Jvm.Cond.methodLink "FerryClocksLaw" (252 : Nat) ({ cls := "FerryClocksLaw", name := "leastOf", desc := "(LFerryClocks;I[J)I" } : Jvm.MethodName)) ∈ lw_all := lw_g (lw_at lw_m6 2 rfl) rfl
theorem q1294 : (Jvm.Cond.static ({ cls := "FerryClocksLaw", name := "leastOf", desc := "(LFerryClocks;I[J)I" } : Jvm.MethodName)) ∈ lw_all := lw_g (lw_at lw_m6 3 rfl) rfl
theorem q1295 : (Jvm.Cond.codeWith ({ cls := "FerryClocksLaw", name := "leastOf", desc := "(LFerryClocks;I[J)I" } : Jvm.MethodName) method_22_code (4 : Nat) (Option.some Jvm.ClassFile.FieldType.int) [((0 : Nat), (9 : Nat), (12 : Nat), (13 : Nat)), ((0 : Nat), (9 : Nat), (15 : Nat), (72 : Nat))]) ∈ lw_all := lw_g (lw_at lw_m6 4 rfl) rfl
theorem q1296 : (Jvm.Cond.methodLink "FerryClocksLaw" (80 : Nat) ({ cls := "FerryClocks", name := "leastOf", desc := "(I)I" } : Jvm.MethodName)) ∈ lw_all := lw_g (lw_at lw_m6 5 rfl) rfl
theorem q1301 : (Jvm.Cond.methodLink "FerryClocksLaw" (255 : Nat) ({ cls := "FerryClocksLaw", name := "mostOf", desc := "(LFerryClocks;I[J)I" } : Jvm.MethodName)) ∈ lw_all := lw_g (lw_at lw_m6 10 rfl) rfl
theorem q1302 : (Jvm.Cond.static ({ cls := "FerryClocksLaw", name := "mostOf", desc := "(LFerryClocks;I[J)I" } : Jvm.MethodName)) ∈ lw_all := lw_g (lw_at lw_m6 11 rfl) rfl
theorem q1303 : (Jvm.Cond.codeWith ({ cls := "FerryClocksLaw", name := "mostOf", desc := "(LFerryClocks;I[J)I" } : Jvm.MethodName) method_23_code (4 : Nat) (Option.some Jvm.ClassFile.FieldType.int) [((0 : Nat), (9 : Nat), (12 : Nat), (13 : Nat)), ((0 : Nat), (9 : Nat), (15 : Nat), (72 : Nat))]) ∈ lw_all := lw_g (lw_at lw_m6 12 rfl) rfl
theorem q1304 : (Jvm.Cond.methodLink "FerryClocksLaw" (83 : Nat) ({ cls := "FerryClocks", name := "mostOf", desc := "(I)I" } : Jvm.MethodName)) ∈ lw_all := lw_g (lw_at lw_m6 13 rfl) rfl
theorem q1308 : (Jvm.Cond.methodLink "FerryClocksLaw" (258 : Nat) ({ cls := "FerryClocksLaw", name := "longestDelay", desc := "(LFerryClocks;III[J)I" } : Jvm.MethodName)) ∈ lw_all := lw_g (lw_at lw_m6 17 rfl) rfl
theorem q1309 : (Jvm.Cond.static ({ cls := "FerryClocksLaw", name := "longestDelay", desc := "(LFerryClocks;III[J)I" } : Jvm.MethodName)) ∈ lw_all := lw_g (lw_at lw_m6 18 rfl) rfl
theorem q1310 : (Jvm.Cond.codeWith ({ cls := "FerryClocksLaw", name := "longestDelay", desc := "(LFerryClocks;III[J)I" } : Jvm.MethodName) method_24_code (6 : Nat) (Option.some Jvm.ClassFile.FieldType.int) [((0 : Nat), (12 : Nat), (15 : Nat), (13 : Nat)), ((0 : Nat), (12 : Nat), (19 : Nat), (72 : Nat))]) ∈ lw_all := lw_g (lw_at lw_m6 19 rfl) rfl
theorem q1311 : (Jvm.Cond.methodLink "FerryClocksLaw" (86 : Nat) ({ cls := "FerryClocks", name := "longestDelay", desc := "(III)I" } : Jvm.MethodName)) ∈ lw_all := lw_g (lw_at lw_m6 20 rfl) rfl
theorem q1320 : (Jvm.Cond.methodLink "FerryClocksLaw" (261 : Nat) ({ cls := "FerryClocksLaw", name := "needless", desc := "(LFerryClocks;[J)I" } : Jvm.MethodName)) ∈ lw_all := lw_g (lw_at lw_m6 29 rfl) rfl
theorem q1321 : (Jvm.Cond.static ({ cls := "FerryClocksLaw", name := "needless", desc := "(LFerryClocks;[J)I" } : Jvm.MethodName)) ∈ lw_all := lw_g (lw_at lw_m6 30 rfl) rfl
theorem q1322 : (Jvm.Cond.codeWith ({ cls := "FerryClocksLaw", name := "needless", desc := "(LFerryClocks;[J)I" } : Jvm.MethodName) method_25_code (3 : Nat) (Option.some Jvm.ClassFile.FieldType.int) [((0 : Nat), (8 : Nat), (11 : Nat), (72 : Nat))]) ∈ lw_all := lw_g (lw_at lw_m6 31 rfl) rfl
theorem q1323 : (Jvm.Cond.methodLink "FerryClocksLaw" (89 : Nat) ({ cls := "FerryClocks", name := "needless", desc := "()I" } : Jvm.MethodName)) ∈ lw_all := lw_g (lw_at lw_m6 32 rfl) rfl
theorem q1331 : (Jvm.Cond.methodLink "FerryClocksLaw" (264 : Nat) ({ cls := "FerryClocksLaw", name := "isShelfEmpty", desc := "(LFerryClocks;I[J)I" } : Jvm.MethodName)) ∈ lw_all := lw_g (lw_at lw_m6 40 rfl) rfl
theorem q1332 : (Jvm.Cond.static ({ cls := "FerryClocksLaw", name := "isShelfEmpty", desc := "(LFerryClocks;I[J)I" } : Jvm.MethodName)) ∈ lw_all := lw_g (lw_at lw_m6 41 rfl) rfl
theorem q1333 : (Jvm.Cond.codeWith ({ cls := "FerryClocksLaw", name := "isShelfEmpty", desc := "(LFerryClocks;I[J)I" } : Jvm.MethodName) method_26_code (4 : Nat) (Option.some Jvm.ClassFile.FieldType.int) [((0 : Nat), (16 : Nat), (19 : Nat), (13 : Nat))]) ∈ lw_all := lw_g (lw_at lw_m6 42 rfl) rfl
theorem q1334 : (Jvm.Cond.methodLink "FerryClocksLaw" (92 : Nat) ({ cls := "FerryClocks", name := "isShelfEmpty", desc := "(I)Z" } : Jvm.MethodName)) ∈ lw_all := lw_g (lw_at lw_m6 43 rfl) rfl
theorem q1339 : (Jvm.Cond.methodLink "FerryClocksLaw" (267 : Nat) ({ cls := "FerryClocksLaw", name := "isWithin", desc := "(LFerryClocks;I[J)I" } : Jvm.MethodName)) ∈ lw_all := lw_g (lw_at lw_m6 48 rfl) rfl
theorem q1340 : (Jvm.Cond.static ({ cls := "FerryClocksLaw", name := "isWithin", desc := "(LFerryClocks;I[J)I" } : Jvm.MethodName)) ∈ lw_all := lw_g (lw_at lw_m6 49 rfl) rfl
theorem q1341 : (Jvm.Cond.codeWith ({ cls := "FerryClocksLaw", name := "isWithin", desc := "(LFerryClocks;I[J)I" } : Jvm.MethodName) method_27_code (4 : Nat) (Option.some Jvm.ClassFile.FieldType.int) [((0 : Nat), (16 : Nat), (19 : Nat), (13 : Nat)), ((0 : Nat), (16 : Nat), (22 : Nat), (72 : Nat))]) ∈ lw_all := lw_g (lw_at lw_m6 50 rfl) rfl
theorem q1342 : (Jvm.Cond.methodLink "FerryClocksLaw" (95 : Nat) ({ cls := "FerryClocks", name := "isWithin", desc := "(I)Z" } : Jvm.MethodName)) ∈ lw_all := lw_g (lw_at lw_m6 51 rfl) rfl
theorem q1354 : (Jvm.Cond.methodLink "FerryClocksLaw" (270 : Nat) ({ cls := "FerryClocksLaw", name := "momentsBeyond", desc := "(LFerryClocks;I[J)I" } : Jvm.MethodName)) ∈ lw_all := lw_g (lw_at lw_m6 63 rfl) rfl
theorem q1355 : (Jvm.Cond.static ({ cls := "FerryClocksLaw", name := "momentsBeyond", desc := "(LFerryClocks;I[J)I" } : Jvm.MethodName)) ∈ lw_all := lw_g (lw_at lw_m6 64 rfl) rfl
theorem q1356 : (Jvm.Cond.codeWith ({ cls := "FerryClocksLaw", name := "momentsBeyond", desc := "(LFerryClocks;I[J)I" } : Jvm.MethodName) method_28_code (4 : Nat) (Option.some Jvm.ClassFile.FieldType.int) [((0 : Nat), (9 : Nat), (12 : Nat), (13 : Nat)), ((0 : Nat), (9 : Nat), (15 : Nat), (72 : Nat))]) ∈ lw_all := lw_g (lw_at lw_m6 65 rfl) rfl
theorem q1357 : (Jvm.Cond.methodLink "FerryClocksLaw" (98 : Nat) ({ cls := "FerryClocks", name := "momentsBeyond", desc := "(I)I" } : Jvm.MethodName)) ∈ lw_all := lw_g (lw_at lw_m6 66 rfl) rfl
theorem q1361 : (Jvm.Cond.methodLink "FerryClocksLaw" (273 : Nat) ({ cls := "FerryClocksLaw", name := "doMeet", desc := "(LFerryClocks;I[J)I" } : Jvm.MethodName)) ∈ lw_all := lw_g (lw_at lw_m6 70 rfl) rfl
theorem q1362 : (Jvm.Cond.static ({ cls := "FerryClocksLaw", name := "doMeet", desc := "(LFerryClocks;I[J)I" } : Jvm.MethodName)) ∈ lw_all := lw_g (lw_at lw_m6 71 rfl) rfl
theorem q1363 : (Jvm.Cond.codeWith ({ cls := "FerryClocksLaw", name := "doMeet", desc := "(LFerryClocks;I[J)I" } : Jvm.MethodName) method_29_code (4 : Nat) (Option.some Jvm.ClassFile.FieldType.int) [((0 : Nat), (16 : Nat), (19 : Nat), (13 : Nat)), ((0 : Nat), (16 : Nat), (22 : Nat), (72 : Nat))]) ∈ lw_all := lw_g (lw_at lw_m6 72 rfl) rfl
theorem q1364 : (Jvm.Cond.methodLink "FerryClocksLaw" (101 : Nat) ({ cls := "FerryClocks", name := "doMeet", desc := "(I)Z" } : Jvm.MethodName)) ∈ lw_all := lw_g (lw_at lw_m6 73 rfl) rfl
theorem q1369 : (Jvm.Cond.methodLink "FerryClocksLaw" (276 : Nat) ({ cls := "FerryClocksLaw", name := "stayOf", desc := "(LFerryClocks;II[J)I" } : Jvm.MethodName)) ∈ lw_all := lw_g (lw_at lw_m6 78 rfl) rfl
theorem q1370 : (Jvm.Cond.static ({ cls := "FerryClocksLaw", name := "stayOf", desc := "(LFerryClocks;II[J)I" } : Jvm.MethodName)) ∈ lw_all := lw_g (lw_at lw_m6 79 rfl) rfl
theorem q1371 : (Jvm.Cond.codeWith ({ cls := "FerryClocksLaw", name := "stayOf", desc := "(LFerryClocks;II[J)I" } : Jvm.MethodName) method_30_code (5 : Nat) (Option.some Jvm.ClassFile.FieldType.int) [((0 : Nat), (10 : Nat), (13 : Nat), (13 : Nat))]) ∈ lw_all := lw_g (lw_at lw_m6 80 rfl) rfl
theorem q1372 : (Jvm.Cond.methodLink "FerryClocksLaw" (104 : Nat) ({ cls := "FerryClocks", name := "stayOf", desc := "(II)I" } : Jvm.MethodName)) ∈ lw_all := lw_g (lw_at lw_m6 81 rfl) rfl
theorem q1378 : (Jvm.Cond.methodLink "FerryClocksLaw" (283 : Nat) ({ cls := "FerryClocksLaw", name := "fromOf", desc := "(LFerryClocks;I[J)I" } : Jvm.MethodName)) ∈ lw_all := lw_g (lw_at lw_m6 87 rfl) rfl
theorem q1379 : (Jvm.Cond.static ({ cls := "FerryClocksLaw", name := "fromOf", desc := "(LFerryClocks;I[J)I" } : Jvm.MethodName)) ∈ lw_all := lw_g (lw_at lw_m6 88 rfl) rfl
theorem q1380 : (Jvm.Cond.codeWith ({ cls := "FerryClocksLaw", name := "fromOf", desc := "(LFerryClocks;I[J)I" } : Jvm.MethodName) method_31_code (4 : Nat) (Option.some Jvm.ClassFile.FieldType.int) [((0 : Nat), (9 : Nat), (12 : Nat), (13 : Nat))]) ∈ lw_all := lw_g (lw_at lw_m6 89 rfl) rfl
theorem q1381 : (Jvm.Cond.methodLink "FerryClocksLaw" (107 : Nat) ({ cls := "FerryClocks", name := "fromOf", desc := "(I)I" } : Jvm.MethodName)) ∈ lw_all := lw_g (lw_at lw_m6 90 rfl) rfl
theorem q1392 : (Jvm.Cond.methodLink "FerryClocksLaw" (286 : Nat) ({ cls := "FerryClocksLaw", name := "toOf", desc := "(LFerryClocks;I[J)I" } : Jvm.MethodName)) ∈ lw_all := lw_g (lw_at lw_m6 101 rfl) rfl
theorem q1393 : (Jvm.Cond.static ({ cls := "FerryClocksLaw", name := "toOf", desc := "(LFerryClocks;I[J)I" } : Jvm.MethodName)) ∈ lw_all := lw_g (lw_at lw_m6 102 rfl) rfl
theorem q1394 : (Jvm.Cond.codeWith ({ cls := "FerryClocksLaw", name := "toOf", desc := "(LFerryClocks;I[J)I" } : Jvm.MethodName) method_32_code (4 : Nat) (Option.some Jvm.ClassFile.FieldType.int) [((0 : Nat), (9 : Nat), (12 : Nat), (13 : Nat))]) ∈ lw_all := lw_g (lw_at lw_m6 103 rfl) rfl
theorem q1395 : (Jvm.Cond.methodLink "FerryClocksLaw" (110 : Nat) ({ cls := "FerryClocks", name := "toOf", desc := "(I)I" } : Jvm.MethodName)) ∈ lw_all := lw_g (lw_at lw_m6 104 rfl) rfl
theorem q1399 : (Jvm.Cond.methodLink "FerryClocksLaw" (289 : Nat) ({ cls := "FerryClocksLaw", name := "doesReset", desc := "(LFerryClocks;II[J)I" } : Jvm.MethodName)) ∈ lw_all := lw_g (lw_at lw_m6 108 rfl) rfl
theorem q1400 : (Jvm.Cond.static ({ cls := "FerryClocksLaw", name := "doesReset", desc := "(LFerryClocks;II[J)I" } : Jvm.MethodName)) ∈ lw_all := lw_g (lw_at lw_m6 109 rfl) rfl
theorem q1401 : (Jvm.Cond.codeWith ({ cls := "FerryClocksLaw", name := "doesReset", desc := "(LFerryClocks;II[J)I" } : Jvm.MethodName) method_33_code (5 : Nat) (Option.some Jvm.ClassFile.FieldType.int) [((0 : Nat), (17 : Nat), (20 : Nat), (13 : Nat))]) ∈ lw_all := lw_g (lw_at lw_m6 110 rfl) rfl
theorem q1402 : (Jvm.Cond.methodLink "FerryClocksLaw" (113 : Nat) ({ cls := "FerryClocks", name := "doesReset", desc := "(II)Z" } : Jvm.MethodName)) ∈ lw_all := lw_g (lw_at lw_m6 111 rfl) rfl
theorem q1407 : (Jvm.Cond.methodLink "FerryClocksLaw" (292 : Nat) ({ cls := "FerryClocksLaw", name := "reachable", desc := "(LFerryClocks;[J)I" } : Jvm.MethodName)) ∈ lw_all := lw_g (lw_at lw_m6 116 rfl) rfl
theorem q1408 : (Jvm.Cond.static ({ cls := "FerryClocksLaw", name := "reachable", desc := "(LFerryClocks;[J)I" } : Jvm.MethodName)) ∈ lw_all := lw_g (lw_at lw_m6 117 rfl) rfl
theorem q1409 : (Jvm.Cond.codeWith ({ cls := "FerryClocksLaw", name := "reachable", desc := "(LFerryClocks;[J)I" } : Jvm.MethodName) method_34_code (3 : Nat) (Option.some Jvm.ClassFile.FieldType.int) [((0 : Nat), (8 : Nat), (11 : Nat), (72 : Nat))]) ∈ lw_all := lw_g (lw_at lw_m6 118 rfl) rfl
theorem q1410 : (Jvm.Cond.methodLink "FerryClocksLaw" (116 : Nat) ({ cls := "FerryClocks", name := "reachable", desc := "()I" } : Jvm.MethodName)) ∈ lw_all := lw_g (lw_at lw_m6 119 rfl) rfl
theorem q1480 : (Jvm.Cond.methodLink "FerryClocksLaw" (299 : Nat) ({ cls := "FerryClocksLaw", name := "zones", desc := "(LFerryClocks;[J)I" } : Jvm.MethodName)) ∈ lw_all := lw_g (lw_at lw_m6 189 rfl) rfl
theorem q1481 : (Jvm.Cond.static ({ cls := "FerryClocksLaw", name := "zones", desc := "(LFerryClocks;[J)I" } : Jvm.MethodName)) ∈ lw_all := lw_g (lw_at lw_m6 190 rfl) rfl
theorem q1482 : (Jvm.Cond.codeWith ({ cls := "FerryClocksLaw", name := "zones", desc := "(LFerryClocks;[J)I" } : Jvm.MethodName) method_35_code (3 : Nat) (Option.some Jvm.ClassFile.FieldType.int) [((0 : Nat), (8 : Nat), (11 : Nat), (72 : Nat))]) ∈ lw_all := lw_g (lw_at lw_m6 191 rfl) rfl
theorem q1483 : (Jvm.Cond.methodLink "FerryClocksLaw" (119 : Nat) ({ cls := "FerryClocks", name := "zones", desc := "()I" } : Jvm.MethodName)) ∈ lw_all := lw_g (lw_at lw_m6 192 rfl) rfl
theorem q1487 : (Jvm.Cond.methodLink "FerryClocksLaw" (302 : Nat) ({ cls := "FerryClocksLaw", name := "zonesOf", desc := "(LFerryClocks;I[J)I" } : Jvm.MethodName)) ∈ lw_all := lw_g (lw_at lw_m6 196 rfl) rfl
theorem q1488 : (Jvm.Cond.static ({ cls := "FerryClocksLaw", name := "zonesOf", desc := "(LFerryClocks;I[J)I" } : Jvm.MethodName)) ∈ lw_all := lw_g (lw_at lw_m6 197 rfl) rfl
theorem q1489 : (Jvm.Cond.codeWith ({ cls := "FerryClocksLaw", name := "zonesOf", desc := "(LFerryClocks;I[J)I" } : Jvm.MethodName) method_36_code (4 : Nat) (Option.some Jvm.ClassFile.FieldType.int) [((0 : Nat), (9 : Nat), (12 : Nat), (13 : Nat)), ((0 : Nat), (9 : Nat), (15 : Nat), (72 : Nat))]) ∈ lw_all := lw_g (lw_at lw_m6 198 rfl) rfl
theorem q1490 : (Jvm.Cond.methodLink "FerryClocksLaw" (122 : Nat) ({ cls := "FerryClocks", name := "zonesOf", desc := "(I)I" } : Jvm.MethodName)) ∈ lw_all := lw_g (lw_at lw_m6 199 rfl) rfl
theorem q1494 : (Jvm.Cond.methodLink "FerryClocksLaw" (305 : Nat) ({ cls := "FerryClocksLaw", name := "fewestLines", desc := "(LFerryClocks;I[J)I" } : Jvm.MethodName)) ∈ lw_all := lw_g (lw_at lw_m6 203 rfl) rfl
theorem q1495 : (Jvm.Cond.static ({ cls := "FerryClocksLaw", name := "fewestLines", desc := "(LFerryClocks;I[J)I" } : Jvm.MethodName)) ∈ lw_all := lw_g (lw_at lw_m6 204 rfl) rfl
theorem q1496 : (Jvm.Cond.codeWith ({ cls := "FerryClocksLaw", name := "fewestLines", desc := "(LFerryClocks;I[J)I" } : Jvm.MethodName) method_37_code (4 : Nat) (Option.some Jvm.ClassFile.FieldType.int) [((0 : Nat), (9 : Nat), (12 : Nat), (13 : Nat)), ((0 : Nat), (9 : Nat), (15 : Nat), (72 : Nat))]) ∈ lw_all := lw_g (lw_at lw_m6 205 rfl) rfl
theorem q1497 : (Jvm.Cond.methodLink "FerryClocksLaw" (125 : Nat) ({ cls := "FerryClocks", name := "fewestLines", desc := "(I)I" } : Jvm.MethodName)) ∈ lw_all := lw_g (lw_at lw_m6 206 rfl) rfl
theorem q1501 : (Jvm.Cond.methodLink "FerryClocksLaw" (308 : Nat) ({ cls := "FerryClocksLaw", name := "fewestTicks", desc := "(LFerryClocks;I[J)I" } : Jvm.MethodName)) ∈ lw_all := lw_g (lw_at lw_m6 210 rfl) rfl
theorem q1502 : (Jvm.Cond.static ({ cls := "FerryClocksLaw", name := "fewestTicks", desc := "(LFerryClocks;I[J)I" } : Jvm.MethodName)) ∈ lw_all := lw_g (lw_at lw_m6 211 rfl) rfl
theorem q1503 : (Jvm.Cond.codeWith ({ cls := "FerryClocksLaw", name := "fewestTicks", desc := "(LFerryClocks;I[J)I" } : Jvm.MethodName) method_38_code (4 : Nat) (Option.some Jvm.ClassFile.FieldType.int) [((0 : Nat), (9 : Nat), (12 : Nat), (13 : Nat)), ((0 : Nat), (9 : Nat), (15 : Nat), (72 : Nat))]) ∈ lw_all := lw_g (lw_at lw_m6 212 rfl) rfl
theorem q1504 : (Jvm.Cond.methodLink "FerryClocksLaw" (128 : Nat) ({ cls := "FerryClocks", name := "fewestTicks", desc := "(I)I" } : Jvm.MethodName)) ∈ lw_all := lw_g (lw_at lw_m6 213 rfl) rfl
theorem q1512 : (Jvm.Cond.methodLink "FerryClocksLaw" (328 : Nat) ({ cls := "FerryClocksLaw", name := "meanBits", desc := "(LFerryClocks;I[J)I" } : Jvm.MethodName)) ∈ lw_all := lw_g (lw_at lw_m6 221 rfl) rfl
theorem q1513 : (Jvm.Cond.static ({ cls := "FerryClocksLaw", name := "meanBits", desc := "(LFerryClocks;I[J)I" } : Jvm.MethodName)) ∈ lw_all := lw_g (lw_at lw_m6 222 rfl) rfl
theorem q1514 : (Jvm.Cond.codeWith ({ cls := "FerryClocksLaw", name := "meanBits", desc := "(LFerryClocks;I[J)I" } : Jvm.MethodName) method_39_code (4 : Nat) (Option.some Jvm.ClassFile.FieldType.int) [((0 : Nat), (8 : Nat), (11 : Nat), (13 : Nat)), ((0 : Nat), (8 : Nat), (14 : Nat), (72 : Nat))]) ∈ lw_all := lw_g (lw_at lw_m6 223 rfl) rfl
theorem q1515 : (Jvm.Cond.methodLink "FerryClocksLaw" (131 : Nat) ({ cls := "FerryClocks", name := "meanBits", desc := "(I)J" } : Jvm.MethodName)) ∈ lw_all := lw_g (lw_at lw_m6 224 rfl) rfl
theorem q1533 : (Jvm.Cond.methodLink "FerryClocksLaw" (339 : Nat) ({ cls := "FerryClocksLaw", name := "goBack", desc := "(LFerryClocks;[J)I" } : Jvm.MethodName)) ∈ lw_all := lw_g (lw_at lw_m7 2 rfl) rfl
theorem q1534 : (Jvm.Cond.static ({ cls := "FerryClocksLaw", name := "goBack", desc := "(LFerryClocks;[J)I" } : Jvm.MethodName)) ∈ lw_all := lw_g (lw_at lw_m7 3 rfl) rfl
theorem q1535 : (Jvm.Cond.codeWith ({ cls := "FerryClocksLaw", name := "goBack", desc := "(LFerryClocks;[J)I" } : Jvm.MethodName) method_40_code (3 : Nat) (Option.some Jvm.ClassFile.FieldType.int) [((0 : Nat), (8 : Nat), (11 : Nat), (15 : Nat))]) ∈ lw_all := lw_g (lw_at lw_m7 4 rfl) rfl
theorem q1536 : (Jvm.Cond.methodLink "FerryClocksLaw" (135 : Nat) ({ cls := "FerryClocks", name := "goBack", desc := "()I" } : Jvm.MethodName)) ∈ lw_all := lw_g (lw_at lw_m7 5 rfl) rfl
theorem q1543 : (Jvm.Cond.methodLink "FerryClocksLaw" (346 : Nat) ({ cls := "FerryClocksLaw", name := "undo", desc := "(LFerryClocks;[J)I" } : Jvm.MethodName)) ∈ lw_all := lw_g (lw_at lw_m7 12 rfl) rfl
theorem q1544 : (Jvm.Cond.static ({ cls := "FerryClocksLaw", name := "undo", desc := "(LFerryClocks;[J)I" } : Jvm.MethodName)) ∈ lw_all := lw_g (lw_at lw_m7 13 rfl) rfl
theorem q1545 : (Jvm.Cond.codeWith ({ cls := "FerryClocksLaw", name := "undo", desc := "(LFerryClocks;[J)I" } : Jvm.MethodName) method_41_code (3 : Nat) (Option.some Jvm.ClassFile.FieldType.int) [((0 : Nat), (8 : Nat), (11 : Nat), (15 : Nat))]) ∈ lw_all := lw_g (lw_at lw_m7 14 rfl) rfl
theorem q1546 : (Jvm.Cond.methodLink "FerryClocksLaw" (138 : Nat) ({ cls := "FerryClocks", name := "undo", desc := "()I" } : Jvm.MethodName)) ∈ lw_all := lw_g (lw_at lw_m7 15 rfl) rfl
theorem q1565 : (Jvm.Cond.methodLink "FerryClocksLaw" (349 : Nat) ({ cls := "FerryClocksLaw", name := "type", desc := "(LFerryClocks;I[J)I" } : Jvm.MethodName)) ∈ lw_all := lw_g (lw_at lw_m7 34 rfl) rfl
theorem q1566 : (Jvm.Cond.static ({ cls := "FerryClocksLaw", name := "type", desc := "(LFerryClocks;I[J)I" } : Jvm.MethodName)) ∈ lw_all := lw_g (lw_at lw_m7 35 rfl) rfl
theorem q1567 : (Jvm.Cond.codeWith ({ cls := "FerryClocksLaw", name := "type", desc := "(LFerryClocks;I[J)I" } : Jvm.MethodName) method_42_code (4 : Nat) (Option.some Jvm.ClassFile.FieldType.int) [((0 : Nat), (9 : Nat), (12 : Nat), (13 : Nat)), ((0 : Nat), (9 : Nat), (15 : Nat), (15 : Nat))]) ∈ lw_all := lw_g (lw_at lw_m7 36 rfl) rfl
theorem q1568 : (Jvm.Cond.methodLink "FerryClocksLaw" (141 : Nat) ({ cls := "FerryClocks", name := "type", desc := "(I)I" } : Jvm.MethodName)) ∈ lw_all := lw_g (lw_at lw_m7 37 rfl) rfl
theorem q1594 : (Jvm.Cond.methodLink "FerryClocksLaw" (356 : Nat) ({ cls := "FerryClocksLaw", name := "faultPosition", desc := "(LFerryClocks;[J)I" } : Jvm.MethodName)) ∈ lw_all := lw_g (lw_at lw_m7 63 rfl) rfl
theorem q1595 : (Jvm.Cond.static ({ cls := "FerryClocksLaw", name := "faultPosition", desc := "(LFerryClocks;[J)I" } : Jvm.MethodName)) ∈ lw_all := lw_g (lw_at lw_m7 64 rfl) rfl
theorem q1596 : (Jvm.Cond.codeWith ({ cls := "FerryClocksLaw", name := "faultPosition", desc := "(LFerryClocks;[J)I" } : Jvm.MethodName) method_43_code (3 : Nat) (Option.some Jvm.ClassFile.FieldType.int) [((0 : Nat), (8 : Nat), (11 : Nat), (72 : Nat))]) ∈ lw_all := lw_g (lw_at lw_m7 65 rfl) rfl
theorem q1597 : (Jvm.Cond.methodLink "FerryClocksLaw" (144 : Nat) ({ cls := "FerryClocks", name := "faultPosition", desc := "()I" } : Jvm.MethodName)) ∈ lw_all := lw_g (lw_at lw_m7 66 rfl) rfl
theorem q1731 : (Jvm.Cond.methodLink "FerryClocksLaw" (359 : Nat) ({ cls := "FerryClocksLaw", name := "faultReason", desc := "(LFerryClocks;[J)I" } : Jvm.MethodName)) ∈ lw_all := lw_g (lw_at lw_m7 200 rfl) rfl
theorem q1732 : (Jvm.Cond.static ({ cls := "FerryClocksLaw", name := "faultReason", desc := "(LFerryClocks;[J)I" } : Jvm.MethodName)) ∈ lw_all := lw_g (lw_at lw_m7 201 rfl) rfl
theorem q1733 : (Jvm.Cond.codeWith ({ cls := "FerryClocksLaw", name := "faultReason", desc := "(LFerryClocks;[J)I" } : Jvm.MethodName) method_44_code (3 : Nat) (Option.some Jvm.ClassFile.FieldType.int) [((0 : Nat), (8 : Nat), (11 : Nat), (72 : Nat))]) ∈ lw_all := lw_g (lw_at lw_m7 202 rfl) rfl
theorem q1734 : (Jvm.Cond.methodLink "FerryClocksLaw" (147 : Nat) ({ cls := "FerryClocks", name := "faultReason", desc := "()I" } : Jvm.MethodName)) ∈ lw_all := lw_g (lw_at lw_m7 203 rfl) rfl
theorem q1738 : (Jvm.Cond.methodLink "FerryClocksLaw" (362 : Nat) ({ cls := "FerryClocksLaw", name := "faultCause", desc := "(LFerryClocks;[J)I" } : Jvm.MethodName)) ∈ lw_all := lw_g (lw_at lw_m7 207 rfl) rfl
theorem q1739 : (Jvm.Cond.static ({ cls := "FerryClocksLaw", name := "faultCause", desc := "(LFerryClocks;[J)I" } : Jvm.MethodName)) ∈ lw_all := lw_g (lw_at lw_m7 208 rfl) rfl
theorem q1740 : (Jvm.Cond.codeWith ({ cls := "FerryClocksLaw", name := "faultCause", desc := "(LFerryClocks;[J)I" } : Jvm.MethodName) method_45_code (3 : Nat) (Option.some Jvm.ClassFile.FieldType.int) [((0 : Nat), (8 : Nat), (11 : Nat), (72 : Nat))]) ∈ lw_all := lw_g (lw_at lw_m7 209 rfl) rfl
theorem q1741 : (Jvm.Cond.methodLink "FerryClocksLaw" (150 : Nat) ({ cls := "FerryClocks", name := "faultCause", desc := "()I" } : Jvm.MethodName)) ∈ lw_all := lw_g (lw_at lw_m7 210 rfl) rfl
theorem q1745 : (Jvm.Cond.methodLink "FerryClocksLaw" (365 : Nat) ({ cls := "FerryClocksLaw", name := "play", desc := "(LFerryClocks;[J)I" } : Jvm.MethodName)) ∈ lw_all := lw_g (lw_at lw_m7 214 rfl) rfl
theorem q1746 : (Jvm.Cond.static ({ cls := "FerryClocksLaw", name := "play", desc := "(LFerryClocks;[J)I" } : Jvm.MethodName)) ∈ lw_all := lw_g (lw_at lw_m7 215 rfl) rfl
theorem q1747 : (Jvm.Cond.codeWith ({ cls := "FerryClocksLaw", name := "play", desc := "(LFerryClocks;[J)I" } : Jvm.MethodName) method_46_code (3 : Nat) (Option.some Jvm.ClassFile.FieldType.int) [((0 : Nat), (8 : Nat), (11 : Nat), (15 : Nat))]) ∈ lw_all := lw_g (lw_at lw_m7 216 rfl) rfl
theorem q1748 : (Jvm.Cond.methodLink "FerryClocksLaw" (153 : Nat) ({ cls := "FerryClocks", name := "play", desc := "()I" } : Jvm.MethodName)) ∈ lw_all := lw_g (lw_at lw_m7 217 rfl) rfl
theorem q1752 : (Jvm.Cond.classLink "FerryClocksLaw" (157 : Nat) "FerryClocksModel") ∈ lw_all := lw_g (lw_at lw_m7 221 rfl) rfl
theorem q1754 : (Jvm.Cond.methodLink "FerryClocksLaw" (159 : Nat) ({ cls := "FerryClocksModel", name := "<init>", desc := "()V" } : Jvm.MethodName)) ∈ lw_all := lw_g (lw_at lw_m7 223 rfl) rfl
theorem q1851 : (Jvm.Cond.methodLink "FerryClocksLaw" (166 : Nat) ({ cls := "FerryClocksModel", name := "thrown", desc := "()I" } : Jvm.MethodName)) ∈ lw_all := lw_g (lw_at lw_m8 80 rfl) rfl
theorem q1855 : (Jvm.Cond.methodLink "FerryClocksLaw" (165 : Nat) ({ cls := "FerryClocksModel", name := "tell", desc := "(III)Z" } : Jvm.MethodName)) ∈ lw_all := lw_g (lw_at lw_m8 84 rfl) rfl
theorem q1908 : (Jvm.Cond.methodLink "FerryClocksLaw" (172 : Nat) ({ cls := "FerryClocksModel", name := "forget", desc := "(II)Z" } : Jvm.MethodName)) ∈ lw_all := lw_g (lw_at lw_m8 137 rfl) rfl
theorem q1916 : (Jvm.Cond.methodLink "FerryClocksLaw" (176 : Nat) ({ cls := "FerryClocksModel", name := "forgetAll", desc := "()I" } : Jvm.MethodName)) ∈ lw_all := lw_g (lw_at lw_m8 145 rfl) rfl
theorem q1924 : (Jvm.Cond.methodLink "FerryClocksLaw" (180 : Nat) ({ cls := "FerryClocksModel", name := "tighten", desc := "()I" } : Jvm.MethodName)) ∈ lw_all := lw_g (lw_at lw_m8 153 rfl) rfl
theorem q1940 : (Jvm.Cond.methodLink "FerryClocksLaw" (183 : Nat) ({ cls := "FerryClocksModel", name := "reset", desc := "(II)I" } : Jvm.MethodName)) ∈ lw_all := lw_g (lw_at lw_m8 169 rfl) rfl
theorem q1963 : (Jvm.Cond.methodLink "FerryClocksLaw" (186 : Nat) ({ cls := "FerryClocksModel", name := "delay", desc := "()I" } : Jvm.MethodName)) ∈ lw_all := lw_g (lw_at lw_m8 192 rfl) rfl
theorem q1975 : (Jvm.Cond.methodLink "FerryClocksLaw" (189 : Nat) ({ cls := "FerryClocksModel", name := "goBackInTime", desc := "()I" } : Jvm.MethodName)) ∈ lw_all := lw_g (lw_at lw_m8 204 rfl) rfl
theorem q1987 : (Jvm.Cond.methodLink "FerryClocksLaw" (193 : Nat) ({ cls := "FerryClocksModel", name := "setFree", desc := "(I)I" } : Jvm.MethodName)) ∈ lw_all := lw_g (lw_at lw_m8 216 rfl) rfl
theorem q1995 : (Jvm.Cond.methodLink "FerryClocksLaw" (196 : Nat) ({ cls := "FerryClocksModel", name := "copyClock", desc := "(II)I" } : Jvm.MethodName)) ∈ lw_all := lw_g (lw_at lw_m8 224 rfl) rfl
theorem q2007 : (Jvm.Cond.methodLink "FerryClocksLaw" (199 : Nat) ({ cls := "FerryClocksModel", name := "shift", desc := "(II)I" } : Jvm.MethodName)) ∈ lw_all := lw_g (lw_at lw_m8 236 rfl) rfl
theorem q2015 : (Jvm.Cond.methodLink "FerryClocksLaw" (202 : Nat) ({ cls := "FerryClocksModel", name := "store", desc := "(I)Z" } : Jvm.MethodName)) ∈ lw_all := lw_g (lw_at lw_m9 4 rfl) rfl
theorem q2022 : (Jvm.Cond.methodLink "FerryClocksLaw" (205 : Nat) ({ cls := "FerryClocksModel", name := "meet", desc := "(I)I" } : Jvm.MethodName)) ∈ lw_all := lw_g (lw_at lw_m9 11 rfl) rfl
theorem q2030 : (Jvm.Cond.methodLink "FerryClocksLaw" (208 : Nat) ({ cls := "FerryClocksModel", name := "wrap", desc := "(I)I" } : Jvm.MethodName)) ∈ lw_all := lw_g (lw_at lw_m9 19 rfl) rfl
theorem q2041 : (Jvm.Cond.methodLink "FerryClocksLaw" (211 : Nat) ({ cls := "FerryClocksModel", name := "setStay", desc := "(III)I" } : Jvm.MethodName)) ∈ lw_all := lw_g (lw_at lw_m9 30 rfl) rfl
theorem q2048 : (Jvm.Cond.methodLink "FerryClocksLaw" (214 : Nat) ({ cls := "FerryClocksModel", name := "addLine", desc := "(II)I" } : Jvm.MethodName)) ∈ lw_all := lw_g (lw_at lw_m9 37 rfl) rfl
theorem q2056 : (Jvm.Cond.methodLink "FerryClocksLaw" (218 : Nat) ({ cls := "FerryClocksModel", name := "setNeed", desc := "(IIII)I" } : Jvm.MethodName)) ∈ lw_all := lw_g (lw_at lw_m9 45 rfl) rfl
theorem q2068 : (Jvm.Cond.methodLink "FerryClocksLaw" (221 : Nat) ({ cls := "FerryClocksModel", name := "turnReset", desc := "(II)Z" } : Jvm.MethodName)) ∈ lw_all := lw_g (lw_at lw_m9 57 rfl) rfl
theorem q2072 : (Jvm.Cond.methodLink "FerryClocksLaw" (224 : Nat) ({ cls := "FerryClocksModel", name := "told", desc := "(II)I" } : Jvm.MethodName)) ∈ lw_all := lw_g (lw_at lw_m9 61 rfl) rfl
theorem q2084 : (Jvm.Cond.methodLink "FerryClocksLaw" (227 : Nat) ({ cls := "FerryClocksModel", name := "tightened", desc := "(II)I" } : Jvm.MethodName)) ∈ lw_all := lw_g (lw_at lw_m9 73 rfl) rfl
theorem q2088 : (Jvm.Cond.methodLink "FerryClocksLaw" (232 : Nat) ({ cls := "FerryClocksModel", name := "isTight", desc := "()Z" } : Jvm.MethodName)) ∈ lw_all := lw_g (lw_at lw_m9 77 rfl) rfl
theorem q2092 : (Jvm.Cond.methodLink "FerryClocksLaw" (236 : Nat) ({ cls := "FerryClocksModel", name := "isEmpty", desc := "()Z" } : Jvm.MethodName)) ∈ lw_all := lw_g (lw_at lw_m9 81 rfl) rfl
theorem q2100 : (Jvm.Cond.methodLink "FerryClocksLaw" (240 : Nat) ({ cls := "FerryClocksModel", name := "isEmptyByMoments", desc := "()Z" } : Jvm.MethodName)) ∈ lw_all := lw_g (lw_at lw_m9 89 rfl) rfl
theorem q2104 : (Jvm.Cond.methodLink "FerryClocksLaw" (243 : Nat) ({ cls := "FerryClocksModel", name := "hasMoment", desc := "(III)Z" } : Jvm.MethodName)) ∈ lw_all := lw_g (lw_at lw_m9 93 rfl) rfl
theorem q2114 : (Jvm.Cond.methodLink "FerryClocksLaw" (247 : Nat) ({ cls := "FerryClocksModel", name := "moments", desc := "()I" } : Jvm.MethodName)) ∈ lw_all := lw_g (lw_at lw_m9 103 rfl) rfl
theorem q2130 : (Jvm.Cond.methodLink "FerryClocksLaw" (251 : Nat) ({ cls := "FerryClocksModel", name := "momentsTightened", desc := "()I" } : Jvm.MethodName)) ∈ lw_all := lw_g (lw_at lw_m9 119 rfl) rfl
theorem q2134 : (Jvm.Cond.methodLink "FerryClocksLaw" (254 : Nat) ({ cls := "FerryClocksModel", name := "leastOf", desc := "(I)I" } : Jvm.MethodName)) ∈ lw_all := lw_g (lw_at lw_m9 123 rfl) rfl
theorem q2138 : (Jvm.Cond.methodLink "FerryClocksLaw" (257 : Nat) ({ cls := "FerryClocksModel", name := "mostOf", desc := "(I)I" } : Jvm.MethodName)) ∈ lw_all := lw_g (lw_at lw_m9 127 rfl) rfl
theorem q2142 : (Jvm.Cond.methodLink "FerryClocksLaw" (260 : Nat) ({ cls := "FerryClocksModel", name := "longestDelay", desc := "(III)I" } : Jvm.MethodName)) ∈ lw_all := lw_g (lw_at lw_m9 131 rfl) rfl
theorem q2147 : (Jvm.Cond.methodLink "FerryClocksLaw" (263 : Nat) ({ cls := "FerryClocksModel", name := "needless", desc := "()I" } : Jvm.MethodName)) ∈ lw_all := lw_g (lw_at lw_m9 136 rfl) rfl
theorem q2155 : (Jvm.Cond.methodLink "FerryClocksLaw" (266 : Nat) ({ cls := "FerryClocksModel", name := "isShelfEmpty", desc := "(I)Z" } : Jvm.MethodName)) ∈ lw_all := lw_g (lw_at lw_m9 144 rfl) rfl
theorem q2159 : (Jvm.Cond.methodLink "FerryClocksLaw" (269 : Nat) ({ cls := "FerryClocksModel", name := "isWithin", desc := "(I)Z" } : Jvm.MethodName)) ∈ lw_all := lw_g (lw_at lw_m9 148 rfl) rfl
theorem q2170 : (Jvm.Cond.methodLink "FerryClocksLaw" (272 : Nat) ({ cls := "FerryClocksModel", name := "momentsBeyond", desc := "(I)I" } : Jvm.MethodName)) ∈ lw_all := lw_g (lw_at lw_m9 159 rfl) rfl
theorem q2174 : (Jvm.Cond.methodLink "FerryClocksLaw" (275 : Nat) ({ cls := "FerryClocksModel", name := "doMeet", desc := "(I)Z" } : Jvm.MethodName)) ∈ lw_all := lw_g (lw_at lw_m9 163 rfl) rfl
theorem q2178 : (Jvm.Cond.methodLink "FerryClocksLaw" (278 : Nat) ({ cls := "FerryClocksModel", name := "stayOf", desc := "(II)I" } : Jvm.MethodName)) ∈ lw_all := lw_g (lw_at lw_m9 167 rfl) rfl
theorem q2186 : (Jvm.Cond.methodLink "FerryClocksLaw" (282 : Nat) ({ cls := "FerryClocksModel", name := "lines", desc := "()I" } : Jvm.MethodName)) ∈ lw_all := lw_g (lw_at lw_m9 175 rfl) rfl
theorem q2190 : (Jvm.Cond.methodLink "FerryClocksLaw" (285 : Nat) ({ cls := "FerryClocksModel", name := "fromOf", desc := "(I)I" } : Jvm.MethodName)) ∈ lw_all := lw_g (lw_at lw_m9 179 rfl) rfl
theorem q2194 : (Jvm.Cond.methodLink "FerryClocksLaw" (288 : Nat) ({ cls := "FerryClocksModel", name := "toOf", desc := "(I)I" } : Jvm.MethodName)) ∈ lw_all := lw_g (lw_at lw_m9 183 rfl) rfl
theorem q2198 : (Jvm.Cond.methodLink "FerryClocksLaw" (291 : Nat) ({ cls := "FerryClocksModel", name := "doesReset", desc := "(II)Z" } : Jvm.MethodName)) ∈ lw_all := lw_g (lw_at lw_m9 187 rfl) rfl
theorem q2202 : (Jvm.Cond.methodLink "FerryClocksLaw" (294 : Nat) ({ cls := "FerryClocksModel", name := "reachable", desc := "()I" } : Jvm.MethodName)) ∈ lw_all := lw_g (lw_at lw_m9 191 rfl) rfl
theorem q2234 : (Jvm.Cond.methodLink "FerryClocksLaw" (301 : Nat) ({ cls := "FerryClocksModel", name := "zones", desc := "()I" } : Jvm.MethodName)) ∈ lw_all := lw_g (lw_at lw_m9 223 rfl) rfl
theorem q2238 : (Jvm.Cond.methodLink "FerryClocksLaw" (304 : Nat) ({ cls := "FerryClocksModel", name := "zonesOf", desc := "(I)I" } : Jvm.MethodName)) ∈ lw_all := lw_g (lw_at lw_m9 227 rfl) rfl
theorem q2246 : (Jvm.Cond.methodLink "FerryClocksLaw" (307 : Nat) ({ cls := "FerryClocksModel", name := "fewestLines", desc := "(I)I" } : Jvm.MethodName)) ∈ lw_all := lw_g (lw_at lw_m9 235 rfl) rfl
theorem q2250 : (Jvm.Cond.methodLink "FerryClocksLaw" (298 : Nat) ({ cls := "FerryClocksModel", name := "reachableByMoments", desc := "()I" } : Jvm.MethodName)) ∈ lw_all := lw_g (lw_at lw_m9 239 rfl) rfl
theorem q2280 : (Jvm.Cond.methodLink "FerryClocksLaw" (310 : Nat) ({ cls := "FerryClocksModel", name := "fewestTicks", desc := "(I)I" } : Jvm.MethodName)) ∈ lw_all := lw_g (lw_at lw_m10 29 rfl) rfl
theorem q2284 : (Jvm.Cond.methodLink "FerryClocksLaw" (314 : Nat) ({ cls := "FerryClocksModel", name := "stuckIn", desc := "()I" } : Jvm.MethodName)) ∈ lw_all := lw_g (lw_at lw_m10 33 rfl) rfl
theorem q2292 : (Jvm.Cond.methodLink "FerryClocksLaw" (318 : Nat) ({ cls := "FerryClocksModel", name := "usableLines", desc := "()I" } : Jvm.MethodName)) ∈ lw_all := lw_g (lw_at lw_m10 41 rfl) rfl
theorem q2296 : (Jvm.Cond.methodLink "FerryClocksLaw" (323 : Nat) ({ cls := "FerryClocksModel", name := "share", desc := "()F" } : Jvm.MethodName)) ∈ lw_all := lw_g (lw_at lw_m10 45 rfl) rfl
theorem q2305 : (Jvm.Cond.methodLink "FerryClocksLaw" (327 : Nat) ({ cls := "FerryClocksModel", name := "shareBits", desc := "()I" } : Jvm.MethodName)) ∈ lw_all := lw_g (lw_at lw_m10 54 rfl) rfl
theorem q2310 : (Jvm.Cond.methodLink "FerryClocksLaw" (330 : Nat) ({ cls := "FerryClocksModel", name := "meanBits", desc := "(I)J" } : Jvm.MethodName)) ∈ lw_all := lw_g (lw_at lw_m10 59 rfl) rfl
theorem q2315 : (Jvm.Cond.methodLink "FerryClocksLaw" (334 : Nat) ({ cls := "FerryClocksModel", name := "worked", desc := "()I" } : Jvm.MethodName)) ∈ lw_all := lw_g (lw_at lw_m10 64 rfl) rfl
theorem q2319 : (Jvm.Cond.methodLink "FerryClocksLaw" (338 : Nat) ({ cls := "FerryClocksModel", name := "keep", desc := "()I" } : Jvm.MethodName)) ∈ lw_all := lw_g (lw_at lw_m10 68 rfl) rfl
theorem q2323 : (Jvm.Cond.methodLink "FerryClocksLaw" (341 : Nat) ({ cls := "FerryClocksModel", name := "goBack", desc := "()I" } : Jvm.MethodName)) ∈ lw_all := lw_g (lw_at lw_m10 72 rfl) rfl
theorem q2327 : (Jvm.Cond.methodLink "FerryClocksLaw" (348 : Nat) ({ cls := "FerryClocksModel", name := "undo", desc := "()I" } : Jvm.MethodName)) ∈ lw_all := lw_g (lw_at lw_m10 76 rfl) rfl
theorem q2331 : (Jvm.Cond.methodLink "FerryClocksLaw" (345 : Nat) ({ cls := "FerryClocksModel", name := "states", desc := "()I" } : Jvm.MethodName)) ∈ lw_all := lw_g (lw_at lw_m10 80 rfl) rfl
theorem q2335 : (Jvm.Cond.methodLink "FerryClocksLaw" (351 : Nat) ({ cls := "FerryClocksModel", name := "type", desc := "(I)I" } : Jvm.MethodName)) ∈ lw_all := lw_g (lw_at lw_m10 84 rfl) rfl
theorem q2339 : (Jvm.Cond.methodLink "FerryClocksLaw" (355 : Nat) ({ cls := "FerryClocksModel", name := "clearText", desc := "()I" } : Jvm.MethodName)) ∈ lw_all := lw_g (lw_at lw_m10 88 rfl) rfl
theorem q2343 : (Jvm.Cond.methodLink "FerryClocksLaw" (358 : Nat) ({ cls := "FerryClocksModel", name := "faultPosition", desc := "()I" } : Jvm.MethodName)) ∈ lw_all := lw_g (lw_at lw_m10 92 rfl) rfl
theorem q2375 : (Jvm.Cond.methodLink "FerryClocksLaw" (361 : Nat) ({ cls := "FerryClocksModel", name := "faultReason", desc := "()I" } : Jvm.MethodName)) ∈ lw_all := lw_g (lw_at lw_m10 124 rfl) rfl
theorem q2379 : (Jvm.Cond.methodLink "FerryClocksLaw" (364 : Nat) ({ cls := "FerryClocksModel", name := "faultCause", desc := "()I" } : Jvm.MethodName)) ∈ lw_all := lw_g (lw_at lw_m10 128 rfl) rfl
theorem q2383 : (Jvm.Cond.methodLink "FerryClocksLaw" (367 : Nat) ({ cls := "FerryClocksModel", name := "play", desc := "()I" } : Jvm.MethodName)) ∈ lw_all := lw_g (lw_at lw_m10 132 rfl) rfl
/-! the law's own entry -/
set_option maxRecDepth 100000
abbrev cL_law : ByteArray := code
def dkwL_law_126 : List UInt8 := [153, 0, 5, 3, 172, 167, 0, 3, 132, 4, 5, 167, 243, 186, 4, 172]
abbrev dktL_law_126 : List UInt8 := dkwL_law_126 ++ []
def dkwL_law_125 : List UInt8 := [182, 0, 166, 21, 5, 159, 0, 5, 3, 172, 21, 5, 154, 0, 15, 45, 3, 47, 21, 6, 133, 148]
abbrev dktL_law_125 : List UInt8 := dkwL_law_125 ++ dktL_law_126
def dkwL_law_124 : List UInt8 := [153, 0, 5, 3, 172, 167, 0, 47, 43, 45, 184, 1, 109, 54, 5, 44, 182, 1, 111, 54, 6, 44]
abbrev dktL_law_124 : List UInt8 := dkwL_law_124 ++ dktL_law_125
def dkwL_law_123 : List UInt8 := [182, 0, 166, 21, 5, 159, 0, 5, 3, 172, 21, 5, 154, 0, 15, 45, 3, 47, 21, 6, 133, 148]
abbrev dktL_law_123 : List UInt8 := dkwL_law_123 ++ dktL_law_124
def dkwL_law_122 : List UInt8 := [148, 153, 0, 5, 3, 172, 167, 0, 91, 43, 45, 184, 1, 106, 54, 5, 44, 182, 1, 108, 54, 6, 44]
abbrev dktL_law_122 : List UInt8 := dkwL_law_122 ++ dktL_law_123
def dkwL_law_121 : List UInt8 := [54, 6, 44, 182, 0, 166, 21, 5, 159, 0, 5, 3, 172, 21, 5, 154, 0, 15, 45, 3, 47, 21, 6, 133]
abbrev dktL_law_121 : List UInt8 := dkwL_law_121 ++ dktL_law_122
def dkwL_law_120 : List UInt8 := [21, 6, 133, 148, 153, 0, 5, 3, 172, 167, 0, 135, 43, 45, 184, 1, 103, 54, 5, 44, 182, 1, 105]
abbrev dktL_law_120 : List UInt8 := dkwL_law_120 ++ dktL_law_121
def dkwL_law_119 : List UInt8 := [182, 1, 102, 54, 6, 44, 182, 0, 166, 21, 5, 159, 0, 5, 3, 172, 21, 5, 154, 0, 15, 45, 3, 47]
abbrev dktL_law_119 : List UInt8 := dkwL_law_119 ++ dktL_law_120
def dkwL_law_118 : List UInt8 := [167, 0, 192, 43, 182, 1, 96, 44, 182, 1, 99, 159, 0, 181, 3, 172, 43, 45, 184, 1, 100, 54, 5, 44]
abbrev dktL_law_118 : List UInt8 := dkwL_law_118 ++ dktL_law_119
def dkwL_law_117 : List UInt8 := [21, 5, 159, 0, 5, 3, 172, 21, 5, 154, 0, 15, 45, 3, 47, 21, 6, 133, 148, 153, 0, 5, 3, 172]
abbrev dktL_law_117 : List UInt8 := dkwL_law_117 ++ dktL_law_118
def dkwL_law_116 : List UInt8 := [46, 45, 184, 1, 93, 54, 5, 44, 42, 21, 4, 4, 96, 46, 182, 1, 95, 54, 6, 44, 182, 0, 166]
abbrev dktL_law_116 : List UInt8 := dkwL_law_116 ++ dktL_law_117
def dkwL_law_115 : List UInt8 := [154, 0, 15, 45, 3, 47, 21, 6, 133, 148, 153, 0, 5, 3, 172, 167, 0, 248, 43, 42, 21, 4, 4, 96]
abbrev dktL_law_115 : List UInt8 := dkwL_law_115 ++ dktL_law_116
def dkwL_law_114 : List UInt8 := [184, 1, 90, 54, 5, 44, 182, 1, 92, 54, 6, 44, 182, 0, 166, 21, 5, 159, 0, 5, 3, 172, 21, 5]
abbrev dktL_law_114 : List UInt8 := dkwL_law_114 ++ dktL_law_115
def dkwL_law_113 : List UInt8 := [153, 0, 5, 3, 172, 167, 1, 49, 43, 182, 1, 86, 44, 182, 1, 89, 159, 1, 38, 3, 172, 43, 45]
abbrev dktL_law_113 : List UInt8 := dkwL_law_113 ++ dktL_law_114
def dkwL_law_112 : List UInt8 := [182, 0, 166, 21, 5, 159, 0, 5, 3, 172, 21, 5, 154, 0, 15, 45, 3, 47, 21, 6, 133, 148]
abbrev dktL_law_112 : List UInt8 := dkwL_law_112 ++ dktL_law_113
def dkwL_law_111 : List UInt8 := [182, 1, 82, 159, 1, 95, 3, 172, 43, 45, 184, 1, 83, 54, 5, 44, 182, 1, 85, 54, 6, 44]
abbrev dktL_law_111 : List UInt8 := dkwL_law_111 ++ dktL_law_112
def dkwL_law_110 : List UInt8 := [3, 172, 167, 1, 119, 43, 182, 1, 75, 44, 182, 1, 78, 159, 1, 108, 3, 172, 43, 182, 1, 79, 44]
abbrev dktL_law_110 : List UInt8 := dkwL_law_110 ++ dktL_law_111
def dkwL_law_109 : List UInt8 := [182, 0, 166, 21, 5, 159, 0, 5, 3, 172, 21, 5, 154, 0, 14, 45, 3, 47, 22, 6, 148, 153, 0, 5]
abbrev dktL_law_109 : List UInt8 := dkwL_law_109 ++ dktL_law_110
def dkwL_law_108 : List UInt8 := [21, 4, 4, 96, 46, 45, 184, 1, 72, 54, 5, 44, 42, 21, 4, 4, 96, 46, 182, 1, 74, 55, 6, 44]
abbrev dktL_law_108 : List UInt8 := dkwL_law_108 ++ dktL_law_109
def dkwL_law_107 : List UInt8 := [154, 0, 5, 3, 172, 167, 1, 187, 43, 182, 1, 68, 44, 182, 1, 71, 159, 1, 176, 3, 172, 43, 42]
abbrev dktL_law_107 : List UInt8 := dkwL_law_107 ++ dktL_law_108
def dkwL_law_106 : List UInt8 := [56, 6, 23, 5, 23, 6, 149, 153, 0, 21, 23, 5, 23, 5, 149, 153, 0, 11, 23, 6, 23, 6, 149]
abbrev dktL_law_106 : List UInt8 := dkwL_law_106 ++ dktL_law_107
def dkwL_law_105 : List UInt8 := [172, 43, 182, 1, 59, 44, 182, 1, 62, 159, 1, 230, 3, 172, 43, 182, 1, 63, 56, 5, 44, 182, 1, 67]
abbrev dktL_law_105 : List UInt8 := dkwL_law_105 ++ dktL_law_106
def dkwL_law_104 : List UInt8 := [21, 6, 133, 148, 153, 0, 5, 3, 172, 167, 1, 254, 43, 182, 1, 55, 44, 182, 1, 58, 159, 1, 243, 3]
abbrev dktL_law_104 : List UInt8 := dkwL_law_104 ++ dktL_law_105
def dkwL_law_103 : List UInt8 := [182, 1, 54, 54, 6, 44, 182, 0, 166, 21, 5, 159, 0, 5, 3, 172, 21, 5, 154, 0, 15, 45, 3, 47]
abbrev dktL_law_103 : List UInt8 := dkwL_law_103 ++ dktL_law_104
def dkwL_law_102 : List UInt8 := [167, 2, 54, 43, 42, 21, 4, 4, 96, 46, 45, 184, 1, 52, 54, 5, 44, 42, 21, 4, 4, 96, 46]
abbrev dktL_law_102 : List UInt8 := dkwL_law_102 ++ dktL_law_103
def dkwL_law_101 : List UInt8 := [21, 5, 159, 0, 5, 3, 172, 21, 5, 154, 0, 15, 45, 3, 47, 21, 6, 133, 148, 153, 0, 5, 3, 172]
abbrev dktL_law_101 : List UInt8 := dkwL_law_101 ++ dktL_law_102
def dkwL_law_100 : List UInt8 := [46, 45, 184, 1, 49, 54, 5, 44, 42, 21, 4, 4, 96, 46, 182, 1, 51, 54, 6, 44, 182, 0, 166]
abbrev dktL_law_100 : List UInt8 := dkwL_law_100 ++ dktL_law_101
def dkwL_law_99 : List UInt8 := [154, 0, 15, 45, 3, 47, 21, 6, 133, 148, 153, 0, 5, 3, 172, 167, 2, 110, 43, 42, 21, 4, 4, 96]
abbrev dktL_law_99 : List UInt8 := dkwL_law_99 ++ dktL_law_100
def dkwL_law_98 : List UInt8 := [21, 4, 4, 96, 46, 182, 1, 48, 54, 6, 44, 182, 0, 166, 21, 5, 159, 0, 5, 3, 172, 21, 5]
abbrev dktL_law_98 : List UInt8 := dkwL_law_98 ++ dktL_law_99
def dkwL_law_97 : List UInt8 := [153, 0, 5, 3, 172, 167, 2, 166, 43, 42, 21, 4, 4, 96, 46, 45, 184, 1, 46, 54, 5, 44, 42]
abbrev dktL_law_97 : List UInt8 := dkwL_law_97 ++ dktL_law_98
def dkwL_law_96 : List UInt8 := [182, 0, 166, 21, 5, 159, 0, 5, 3, 172, 21, 5, 154, 0, 15, 45, 3, 47, 21, 6, 133, 148]
abbrev dktL_law_96 : List UInt8 := dkwL_law_96 ++ dktL_law_97
def dkwL_law_95 : List UInt8 := [182, 1, 42, 159, 2, 212, 3, 172, 43, 45, 184, 1, 43, 54, 5, 44, 182, 1, 45, 54, 6, 44]
abbrev dktL_law_95 : List UInt8 := dkwL_law_95 ++ dktL_law_96
def dkwL_law_94 : List UInt8 := [154, 0, 15, 45, 3, 47, 21, 6, 133, 148, 153, 0, 5, 3, 172, 167, 2, 223, 43, 182, 1, 39, 44]
abbrev dktL_law_94 : List UInt8 := dkwL_law_94 ++ dktL_law_95
def dkwL_law_93 : List UInt8 := [184, 1, 36, 54, 5, 44, 182, 1, 38, 54, 6, 44, 182, 0, 166, 21, 5, 159, 0, 5, 3, 172, 21, 5]
abbrev dktL_law_93 : List UInt8 := dkwL_law_93 ++ dktL_law_94
def dkwL_law_92 : List UInt8 := [3, 47, 21, 6, 153, 0, 7, 10, 167, 0, 4, 9, 148, 153, 0, 5, 3, 172, 167, 3, 11, 43, 45]
abbrev dktL_law_92 : List UInt8 := dkwL_law_92 ++ dktL_law_93
def dkwL_law_91 : List UInt8 := [96, 46, 182, 1, 35, 54, 6, 44, 182, 0, 166, 21, 5, 159, 0, 5, 3, 172, 21, 5, 154, 0, 22, 45]
abbrev dktL_law_91 : List UInt8 := dkwL_law_91 ++ dktL_law_92
def dkwL_law_90 : List UInt8 := [46, 42, 21, 4, 5, 96, 46, 45, 184, 1, 33, 54, 5, 44, 42, 21, 4, 4, 96, 46, 42, 21, 4, 5]
abbrev dktL_law_90 : List UInt8 := dkwL_law_90 ++ dktL_law_91
def dkwL_law_89 : List UInt8 := [154, 0, 15, 45, 3, 47, 21, 6, 133, 148, 153, 0, 5, 3, 172, 167, 3, 86, 43, 42, 21, 4, 4, 96]
abbrev dktL_law_89 : List UInt8 := dkwL_law_89 ++ dktL_law_90
def dkwL_law_88 : List UInt8 := [21, 4, 4, 96, 46, 182, 1, 32, 54, 6, 44, 182, 0, 166, 21, 5, 159, 0, 5, 3, 172, 21, 5]
abbrev dktL_law_88 : List UInt8 := dkwL_law_88 ++ dktL_law_89
def dkwL_law_87 : List UInt8 := [153, 0, 5, 3, 172, 167, 3, 142, 43, 42, 21, 4, 4, 96, 46, 45, 184, 1, 30, 54, 5, 44, 42]
abbrev dktL_law_87 : List UInt8 := dkwL_law_87 ++ dktL_law_88
def dkwL_law_86 : List UInt8 := [182, 0, 166, 21, 5, 159, 0, 5, 3, 172, 21, 5, 154, 0, 15, 45, 3, 47, 21, 6, 133, 148]
abbrev dktL_law_86 : List UInt8 := dkwL_law_86 ++ dktL_law_87
def dkwL_law_85 : List UInt8 := [21, 4, 4, 96, 46, 45, 184, 1, 27, 54, 5, 44, 42, 21, 4, 4, 96, 46, 182, 1, 29, 54, 6, 44]
abbrev dktL_law_85 : List UInt8 := dkwL_law_85 ++ dktL_law_86
def dkwL_law_84 : List UInt8 := [153, 0, 5, 3, 172, 167, 3, 211, 43, 182, 1, 23, 44, 182, 1, 26, 159, 3, 200, 3, 172, 43, 42]
abbrev dktL_law_84 : List UInt8 := dkwL_law_84 ++ dktL_law_85
def dkwL_law_83 : List UInt8 := [182, 0, 166, 21, 5, 159, 0, 5, 3, 172, 21, 5, 154, 0, 15, 45, 3, 47, 21, 6, 133, 148]
abbrev dktL_law_83 : List UInt8 := dkwL_law_83 ++ dktL_law_84
def dkwL_law_82 : List UInt8 := [184, 1, 20, 54, 5, 44, 42, 21, 4, 4, 96, 46, 42, 21, 4, 5, 96, 46, 182, 1, 22, 54, 6, 44]
abbrev dktL_law_82 : List UInt8 := dkwL_law_82 ++ dktL_law_83
def dkwL_law_81 : List UInt8 := [9, 148, 153, 0, 5, 3, 172, 167, 4, 23, 43, 42, 21, 4, 4, 96, 46, 42, 21, 4, 5, 96, 46, 45]
abbrev dktL_law_81 : List UInt8 := dkwL_law_81 ++ dktL_law_82
def dkwL_law_80 : List UInt8 := [21, 5, 159, 0, 5, 3, 172, 21, 5, 154, 0, 22, 45, 3, 47, 21, 6, 153, 0, 7, 10, 167, 0, 4]
abbrev dktL_law_80 : List UInt8 := dkwL_law_80 ++ dktL_law_81
def dkwL_law_79 : List UInt8 := [46, 45, 184, 1, 17, 54, 5, 44, 42, 21, 4, 4, 96, 46, 182, 1, 19, 54, 6, 44, 182, 0, 166]
abbrev dktL_law_79 : List UInt8 := dkwL_law_79 ++ dktL_law_80
def dkwL_law_78 : List UInt8 := [154, 0, 15, 45, 3, 47, 21, 6, 133, 148, 153, 0, 5, 3, 172, 167, 4, 86, 43, 42, 21, 4, 4, 96]
abbrev dktL_law_78 : List UInt8 := dkwL_law_78 ++ dktL_law_79
def dkwL_law_77 : List UInt8 := [42, 21, 4, 4, 96, 46, 182, 1, 16, 54, 6, 44, 182, 0, 166, 21, 5, 159, 0, 5, 3, 172, 21, 5]
abbrev dktL_law_77 : List UInt8 := dkwL_law_77 ++ dktL_law_78
def dkwL_law_76 : List UInt8 := [9, 148, 153, 0, 5, 3, 172, 167, 4, 142, 43, 42, 21, 4, 4, 96, 46, 45, 184, 1, 14, 54, 5, 44]
abbrev dktL_law_76 : List UInt8 := dkwL_law_76 ++ dktL_law_77
def dkwL_law_75 : List UInt8 := [21, 5, 159, 0, 5, 3, 172, 21, 5, 154, 0, 22, 45, 3, 47, 21, 6, 153, 0, 7, 10, 167, 0, 4]
abbrev dktL_law_75 : List UInt8 := dkwL_law_75 ++ dktL_law_76
def dkwL_law_74 : List UInt8 := [96, 46, 45, 184, 1, 11, 54, 5, 44, 42, 21, 4, 4, 96, 46, 182, 1, 13, 54, 6, 44, 182, 0, 166]
abbrev dktL_law_74 : List UInt8 := dkwL_law_74 ++ dktL_law_75
def dkwL_law_73 : List UInt8 := [21, 6, 153, 0, 7, 10, 167, 0, 4, 9, 148, 153, 0, 5, 3, 172, 167, 4, 205, 43, 42, 21, 4, 4]
abbrev dktL_law_73 : List UInt8 := dkwL_law_73 ++ dktL_law_74
def dkwL_law_72 : List UInt8 := [182, 1, 10, 54, 6, 44, 182, 0, 166, 21, 5, 159, 0, 5, 3, 172, 21, 5, 154, 0, 22, 45, 3, 47]
abbrev dktL_law_72 : List UInt8 := dkwL_law_72 ++ dktL_law_73
def dkwL_law_71 : List UInt8 := [167, 5, 12, 43, 42, 21, 4, 4, 96, 46, 45, 184, 1, 8, 54, 5, 44, 42, 21, 4, 4, 96, 46]
abbrev dktL_law_71 : List UInt8 := dkwL_law_71 ++ dktL_law_72
def dkwL_law_70 : List UInt8 := [159, 0, 5, 3, 172, 21, 5, 154, 0, 15, 45, 3, 47, 21, 6, 133, 148, 153, 0, 5, 3, 172]
abbrev dktL_law_70 : List UInt8 := dkwL_law_70 ++ dktL_law_71
def dkwL_law_69 : List UInt8 := [167, 5, 56, 43, 45, 184, 1, 5, 54, 5, 44, 182, 1, 7, 54, 6, 44, 182, 0, 166, 21, 5]
abbrev dktL_law_69 : List UInt8 := dkwL_law_69 ++ dktL_law_70
def dkwL_law_68 : List UInt8 := [21, 5, 159, 0, 5, 3, 172, 21, 5, 154, 0, 15, 45, 3, 47, 21, 6, 133, 148, 153, 0, 5, 3, 172]
abbrev dktL_law_68 : List UInt8 := dkwL_law_68 ++ dktL_law_69
def dkwL_law_67 : List UInt8 := [96, 46, 42, 21, 4, 5, 96, 46, 42, 21, 4, 6, 96, 46, 182, 1, 4, 54, 6, 44, 182, 0, 166]
abbrev dktL_law_67 : List UInt8 := dkwL_law_67 ++ dktL_law_68
def dkwL_law_66 : List UInt8 := [46, 42, 21, 4, 5, 96, 46, 42, 21, 4, 6, 96, 46, 45, 184, 1, 2, 54, 5, 44, 42, 21, 4, 4]
abbrev dktL_law_66 : List UInt8 := dkwL_law_66 ++ dktL_law_67
def dkwL_law_65 : List UInt8 := [154, 0, 15, 45, 3, 47, 21, 6, 133, 148, 153, 0, 5, 3, 172, 167, 5, 136, 43, 42, 21, 4, 4, 96]
abbrev dktL_law_65 : List UInt8 := dkwL_law_65 ++ dktL_law_66
def dkwL_law_64 : List UInt8 := [21, 4, 4, 96, 46, 182, 1, 1, 54, 6, 44, 182, 0, 166, 21, 5, 159, 0, 5, 3, 172, 21, 5]
abbrev dktL_law_64 : List UInt8 := dkwL_law_64 ++ dktL_law_65
def dkwL_law_63 : List UInt8 := [153, 0, 5, 3, 172, 167, 5, 192, 43, 42, 21, 4, 4, 96, 46, 45, 184, 0, 255, 54, 5, 44, 42]
abbrev dktL_law_63 : List UInt8 := dkwL_law_63 ++ dktL_law_64
def dkwL_law_62 : List UInt8 := [182, 0, 166, 21, 5, 159, 0, 5, 3, 172, 21, 5, 154, 0, 15, 45, 3, 47, 21, 6, 133, 148]
abbrev dktL_law_62 : List UInt8 := dkwL_law_62 ++ dktL_law_63
def dkwL_law_61 : List UInt8 := [21, 4, 4, 96, 46, 45, 184, 0, 252, 54, 5, 44, 42, 21, 4, 4, 96, 46, 182, 0, 254, 54, 6, 44]
abbrev dktL_law_61 : List UInt8 := dkwL_law_61 ++ dktL_law_62
def dkwL_law_60 : List UInt8 := [182, 0, 247, 159, 6, 7, 3, 172, 43, 182, 0, 248, 44, 182, 0, 251, 159, 5, 250, 3, 172, 43, 42]
abbrev dktL_law_60 : List UInt8 := dkwL_law_60 ++ dktL_law_61
def dkwL_law_59 : List UInt8 := [153, 0, 7, 10, 167, 0, 4, 9, 148, 153, 0, 5, 3, 172, 167, 6, 18, 43, 182, 0, 244, 44]
abbrev dktL_law_59 : List UInt8 := dkwL_law_59 ++ dktL_law_60
def dkwL_law_58 : List UInt8 := [54, 6, 44, 182, 0, 166, 21, 5, 159, 0, 5, 3, 172, 21, 5, 154, 0, 22, 45, 3, 47, 21, 6]
abbrev dktL_law_58 : List UInt8 := dkwL_law_58 ++ dktL_law_59
def dkwL_law_57 : List UInt8 := [54, 5, 44, 42, 21, 4, 4, 96, 46, 42, 21, 4, 5, 96, 46, 42, 21, 4, 6, 96, 46, 182, 0, 243]
abbrev dktL_law_57 : List UInt8 := dkwL_law_57 ++ dktL_law_58
def dkwL_law_56 : List UInt8 := [172, 43, 42, 21, 4, 4, 96, 46, 42, 21, 4, 5, 96, 46, 42, 21, 4, 6, 96, 46, 45, 184, 0, 241]
abbrev dktL_law_56 : List UInt8 := dkwL_law_56 ++ dktL_law_57
def dkwL_law_55 : List UInt8 := [182, 0, 233, 44, 182, 0, 236, 159, 6, 120, 3, 172, 43, 182, 0, 237, 44, 182, 0, 240, 159, 6, 107, 3]
abbrev dktL_law_55 : List UInt8 := dkwL_law_55 ++ dktL_law_56
def dkwL_law_54 : List UInt8 := [153, 0, 5, 3, 172, 167, 6, 144, 43, 182, 0, 228, 44, 182, 0, 232, 159, 6, 133, 3, 172, 43]
abbrev dktL_law_54 : List UInt8 := dkwL_law_54 ++ dktL_law_55
def dkwL_law_53 : List UInt8 := [182, 0, 166, 21, 5, 159, 0, 5, 3, 172, 21, 5, 154, 0, 15, 45, 3, 47, 21, 6, 133, 148]
abbrev dktL_law_53 : List UInt8 := dkwL_law_53 ++ dktL_law_54
def dkwL_law_52 : List UInt8 := [184, 0, 225, 54, 5, 44, 42, 21, 4, 4, 96, 46, 42, 21, 4, 5, 96, 46, 182, 0, 227, 54, 6, 44]
abbrev dktL_law_52 : List UInt8 := dkwL_law_52 ++ dktL_law_53
def dkwL_law_51 : List UInt8 := [148, 153, 0, 5, 3, 172, 167, 6, 212, 43, 42, 21, 4, 4, 96, 46, 42, 21, 4, 5, 96, 46, 45]
abbrev dktL_law_51 : List UInt8 := dkwL_law_51 ++ dktL_law_52
def dkwL_law_50 : List UInt8 := [54, 6, 44, 182, 0, 166, 21, 5, 159, 0, 5, 3, 172, 21, 5, 154, 0, 15, 45, 3, 47, 21, 6, 133]
abbrev dktL_law_50 : List UInt8 := dkwL_law_50 ++ dktL_law_51
def dkwL_law_49 : List UInt8 := [96, 46, 45, 184, 0, 222, 54, 5, 44, 42, 21, 4, 4, 96, 46, 42, 21, 4, 5, 96, 46, 182, 0, 224]
abbrev dktL_law_49 : List UInt8 := dkwL_law_49 ++ dktL_law_50
def dkwL_law_48 : List UInt8 := [167, 0, 4, 9, 148, 153, 0, 5, 3, 172, 167, 7, 24, 43, 42, 21, 4, 4, 96, 46, 42, 21, 4, 5]
abbrev dktL_law_48 : List UInt8 := dkwL_law_48 ++ dktL_law_49
def dkwL_law_47 : List UInt8 := [182, 0, 166, 21, 5, 159, 0, 5, 3, 172, 21, 5, 154, 0, 22, 45, 3, 47, 21, 6, 153, 0, 7, 10]
abbrev dktL_law_47 : List UInt8 := dkwL_law_47 ++ dktL_law_48
def dkwL_law_46 : List UInt8 := [184, 0, 219, 54, 5, 44, 42, 21, 4, 4, 96, 46, 42, 21, 4, 5, 96, 46, 182, 0, 221, 54, 6, 44]
abbrev dktL_law_46 : List UInt8 := dkwL_law_46 ++ dktL_law_47
def dkwL_law_45 : List UInt8 := [153, 0, 5, 3, 172, 167, 7, 99, 43, 42, 21, 4, 4, 96, 46, 42, 21, 4, 5, 96, 46, 45]
abbrev dktL_law_45 : List UInt8 := dkwL_law_45 ++ dktL_law_46
def dkwL_law_44 : List UInt8 := [182, 0, 166, 21, 5, 159, 0, 5, 3, 172, 21, 5, 154, 0, 15, 45, 3, 47, 21, 6, 133, 148]
abbrev dktL_law_44 : List UInt8 := dkwL_law_44 ++ dktL_law_45
def dkwL_law_43 : List UInt8 := [21, 4, 5, 96, 46, 42, 21, 4, 6, 96, 46, 42, 21, 4, 7, 96, 46, 182, 0, 218, 54, 6, 44]
abbrev dktL_law_43 : List UInt8 := dkwL_law_43 ++ dktL_law_44
def dkwL_law_42 : List UInt8 := [6, 96, 46, 42, 21, 4, 7, 96, 46, 45, 184, 0, 215, 54, 5, 44, 42, 21, 4, 4, 96, 46, 42]
abbrev dktL_law_42 : List UInt8 := dkwL_law_42 ++ dktL_law_43
def dkwL_law_41 : List UInt8 := [153, 0, 5, 3, 172, 167, 7, 191, 43, 42, 21, 4, 4, 96, 46, 42, 21, 4, 5, 96, 46, 42, 21, 4]
abbrev dktL_law_41 : List UInt8 := dkwL_law_41 ++ dktL_law_42
def dkwL_law_40 : List UInt8 := [182, 0, 166, 21, 5, 159, 0, 5, 3, 172, 21, 5, 154, 0, 15, 45, 3, 47, 21, 6, 133, 148]
abbrev dktL_law_40 : List UInt8 := dkwL_law_40 ++ dktL_law_41
def dkwL_law_39 : List UInt8 := [184, 0, 212, 54, 5, 44, 42, 21, 4, 4, 96, 46, 42, 21, 4, 5, 96, 46, 182, 0, 214, 54, 6, 44]
abbrev dktL_law_39 : List UInt8 := dkwL_law_39 ++ dktL_law_40
def dkwL_law_38 : List UInt8 := [153, 0, 5, 3, 172, 167, 8, 3, 43, 42, 21, 4, 4, 96, 46, 42, 21, 4, 5, 96, 46, 45]
abbrev dktL_law_38 : List UInt8 := dkwL_law_38 ++ dktL_law_39
def dkwL_law_37 : List UInt8 := [182, 0, 166, 21, 5, 159, 0, 5, 3, 172, 21, 5, 154, 0, 15, 45, 3, 47, 21, 6, 133, 148]
abbrev dktL_law_37 : List UInt8 := dkwL_law_37 ++ dktL_law_38
def dkwL_law_36 : List UInt8 := [42, 21, 4, 4, 96, 46, 42, 21, 4, 5, 96, 46, 42, 21, 4, 6, 96, 46, 182, 0, 211, 54, 6, 44]
abbrev dktL_law_36 : List UInt8 := dkwL_law_36 ++ dktL_law_37
def dkwL_law_35 : List UInt8 := [21, 4, 4, 96, 46, 42, 21, 4, 5, 96, 46, 42, 21, 4, 6, 96, 46, 45, 184, 0, 209, 54, 5, 44]
abbrev dktL_law_35 : List UInt8 := dkwL_law_35 ++ dktL_law_36
def dkwL_law_34 : List UInt8 := [172, 21, 5, 154, 0, 15, 45, 3, 47, 21, 6, 133, 148, 153, 0, 5, 3, 172, 167, 8, 83, 43, 42]
abbrev dktL_law_34 : List UInt8 := dkwL_law_34 ++ dktL_law_35
def dkwL_law_33 : List UInt8 := [54, 5, 44, 42, 21, 4, 4, 96, 46, 182, 0, 208, 54, 6, 44, 182, 0, 166, 21, 5, 159, 0, 5, 3]
abbrev dktL_law_33 : List UInt8 := dkwL_law_33 ++ dktL_law_34
def dkwL_law_32 : List UInt8 := [21, 6, 133, 148, 153, 0, 5, 3, 172, 167, 8, 139, 43, 42, 21, 4, 4, 96, 46, 45, 184, 0, 206]
abbrev dktL_law_32 : List UInt8 := dkwL_law_32 ++ dktL_law_33
def dkwL_law_31 : List UInt8 := [182, 0, 205, 54, 6, 44, 182, 0, 166, 21, 5, 159, 0, 5, 3, 172, 21, 5, 154, 0, 15, 45, 3, 47]
abbrev dktL_law_31 : List UInt8 := dkwL_law_31 ++ dktL_law_32
def dkwL_law_30 : List UInt8 := [172, 167, 8, 195, 43, 42, 21, 4, 4, 96, 46, 45, 184, 0, 203, 54, 5, 44, 42, 21, 4, 4, 96, 46]
abbrev dktL_law_30 : List UInt8 := dkwL_law_30 ++ dktL_law_31
def dkwL_law_29 : List UInt8 := [172, 21, 5, 154, 0, 22, 45, 3, 47, 21, 6, 153, 0, 7, 10, 167, 0, 4, 9, 148, 153, 0, 5, 3]
abbrev dktL_law_29 : List UInt8 := dkwL_law_29 ++ dktL_law_30
def dkwL_law_28 : List UInt8 := [54, 5, 44, 42, 21, 4, 4, 96, 46, 182, 0, 202, 54, 6, 44, 182, 0, 166, 21, 5, 159, 0, 5, 3]
abbrev dktL_law_28 : List UInt8 := dkwL_law_28 ++ dktL_law_29
def dkwL_law_27 : List UInt8 := [21, 6, 133, 148, 153, 0, 5, 3, 172, 167, 9, 2, 43, 42, 21, 4, 4, 96, 46, 45, 184, 0, 200]
abbrev dktL_law_27 : List UInt8 := dkwL_law_27 ++ dktL_law_28
def dkwL_law_26 : List UInt8 := [182, 0, 199, 54, 6, 44, 182, 0, 166, 21, 5, 159, 0, 5, 3, 172, 21, 5, 154, 0, 15, 45, 3, 47]
abbrev dktL_law_26 : List UInt8 := dkwL_law_26 ++ dktL_law_27
def dkwL_law_25 : List UInt8 := [5, 96, 46, 45, 184, 0, 197, 54, 5, 44, 42, 21, 4, 4, 96, 46, 42, 21, 4, 5, 96, 46]
abbrev dktL_law_25 : List UInt8 := dkwL_law_25 ++ dktL_law_26
def dkwL_law_24 : List UInt8 := [3, 47, 21, 6, 133, 148, 153, 0, 5, 3, 172, 167, 9, 70, 43, 42, 21, 4, 4, 96, 46, 42, 21, 4]
abbrev dktL_law_24 : List UInt8 := dkwL_law_24 ++ dktL_law_25
def dkwL_law_23 : List UInt8 := [96, 46, 182, 0, 196, 54, 6, 44, 182, 0, 166, 21, 5, 159, 0, 5, 3, 172, 21, 5, 154, 0, 15, 45]
abbrev dktL_law_23 : List UInt8 := dkwL_law_23 ++ dktL_law_24
def dkwL_law_22 : List UInt8 := [46, 42, 21, 4, 5, 96, 46, 45, 184, 0, 194, 54, 5, 44, 42, 21, 4, 4, 96, 46, 42, 21, 4, 5]
abbrev dktL_law_22 : List UInt8 := dkwL_law_22 ++ dktL_law_23
def dkwL_law_21 : List UInt8 := [154, 0, 15, 45, 3, 47, 21, 6, 133, 148, 153, 0, 5, 3, 172, 167, 9, 138, 43, 42, 21, 4, 4, 96]
abbrev dktL_law_21 : List UInt8 := dkwL_law_21 ++ dktL_law_22
def dkwL_law_20 : List UInt8 := [21, 4, 4, 96, 46, 182, 0, 193, 54, 6, 44, 182, 0, 166, 21, 5, 159, 0, 5, 3, 172, 21, 5]
abbrev dktL_law_20 : List UInt8 := dkwL_law_20 ++ dktL_law_21
def dkwL_law_19 : List UInt8 := [153, 0, 5, 3, 172, 167, 9, 194, 43, 42, 21, 4, 4, 96, 46, 45, 184, 0, 190, 54, 5, 44, 42]
abbrev dktL_law_19 : List UInt8 := dkwL_law_19 ++ dktL_law_20
def dkwL_law_18 : List UInt8 := [182, 0, 166, 21, 5, 159, 0, 5, 3, 172, 21, 5, 154, 0, 15, 45, 3, 47, 21, 6, 133, 148]
abbrev dktL_law_18 : List UInt8 := dkwL_law_18 ++ dktL_law_19
def dkwL_law_17 : List UInt8 := [153, 0, 5, 3, 172, 167, 9, 238, 43, 45, 184, 0, 187, 54, 5, 44, 182, 0, 189, 54, 6, 44]
abbrev dktL_law_17 : List UInt8 := dkwL_law_17 ++ dktL_law_18
def dkwL_law_16 : List UInt8 := [182, 0, 166, 21, 5, 159, 0, 5, 3, 172, 21, 5, 154, 0, 15, 45, 3, 47, 21, 6, 133, 148]
abbrev dktL_law_16 : List UInt8 := dkwL_law_16 ++ dktL_law_17
def dkwL_law_15 : List UInt8 := [153, 0, 5, 3, 172, 167, 10, 26, 43, 45, 184, 0, 184, 54, 5, 44, 182, 0, 186, 54, 6, 44]
abbrev dktL_law_15 : List UInt8 := dkwL_law_15 ++ dktL_law_16
def dkwL_law_14 : List UInt8 := [182, 0, 166, 21, 5, 159, 0, 5, 3, 172, 21, 5, 154, 0, 15, 45, 3, 47, 21, 6, 133, 148]
abbrev dktL_law_14 : List UInt8 := dkwL_law_14 ++ dktL_law_15
def dkwL_law_13 : List UInt8 := [184, 0, 181, 54, 5, 44, 42, 21, 4, 4, 96, 46, 42, 21, 4, 5, 96, 46, 182, 0, 183, 54, 6, 44]
abbrev dktL_law_13 : List UInt8 := dkwL_law_13 ++ dktL_law_14
def dkwL_law_12 : List UInt8 := [153, 0, 5, 3, 172, 167, 10, 94, 43, 42, 21, 4, 4, 96, 46, 42, 21, 4, 5, 96, 46, 45]
abbrev dktL_law_12 : List UInt8 := dkwL_law_12 ++ dktL_law_13
def dkwL_law_11 : List UInt8 := [182, 0, 166, 21, 5, 159, 0, 5, 3, 172, 21, 5, 154, 0, 15, 45, 3, 47, 21, 6, 133, 148]
abbrev dktL_law_11 : List UInt8 := dkwL_law_11 ++ dktL_law_12
def dkwL_law_10 : List UInt8 := [44, 182, 0, 176, 159, 10, 140, 3, 172, 43, 45, 184, 0, 177, 54, 5, 44, 182, 0, 180, 54, 6, 44]
abbrev dktL_law_10 : List UInt8 := dkwL_law_10 ++ dktL_law_11
def dkwL_law_9 : List UInt8 := [47, 21, 6, 153, 0, 7, 10, 167, 0, 4, 9, 148, 153, 0, 5, 3, 172, 167, 10, 151, 43, 182, 0, 173]
abbrev dktL_law_9 : List UInt8 := dkwL_law_9 ++ dktL_law_10
def dkwL_law_8 : List UInt8 := [46, 182, 0, 172, 54, 6, 44, 182, 0, 166, 21, 5, 159, 0, 5, 3, 172, 21, 5, 154, 0, 22, 45, 3]
abbrev dktL_law_8 : List UInt8 := dkwL_law_8 ++ dktL_law_9
def dkwL_law_7 : List UInt8 := [42, 21, 4, 5, 96, 46, 45, 184, 0, 169, 54, 5, 44, 42, 21, 4, 4, 96, 46, 42, 21, 4, 5, 96]
abbrev dktL_law_7 : List UInt8 := dkwL_law_7 ++ dktL_law_8
def dkwL_law_6 : List UInt8 := [153, 0, 7, 10, 167, 0, 4, 9, 148, 153, 0, 5, 3, 172, 167, 10, 226, 43, 42, 21, 4, 4, 96, 46]
abbrev dktL_law_6 : List UInt8 := dkwL_law_6 ++ dktL_law_7
def dkwL_law_5 : List UInt8 := [54, 6, 44, 182, 0, 166, 21, 5, 159, 0, 5, 3, 172, 21, 5, 154, 0, 22, 45, 3, 47, 21, 6]
abbrev dktL_law_5 : List UInt8 := dkwL_law_5 ++ dktL_law_6
def dkwL_law_4 : List UInt8 := [54, 5, 44, 42, 21, 4, 4, 96, 46, 42, 21, 4, 5, 96, 46, 42, 21, 4, 6, 96, 46, 182, 0, 165]
abbrev dktL_law_4 : List UInt8 := dkwL_law_4 ++ dktL_law_5
def dkwL_law_3 : List UInt8 := [43, 42, 21, 4, 4, 96, 46, 42, 21, 4, 5, 96, 46, 42, 21, 4, 6, 96, 46, 45, 184, 0, 160]
abbrev dktL_law_3 : List UInt8 := dkwL_law_3 ++ dktL_law_4
def dkwL_law_2 : List UInt8 := [170, 0, 0, 12, 51, 0, 0, 0, 0, 0, 0, 0, 59, 0, 0, 0, 253, 0, 0, 1, 84, 0, 0, 1, 159, 0, 0, 1, 172, 0, 0, 1, 216, 0, 0, 2, 28, 0, 0, 2, 72, 0, 0, 2, 116, 0, 0, 2, 172, 0, 0, 2, 240, 0, 0, 3, 52, 0, 0, 3, 115, 0, 0, 3, 171, 0, 0, 3, 227, 0, 0, 4, 51, 0, 0, 4, 119, 0, 0, 4, 211, 0, 0, 5, 30, 0, 0, 5, 98, 0, 0, 5, 166, 0, 0, 5, 179, 0, 0, 5, 192, 0, 0, 5, 205, 0, 0, 6, 36, 0, 0, 6, 49, 0, 0, 6, 62, 0, 0, 6, 118, 0, 0, 6, 174, 0, 0, 6, 254, 0, 0, 7, 42, 0, 0, 7, 105, 0, 0, 7, 168, 0, 0, 7, 224, 0, 0, 8, 31, 0, 0, 8, 99, 0, 0, 8, 112, 0, 0, 8, 168, 0, 0, 8, 224, 0, 0, 9, 43, 0, 0, 9, 87, 0, 0, 9, 100, 0, 0, 9, 144, 0, 0, 9, 200, 0, 0, 10, 0, 0, 0, 10, 56, 0, 0, 10, 69, 0, 0, 10, 82, 0, 0, 10, 123, 0, 0, 10, 136, 0, 0, 10, 191, 0, 0, 10, 204, 0, 0, 10, 217, 0, 0, 11, 5, 0, 0, 11, 18, 0, 0, 11, 62, 0, 0, 11, 118, 0, 0, 11, 131, 0, 0, 11, 175, 0, 0, 11, 219, 0, 0, 12, 7]
abbrev dktL_law_2 : List UInt8 := dkwL_law_2 ++ dktL_law_3
def dkwL_law_1 : List UInt8 := [21, 4, 42, 190, 8, 100, 163, 12, 67, 42, 21, 4, 46, 16, 63, 126]
abbrev dktL_law_1 : List UInt8 := dkwL_law_1 ++ dktL_law_2
def dkwL_law_0 : List UInt8 := [187, 0, 8, 89, 183, 0, 156, 76, 187, 0, 157, 89, 183, 0, 159, 77, 4, 188, 11, 78, 3, 54, 4]
abbrev dktL_law_0 : List UInt8 := dkwL_law_0 ++ dktL_law_1
theorem dksL_law_0 : cL_law.data.toList.drop 0 = dktL_law_0 := by decide +kernel
theorem dksL_law_1 : cL_law.data.toList.drop 23 = dktL_law_1 := dk_seg dksL_law_0 23 rfl rfl
theorem dksL_law_2 : cL_law.data.toList.drop 39 = dktL_law_2 := dk_seg dksL_law_1 16 rfl rfl
theorem dksL_law_3 : cL_law.data.toList.drop 292 = dktL_law_3 := dk_seg dksL_law_2 253 rfl rfl
theorem dksL_law_4 : cL_law.data.toList.drop 315 = dktL_law_4 := dk_seg dksL_law_3 23 rfl rfl
theorem dksL_law_5 : cL_law.data.toList.drop 339 = dktL_law_5 := dk_seg dksL_law_4 24 rfl rfl
theorem dksL_law_6 : cL_law.data.toList.drop 362 = dktL_law_6 := dk_seg dksL_law_5 23 rfl rfl
theorem dksL_law_7 : cL_law.data.toList.drop 386 = dktL_law_7 := dk_seg dksL_law_6 24 rfl rfl
theorem dksL_law_8 : cL_law.data.toList.drop 410 = dktL_law_8 := dk_seg dksL_law_7 24 rfl rfl
theorem dksL_law_9 : cL_law.data.toList.drop 434 = dktL_law_9 := dk_seg dksL_law_8 24 rfl rfl
theorem dksL_law_10 : cL_law.data.toList.drop 458 = dktL_law_10 := dk_seg dksL_law_9 24 rfl rfl
theorem dksL_law_11 : cL_law.data.toList.drop 481 = dktL_law_11 := dk_seg dksL_law_10 23 rfl rfl
theorem dksL_law_12 : cL_law.data.toList.drop 503 = dktL_law_12 := dk_seg dksL_law_11 22 rfl rfl
theorem dksL_law_13 : cL_law.data.toList.drop 525 = dktL_law_13 := dk_seg dksL_law_12 22 rfl rfl
theorem dksL_law_14 : cL_law.data.toList.drop 549 = dktL_law_14 := dk_seg dksL_law_13 24 rfl rfl
theorem dksL_law_15 : cL_law.data.toList.drop 571 = dktL_law_15 := dk_seg dksL_law_14 22 rfl rfl
theorem dksL_law_16 : cL_law.data.toList.drop 593 = dktL_law_16 := dk_seg dksL_law_15 22 rfl rfl
theorem dksL_law_17 : cL_law.data.toList.drop 615 = dktL_law_17 := dk_seg dksL_law_16 22 rfl rfl
theorem dksL_law_18 : cL_law.data.toList.drop 637 = dktL_law_18 := dk_seg dksL_law_17 22 rfl rfl
theorem dksL_law_19 : cL_law.data.toList.drop 659 = dktL_law_19 := dk_seg dksL_law_18 22 rfl rfl
theorem dksL_law_20 : cL_law.data.toList.drop 682 = dktL_law_20 := dk_seg dksL_law_19 23 rfl rfl
theorem dksL_law_21 : cL_law.data.toList.drop 705 = dktL_law_21 := dk_seg dksL_law_20 23 rfl rfl
theorem dksL_law_22 : cL_law.data.toList.drop 729 = dktL_law_22 := dk_seg dksL_law_21 24 rfl rfl
theorem dksL_law_23 : cL_law.data.toList.drop 753 = dktL_law_23 := dk_seg dksL_law_22 24 rfl rfl
theorem dksL_law_24 : cL_law.data.toList.drop 777 = dktL_law_24 := dk_seg dksL_law_23 24 rfl rfl
theorem dksL_law_25 : cL_law.data.toList.drop 801 = dktL_law_25 := dk_seg dksL_law_24 24 rfl rfl
theorem dksL_law_26 : cL_law.data.toList.drop 823 = dktL_law_26 := dk_seg dksL_law_25 22 rfl rfl
theorem dksL_law_27 : cL_law.data.toList.drop 847 = dktL_law_27 := dk_seg dksL_law_26 24 rfl rfl
theorem dksL_law_28 : cL_law.data.toList.drop 870 = dktL_law_28 := dk_seg dksL_law_27 23 rfl rfl
theorem dksL_law_29 : cL_law.data.toList.drop 894 = dktL_law_29 := dk_seg dksL_law_28 24 rfl rfl
theorem dksL_law_30 : cL_law.data.toList.drop 918 = dktL_law_30 := dk_seg dksL_law_29 24 rfl rfl
theorem dksL_law_31 : cL_law.data.toList.drop 942 = dktL_law_31 := dk_seg dksL_law_30 24 rfl rfl
theorem dksL_law_32 : cL_law.data.toList.drop 966 = dktL_law_32 := dk_seg dksL_law_31 24 rfl rfl
theorem dksL_law_33 : cL_law.data.toList.drop 989 = dktL_law_33 := dk_seg dksL_law_32 23 rfl rfl
theorem dksL_law_34 : cL_law.data.toList.drop 1013 = dktL_law_34 := dk_seg dksL_law_33 24 rfl rfl
theorem dksL_law_35 : cL_law.data.toList.drop 1036 = dktL_law_35 := dk_seg dksL_law_34 23 rfl rfl
theorem dksL_law_36 : cL_law.data.toList.drop 1060 = dktL_law_36 := dk_seg dksL_law_35 24 rfl rfl
theorem dksL_law_37 : cL_law.data.toList.drop 1084 = dktL_law_37 := dk_seg dksL_law_36 24 rfl rfl
theorem dksL_law_38 : cL_law.data.toList.drop 1106 = dktL_law_38 := dk_seg dksL_law_37 22 rfl rfl
theorem dksL_law_39 : cL_law.data.toList.drop 1128 = dktL_law_39 := dk_seg dksL_law_38 22 rfl rfl
theorem dksL_law_40 : cL_law.data.toList.drop 1152 = dktL_law_40 := dk_seg dksL_law_39 24 rfl rfl
theorem dksL_law_41 : cL_law.data.toList.drop 1174 = dktL_law_41 := dk_seg dksL_law_40 22 rfl rfl
theorem dksL_law_42 : cL_law.data.toList.drop 1198 = dktL_law_42 := dk_seg dksL_law_41 24 rfl rfl
theorem dksL_law_43 : cL_law.data.toList.drop 1221 = dktL_law_43 := dk_seg dksL_law_42 23 rfl rfl
theorem dksL_law_44 : cL_law.data.toList.drop 1244 = dktL_law_44 := dk_seg dksL_law_43 23 rfl rfl
theorem dksL_law_45 : cL_law.data.toList.drop 1266 = dktL_law_45 := dk_seg dksL_law_44 22 rfl rfl
theorem dksL_law_46 : cL_law.data.toList.drop 1288 = dktL_law_46 := dk_seg dksL_law_45 22 rfl rfl
theorem dksL_law_47 : cL_law.data.toList.drop 1312 = dktL_law_47 := dk_seg dksL_law_46 24 rfl rfl
theorem dksL_law_48 : cL_law.data.toList.drop 1336 = dktL_law_48 := dk_seg dksL_law_47 24 rfl rfl
theorem dksL_law_49 : cL_law.data.toList.drop 1360 = dktL_law_49 := dk_seg dksL_law_48 24 rfl rfl
theorem dksL_law_50 : cL_law.data.toList.drop 1384 = dktL_law_50 := dk_seg dksL_law_49 24 rfl rfl
theorem dksL_law_51 : cL_law.data.toList.drop 1408 = dktL_law_51 := dk_seg dksL_law_50 24 rfl rfl
theorem dksL_law_52 : cL_law.data.toList.drop 1431 = dktL_law_52 := dk_seg dksL_law_51 23 rfl rfl
theorem dksL_law_53 : cL_law.data.toList.drop 1455 = dktL_law_53 := dk_seg dksL_law_52 24 rfl rfl
theorem dksL_law_54 : cL_law.data.toList.drop 1477 = dktL_law_54 := dk_seg dksL_law_53 22 rfl rfl
theorem dksL_law_55 : cL_law.data.toList.drop 1499 = dktL_law_55 := dk_seg dksL_law_54 22 rfl rfl
theorem dksL_law_56 : cL_law.data.toList.drop 1523 = dktL_law_56 := dk_seg dksL_law_55 24 rfl rfl
theorem dksL_law_57 : cL_law.data.toList.drop 1547 = dktL_law_57 := dk_seg dksL_law_56 24 rfl rfl
theorem dksL_law_58 : cL_law.data.toList.drop 1571 = dktL_law_58 := dk_seg dksL_law_57 24 rfl rfl
theorem dksL_law_59 : cL_law.data.toList.drop 1594 = dktL_law_59 := dk_seg dksL_law_58 23 rfl rfl
theorem dksL_law_60 : cL_law.data.toList.drop 1616 = dktL_law_60 := dk_seg dksL_law_59 22 rfl rfl
theorem dksL_law_61 : cL_law.data.toList.drop 1639 = dktL_law_61 := dk_seg dksL_law_60 23 rfl rfl
theorem dksL_law_62 : cL_law.data.toList.drop 1663 = dktL_law_62 := dk_seg dksL_law_61 24 rfl rfl
theorem dksL_law_63 : cL_law.data.toList.drop 1685 = dktL_law_63 := dk_seg dksL_law_62 22 rfl rfl
theorem dksL_law_64 : cL_law.data.toList.drop 1708 = dktL_law_64 := dk_seg dksL_law_63 23 rfl rfl
theorem dksL_law_65 : cL_law.data.toList.drop 1731 = dktL_law_65 := dk_seg dksL_law_64 23 rfl rfl
theorem dksL_law_66 : cL_law.data.toList.drop 1755 = dktL_law_66 := dk_seg dksL_law_65 24 rfl rfl
theorem dksL_law_67 : cL_law.data.toList.drop 1779 = dktL_law_67 := dk_seg dksL_law_66 24 rfl rfl
theorem dksL_law_68 : cL_law.data.toList.drop 1802 = dktL_law_68 := dk_seg dksL_law_67 23 rfl rfl
theorem dksL_law_69 : cL_law.data.toList.drop 1826 = dktL_law_69 := dk_seg dksL_law_68 24 rfl rfl
theorem dksL_law_70 : cL_law.data.toList.drop 1848 = dktL_law_70 := dk_seg dksL_law_69 22 rfl rfl
theorem dksL_law_71 : cL_law.data.toList.drop 1870 = dktL_law_71 := dk_seg dksL_law_70 22 rfl rfl
theorem dksL_law_72 : cL_law.data.toList.drop 1893 = dktL_law_72 := dk_seg dksL_law_71 23 rfl rfl
theorem dksL_law_73 : cL_law.data.toList.drop 1917 = dktL_law_73 := dk_seg dksL_law_72 24 rfl rfl
theorem dksL_law_74 : cL_law.data.toList.drop 1941 = dktL_law_74 := dk_seg dksL_law_73 24 rfl rfl
theorem dksL_law_75 : cL_law.data.toList.drop 1965 = dktL_law_75 := dk_seg dksL_law_74 24 rfl rfl
theorem dksL_law_76 : cL_law.data.toList.drop 1989 = dktL_law_76 := dk_seg dksL_law_75 24 rfl rfl
theorem dksL_law_77 : cL_law.data.toList.drop 2013 = dktL_law_77 := dk_seg dksL_law_76 24 rfl rfl
theorem dksL_law_78 : cL_law.data.toList.drop 2037 = dktL_law_78 := dk_seg dksL_law_77 24 rfl rfl
theorem dksL_law_79 : cL_law.data.toList.drop 2061 = dktL_law_79 := dk_seg dksL_law_78 24 rfl rfl
theorem dksL_law_80 : cL_law.data.toList.drop 2084 = dktL_law_80 := dk_seg dksL_law_79 23 rfl rfl
theorem dksL_law_81 : cL_law.data.toList.drop 2108 = dktL_law_81 := dk_seg dksL_law_80 24 rfl rfl
theorem dksL_law_82 : cL_law.data.toList.drop 2132 = dktL_law_82 := dk_seg dksL_law_81 24 rfl rfl
theorem dksL_law_83 : cL_law.data.toList.drop 2156 = dktL_law_83 := dk_seg dksL_law_82 24 rfl rfl
theorem dksL_law_84 : cL_law.data.toList.drop 2178 = dktL_law_84 := dk_seg dksL_law_83 22 rfl rfl
theorem dksL_law_85 : cL_law.data.toList.drop 2201 = dktL_law_85 := dk_seg dksL_law_84 23 rfl rfl
theorem dksL_law_86 : cL_law.data.toList.drop 2225 = dktL_law_86 := dk_seg dksL_law_85 24 rfl rfl
theorem dksL_law_87 : cL_law.data.toList.drop 2247 = dktL_law_87 := dk_seg dksL_law_86 22 rfl rfl
theorem dksL_law_88 : cL_law.data.toList.drop 2270 = dktL_law_88 := dk_seg dksL_law_87 23 rfl rfl
theorem dksL_law_89 : cL_law.data.toList.drop 2293 = dktL_law_89 := dk_seg dksL_law_88 23 rfl rfl
theorem dksL_law_90 : cL_law.data.toList.drop 2317 = dktL_law_90 := dk_seg dksL_law_89 24 rfl rfl
theorem dksL_law_91 : cL_law.data.toList.drop 2341 = dktL_law_91 := dk_seg dksL_law_90 24 rfl rfl
theorem dksL_law_92 : cL_law.data.toList.drop 2365 = dktL_law_92 := dk_seg dksL_law_91 24 rfl rfl
theorem dksL_law_93 : cL_law.data.toList.drop 2388 = dktL_law_93 := dk_seg dksL_law_92 23 rfl rfl
theorem dksL_law_94 : cL_law.data.toList.drop 2412 = dktL_law_94 := dk_seg dksL_law_93 24 rfl rfl
theorem dksL_law_95 : cL_law.data.toList.drop 2435 = dktL_law_95 := dk_seg dksL_law_94 23 rfl rfl
theorem dksL_law_96 : cL_law.data.toList.drop 2457 = dktL_law_96 := dk_seg dksL_law_95 22 rfl rfl
theorem dksL_law_97 : cL_law.data.toList.drop 2479 = dktL_law_97 := dk_seg dksL_law_96 22 rfl rfl
theorem dksL_law_98 : cL_law.data.toList.drop 2502 = dktL_law_98 := dk_seg dksL_law_97 23 rfl rfl
theorem dksL_law_99 : cL_law.data.toList.drop 2525 = dktL_law_99 := dk_seg dksL_law_98 23 rfl rfl
theorem dksL_law_100 : cL_law.data.toList.drop 2549 = dktL_law_100 := dk_seg dksL_law_99 24 rfl rfl
theorem dksL_law_101 : cL_law.data.toList.drop 2572 = dktL_law_101 := dk_seg dksL_law_100 23 rfl rfl
theorem dksL_law_102 : cL_law.data.toList.drop 2596 = dktL_law_102 := dk_seg dksL_law_101 24 rfl rfl
theorem dksL_law_103 : cL_law.data.toList.drop 2619 = dktL_law_103 := dk_seg dksL_law_102 23 rfl rfl
theorem dksL_law_104 : cL_law.data.toList.drop 2643 = dktL_law_104 := dk_seg dksL_law_103 24 rfl rfl
theorem dksL_law_105 : cL_law.data.toList.drop 2667 = dktL_law_105 := dk_seg dksL_law_104 24 rfl rfl
theorem dksL_law_106 : cL_law.data.toList.drop 2691 = dktL_law_106 := dk_seg dksL_law_105 24 rfl rfl
theorem dksL_law_107 : cL_law.data.toList.drop 2714 = dktL_law_107 := dk_seg dksL_law_106 23 rfl rfl
theorem dksL_law_108 : cL_law.data.toList.drop 2737 = dktL_law_108 := dk_seg dksL_law_107 23 rfl rfl
theorem dksL_law_109 : cL_law.data.toList.drop 2761 = dktL_law_109 := dk_seg dksL_law_108 24 rfl rfl
theorem dksL_law_110 : cL_law.data.toList.drop 2785 = dktL_law_110 := dk_seg dksL_law_109 24 rfl rfl
theorem dksL_law_111 : cL_law.data.toList.drop 2808 = dktL_law_111 := dk_seg dksL_law_110 23 rfl rfl
theorem dksL_law_112 : cL_law.data.toList.drop 2830 = dktL_law_112 := dk_seg dksL_law_111 22 rfl rfl
theorem dksL_law_113 : cL_law.data.toList.drop 2852 = dktL_law_113 := dk_seg dksL_law_112 22 rfl rfl
theorem dksL_law_114 : cL_law.data.toList.drop 2875 = dktL_law_114 := dk_seg dksL_law_113 23 rfl rfl
theorem dksL_law_115 : cL_law.data.toList.drop 2899 = dktL_law_115 := dk_seg dksL_law_114 24 rfl rfl
theorem dksL_law_116 : cL_law.data.toList.drop 2923 = dktL_law_116 := dk_seg dksL_law_115 24 rfl rfl
theorem dksL_law_117 : cL_law.data.toList.drop 2946 = dktL_law_117 := dk_seg dksL_law_116 23 rfl rfl
theorem dksL_law_118 : cL_law.data.toList.drop 2970 = dktL_law_118 := dk_seg dksL_law_117 24 rfl rfl
theorem dksL_law_119 : cL_law.data.toList.drop 2994 = dktL_law_119 := dk_seg dksL_law_118 24 rfl rfl
theorem dksL_law_120 : cL_law.data.toList.drop 3018 = dktL_law_120 := dk_seg dksL_law_119 24 rfl rfl
theorem dksL_law_121 : cL_law.data.toList.drop 3041 = dktL_law_121 := dk_seg dksL_law_120 23 rfl rfl
theorem dksL_law_122 : cL_law.data.toList.drop 3065 = dktL_law_122 := dk_seg dksL_law_121 24 rfl rfl
theorem dksL_law_123 : cL_law.data.toList.drop 3088 = dktL_law_123 := dk_seg dksL_law_122 23 rfl rfl
theorem dksL_law_124 : cL_law.data.toList.drop 3110 = dktL_law_124 := dk_seg dksL_law_123 22 rfl rfl
theorem dksL_law_125 : cL_law.data.toList.drop 3132 = dktL_law_125 := dk_seg dksL_law_124 22 rfl rfl
theorem dksL_law_126 : cL_law.data.toList.drop 3154 = dktL_law_126 := dk_seg dksL_law_125 22 rfl rfl
theorem dL_law_0 : decode cL_law 0 = .ok (.new 8, 3) := dk_187 0 8 (dk_at dksL_law_0 0 rfl rfl)
theorem dL_law_3 : decode cL_law 3 = .ok (.dup, 1) := dk_89 (dk_at dksL_law_0 3 rfl rfl)
theorem dL_law_4 : decode cL_law 4 = .ok (.invokespecial 156, 3) := dk_183 0 156 (dk_at dksL_law_0 4 rfl rfl)
theorem dL_law_7 : decode cL_law 7 = .ok (.astore_n 1, 1) := dk_76 (dk_at dksL_law_0 7 rfl rfl)
theorem dL_law_8 : decode cL_law 8 = .ok (.new 157, 3) := dk_187 0 157 (dk_at dksL_law_0 8 rfl rfl)
theorem dL_law_11 : decode cL_law 11 = .ok (.dup, 1) := dk_89 (dk_at dksL_law_0 11 rfl rfl)
theorem dL_law_12 : decode cL_law 12 = .ok (.invokespecial 159, 3) := dk_183 0 159 (dk_at dksL_law_0 12 rfl rfl)
theorem dL_law_15 : decode cL_law 15 = .ok (.astore_n 2, 1) := dk_77 (dk_at dksL_law_0 15 rfl rfl)
theorem dL_law_16 : decode cL_law 16 = .ok (.iconst 1, 1) := dk_4 (dk_at dksL_law_0 16 rfl rfl)
theorem dL_law_17 : decode cL_law 17 = .ok (.newarray .long, 2) := dk_188_11 (dk_at dksL_law_0 17 rfl rfl)
theorem dL_law_19 : decode cL_law 19 = .ok (.astore_n 3, 1) := dk_78 (dk_at dksL_law_0 19 rfl rfl)
theorem dL_law_20 : decode cL_law 20 = .ok (.iconst 0, 1) := dk_3 (dk_at dksL_law_0 20 rfl rfl)
theorem dL_law_21 : decode cL_law 21 = .ok (.istore 4, 2) := dk_54 4 (dk_at dksL_law_0 21 rfl rfl)
theorem dL_law_23 : decode cL_law 23 = .ok (.iload 4, 2) := dk_21 4 (dk_at dksL_law_1 0 rfl rfl)
theorem dL_law_25 : decode cL_law 25 = .ok (.aload_n 0, 1) := dk_42 (dk_at dksL_law_1 2 rfl rfl)
theorem dL_law_26 : decode cL_law 26 = .ok (.arraylength, 1) := dk_190 (dk_at dksL_law_1 3 rfl rfl)
theorem dL_law_27 : decode cL_law 27 = .ok (.iconst 5, 1) := dk_8 (dk_at dksL_law_1 4 rfl rfl)
theorem dL_law_28 : decode cL_law 28 = .ok (.isub, 1) := dk_100 (dk_at dksL_law_1 5 rfl rfl)
theorem dL_law_29 : decode cL_law 29 = .ok (.if_icmp .gt 3139, 3) := dk_163 12 67 (dk_at dksL_law_1 6 rfl rfl)
theorem dL_law_32 : decode cL_law 32 = .ok (.aload_n 0, 1) := dk_42 (dk_at dksL_law_1 9 rfl rfl)
theorem dL_law_33 : decode cL_law 33 = .ok (.iload 4, 2) := dk_21 4 (dk_at dksL_law_1 10 rfl rfl)
theorem dL_law_35 : decode cL_law 35 = .ok (.iaload, 1) := dk_46 (dk_at dksL_law_1 12 rfl rfl)
theorem dL_law_36 : decode cL_law 36 = .ok (.bipush 63, 2) := dk_16 63 (dk_at dksL_law_1 13 rfl rfl)
theorem dL_law_38 : decode cL_law 38 = .ok (.iand, 1) := dk_126 (dk_at dksL_law_1 15 rfl rfl)
theorem dL_law_39 : decode cL_law 39 = .ok (.tableswitch 3123 0 59 #[253, 340, 415, 428, 472, 540, 584, 628, 684, 752, 820, 883, 939, 995, 1075, 1143, 1235, 1310, 1378, 1446, 1459, 1472, 1485, 1572, 1585, 1598, 1654, 1710, 1790, 1834, 1897, 1960, 2016, 2079, 2147, 2160, 2216, 2272, 2347, 2391, 2404, 2448, 2504, 2560, 2616, 2629, 2642, 2683, 2696, 2751, 2764, 2777, 2821, 2834, 2878, 2934, 2947, 2991, 3035, 3079], 253) := by decide +kernel
theorem dL_law_292 : decode cL_law 292 = .ok (.aload_n 1, 1) := dk_43 (dk_at dksL_law_3 0 rfl rfl)
theorem dL_law_293 : decode cL_law 293 = .ok (.aload_n 0, 1) := dk_42 (dk_at dksL_law_3 1 rfl rfl)
theorem dL_law_294 : decode cL_law 294 = .ok (.iload 4, 2) := dk_21 4 (dk_at dksL_law_3 2 rfl rfl)
theorem dL_law_296 : decode cL_law 296 = .ok (.iconst 1, 1) := dk_4 (dk_at dksL_law_3 4 rfl rfl)
theorem dL_law_297 : decode cL_law 297 = .ok (.iadd, 1) := dk_96 (dk_at dksL_law_3 5 rfl rfl)
theorem dL_law_298 : decode cL_law 298 = .ok (.iaload, 1) := dk_46 (dk_at dksL_law_3 6 rfl rfl)
theorem dL_law_299 : decode cL_law 299 = .ok (.aload_n 0, 1) := dk_42 (dk_at dksL_law_3 7 rfl rfl)
theorem dL_law_300 : decode cL_law 300 = .ok (.iload 4, 2) := dk_21 4 (dk_at dksL_law_3 8 rfl rfl)
theorem dL_law_302 : decode cL_law 302 = .ok (.iconst 2, 1) := dk_5 (dk_at dksL_law_3 10 rfl rfl)
theorem dL_law_303 : decode cL_law 303 = .ok (.iadd, 1) := dk_96 (dk_at dksL_law_3 11 rfl rfl)
theorem dL_law_304 : decode cL_law 304 = .ok (.iaload, 1) := dk_46 (dk_at dksL_law_3 12 rfl rfl)
theorem dL_law_305 : decode cL_law 305 = .ok (.aload_n 0, 1) := dk_42 (dk_at dksL_law_3 13 rfl rfl)
theorem dL_law_306 : decode cL_law 306 = .ok (.iload 4, 2) := dk_21 4 (dk_at dksL_law_3 14 rfl rfl)
theorem dL_law_308 : decode cL_law 308 = .ok (.iconst 3, 1) := dk_6 (dk_at dksL_law_3 16 rfl rfl)
theorem dL_law_309 : decode cL_law 309 = .ok (.iadd, 1) := dk_96 (dk_at dksL_law_3 17 rfl rfl)
theorem dL_law_310 : decode cL_law 310 = .ok (.iaload, 1) := dk_46 (dk_at dksL_law_3 18 rfl rfl)
theorem dL_law_311 : decode cL_law 311 = .ok (.aload_n 3, 1) := dk_45 (dk_at dksL_law_3 19 rfl rfl)
theorem dL_law_312 : decode cL_law 312 = .ok (.invokestatic 160, 3) := dk_184 0 160 (dk_at dksL_law_3 20 rfl rfl)
theorem dL_law_315 : decode cL_law 315 = .ok (.istore 5, 2) := dk_54 5 (dk_at dksL_law_4 0 rfl rfl)
theorem dL_law_317 : decode cL_law 317 = .ok (.aload_n 2, 1) := dk_44 (dk_at dksL_law_4 2 rfl rfl)
theorem dL_law_318 : decode cL_law 318 = .ok (.aload_n 0, 1) := dk_42 (dk_at dksL_law_4 3 rfl rfl)
theorem dL_law_319 : decode cL_law 319 = .ok (.iload 4, 2) := dk_21 4 (dk_at dksL_law_4 4 rfl rfl)
theorem dL_law_321 : decode cL_law 321 = .ok (.iconst 1, 1) := dk_4 (dk_at dksL_law_4 6 rfl rfl)
theorem dL_law_322 : decode cL_law 322 = .ok (.iadd, 1) := dk_96 (dk_at dksL_law_4 7 rfl rfl)
theorem dL_law_323 : decode cL_law 323 = .ok (.iaload, 1) := dk_46 (dk_at dksL_law_4 8 rfl rfl)
theorem dL_law_324 : decode cL_law 324 = .ok (.aload_n 0, 1) := dk_42 (dk_at dksL_law_4 9 rfl rfl)
theorem dL_law_325 : decode cL_law 325 = .ok (.iload 4, 2) := dk_21 4 (dk_at dksL_law_4 10 rfl rfl)
theorem dL_law_327 : decode cL_law 327 = .ok (.iconst 2, 1) := dk_5 (dk_at dksL_law_4 12 rfl rfl)
theorem dL_law_328 : decode cL_law 328 = .ok (.iadd, 1) := dk_96 (dk_at dksL_law_4 13 rfl rfl)
theorem dL_law_329 : decode cL_law 329 = .ok (.iaload, 1) := dk_46 (dk_at dksL_law_4 14 rfl rfl)
theorem dL_law_330 : decode cL_law 330 = .ok (.aload_n 0, 1) := dk_42 (dk_at dksL_law_4 15 rfl rfl)
theorem dL_law_331 : decode cL_law 331 = .ok (.iload 4, 2) := dk_21 4 (dk_at dksL_law_4 16 rfl rfl)
theorem dL_law_333 : decode cL_law 333 = .ok (.iconst 3, 1) := dk_6 (dk_at dksL_law_4 18 rfl rfl)
theorem dL_law_334 : decode cL_law 334 = .ok (.iadd, 1) := dk_96 (dk_at dksL_law_4 19 rfl rfl)
theorem dL_law_335 : decode cL_law 335 = .ok (.iaload, 1) := dk_46 (dk_at dksL_law_4 20 rfl rfl)
theorem dL_law_336 : decode cL_law 336 = .ok (.invokevirtual 165, 3) := dk_182 0 165 (dk_at dksL_law_4 21 rfl rfl)
theorem dL_law_339 : decode cL_law 339 = .ok (.istore 6, 2) := dk_54 6 (dk_at dksL_law_5 0 rfl rfl)
theorem dL_law_341 : decode cL_law 341 = .ok (.aload_n 2, 1) := dk_44 (dk_at dksL_law_5 2 rfl rfl)
theorem dL_law_342 : decode cL_law 342 = .ok (.invokevirtual 166, 3) := dk_182 0 166 (dk_at dksL_law_5 3 rfl rfl)
theorem dL_law_345 : decode cL_law 345 = .ok (.iload 5, 2) := dk_21 5 (dk_at dksL_law_5 6 rfl rfl)
theorem dL_law_347 : decode cL_law 347 = .ok (.if_icmp .eq 5, 3) := dk_159 0 5 (dk_at dksL_law_5 8 rfl rfl)
theorem dL_law_350 : decode cL_law 350 = .ok (.iconst 0, 1) := dk_3 (dk_at dksL_law_5 11 rfl rfl)
theorem dL_law_351 : decode cL_law 351 = .ok (.ireturn, 1) := dk_172 (dk_at dksL_law_5 12 rfl rfl)
theorem dL_law_352 : decode cL_law 352 = .ok (.iload 5, 2) := dk_21 5 (dk_at dksL_law_5 13 rfl rfl)
theorem dL_law_354 : decode cL_law 354 = .ok (.ifCond .ne 22, 3) := dk_154 0 22 (dk_at dksL_law_5 15 rfl rfl)
theorem dL_law_357 : decode cL_law 357 = .ok (.aload_n 3, 1) := dk_45 (dk_at dksL_law_5 18 rfl rfl)
theorem dL_law_358 : decode cL_law 358 = .ok (.iconst 0, 1) := dk_3 (dk_at dksL_law_5 19 rfl rfl)
theorem dL_law_359 : decode cL_law 359 = .ok (.laload, 1) := dk_47 (dk_at dksL_law_5 20 rfl rfl)
theorem dL_law_360 : decode cL_law 360 = .ok (.iload 6, 2) := dk_21 6 (dk_at dksL_law_5 21 rfl rfl)
theorem dL_law_362 : decode cL_law 362 = .ok (.ifCond .eq 7, 3) := dk_153 0 7 (dk_at dksL_law_6 0 rfl rfl)
theorem dL_law_365 : decode cL_law 365 = .ok (.lconst 1, 1) := dk_10 (dk_at dksL_law_6 3 rfl rfl)
theorem dL_law_366 : decode cL_law 366 = .ok (.goto 4, 3) := dk_167 0 4 (dk_at dksL_law_6 4 rfl rfl)
theorem dL_law_369 : decode cL_law 369 = .ok (.lconst 0, 1) := dk_9 (dk_at dksL_law_6 7 rfl rfl)
theorem dL_law_370 : decode cL_law 370 = .ok (.lcmp, 1) := dk_148 (dk_at dksL_law_6 8 rfl rfl)
theorem dL_law_371 : decode cL_law 371 = .ok (.ifCond .eq 5, 3) := dk_153 0 5 (dk_at dksL_law_6 9 rfl rfl)
theorem dL_law_374 : decode cL_law 374 = .ok (.iconst 0, 1) := dk_3 (dk_at dksL_law_6 12 rfl rfl)
theorem dL_law_375 : decode cL_law 375 = .ok (.ireturn, 1) := dk_172 (dk_at dksL_law_6 13 rfl rfl)
theorem dL_law_376 : decode cL_law 376 = .ok (.goto 2786, 3) := dk_167 10 226 (dk_at dksL_law_6 14 rfl rfl)
theorem dL_law_379 : decode cL_law 379 = .ok (.aload_n 1, 1) := dk_43 (dk_at dksL_law_6 17 rfl rfl)
theorem dL_law_380 : decode cL_law 380 = .ok (.aload_n 0, 1) := dk_42 (dk_at dksL_law_6 18 rfl rfl)
theorem dL_law_381 : decode cL_law 381 = .ok (.iload 4, 2) := dk_21 4 (dk_at dksL_law_6 19 rfl rfl)
theorem dL_law_383 : decode cL_law 383 = .ok (.iconst 1, 1) := dk_4 (dk_at dksL_law_6 21 rfl rfl)
theorem dL_law_384 : decode cL_law 384 = .ok (.iadd, 1) := dk_96 (dk_at dksL_law_6 22 rfl rfl)
theorem dL_law_385 : decode cL_law 385 = .ok (.iaload, 1) := dk_46 (dk_at dksL_law_6 23 rfl rfl)
theorem dL_law_386 : decode cL_law 386 = .ok (.aload_n 0, 1) := dk_42 (dk_at dksL_law_7 0 rfl rfl)
theorem dL_law_387 : decode cL_law 387 = .ok (.iload 4, 2) := dk_21 4 (dk_at dksL_law_7 1 rfl rfl)
theorem dL_law_389 : decode cL_law 389 = .ok (.iconst 2, 1) := dk_5 (dk_at dksL_law_7 3 rfl rfl)
theorem dL_law_390 : decode cL_law 390 = .ok (.iadd, 1) := dk_96 (dk_at dksL_law_7 4 rfl rfl)
theorem dL_law_391 : decode cL_law 391 = .ok (.iaload, 1) := dk_46 (dk_at dksL_law_7 5 rfl rfl)
theorem dL_law_392 : decode cL_law 392 = .ok (.aload_n 3, 1) := dk_45 (dk_at dksL_law_7 6 rfl rfl)
theorem dL_law_393 : decode cL_law 393 = .ok (.invokestatic 169, 3) := dk_184 0 169 (dk_at dksL_law_7 7 rfl rfl)
theorem dL_law_396 : decode cL_law 396 = .ok (.istore 5, 2) := dk_54 5 (dk_at dksL_law_7 10 rfl rfl)
theorem dL_law_398 : decode cL_law 398 = .ok (.aload_n 2, 1) := dk_44 (dk_at dksL_law_7 12 rfl rfl)
theorem dL_law_399 : decode cL_law 399 = .ok (.aload_n 0, 1) := dk_42 (dk_at dksL_law_7 13 rfl rfl)
theorem dL_law_400 : decode cL_law 400 = .ok (.iload 4, 2) := dk_21 4 (dk_at dksL_law_7 14 rfl rfl)
theorem dL_law_402 : decode cL_law 402 = .ok (.iconst 1, 1) := dk_4 (dk_at dksL_law_7 16 rfl rfl)
theorem dL_law_403 : decode cL_law 403 = .ok (.iadd, 1) := dk_96 (dk_at dksL_law_7 17 rfl rfl)
theorem dL_law_404 : decode cL_law 404 = .ok (.iaload, 1) := dk_46 (dk_at dksL_law_7 18 rfl rfl)
theorem dL_law_405 : decode cL_law 405 = .ok (.aload_n 0, 1) := dk_42 (dk_at dksL_law_7 19 rfl rfl)
theorem dL_law_406 : decode cL_law 406 = .ok (.iload 4, 2) := dk_21 4 (dk_at dksL_law_7 20 rfl rfl)
theorem dL_law_408 : decode cL_law 408 = .ok (.iconst 2, 1) := dk_5 (dk_at dksL_law_7 22 rfl rfl)
theorem dL_law_409 : decode cL_law 409 = .ok (.iadd, 1) := dk_96 (dk_at dksL_law_7 23 rfl rfl)
theorem dL_law_410 : decode cL_law 410 = .ok (.iaload, 1) := dk_46 (dk_at dksL_law_8 0 rfl rfl)
theorem dL_law_411 : decode cL_law 411 = .ok (.invokevirtual 172, 3) := dk_182 0 172 (dk_at dksL_law_8 1 rfl rfl)
theorem dL_law_414 : decode cL_law 414 = .ok (.istore 6, 2) := dk_54 6 (dk_at dksL_law_8 4 rfl rfl)
theorem dL_law_416 : decode cL_law 416 = .ok (.aload_n 2, 1) := dk_44 (dk_at dksL_law_8 6 rfl rfl)
theorem dL_law_417 : decode cL_law 417 = .ok (.invokevirtual 166, 3) := dk_182 0 166 (dk_at dksL_law_8 7 rfl rfl)
theorem dL_law_420 : decode cL_law 420 = .ok (.iload 5, 2) := dk_21 5 (dk_at dksL_law_8 10 rfl rfl)
theorem dL_law_422 : decode cL_law 422 = .ok (.if_icmp .eq 5, 3) := dk_159 0 5 (dk_at dksL_law_8 12 rfl rfl)
theorem dL_law_425 : decode cL_law 425 = .ok (.iconst 0, 1) := dk_3 (dk_at dksL_law_8 15 rfl rfl)
theorem dL_law_426 : decode cL_law 426 = .ok (.ireturn, 1) := dk_172 (dk_at dksL_law_8 16 rfl rfl)
theorem dL_law_427 : decode cL_law 427 = .ok (.iload 5, 2) := dk_21 5 (dk_at dksL_law_8 17 rfl rfl)
theorem dL_law_429 : decode cL_law 429 = .ok (.ifCond .ne 22, 3) := dk_154 0 22 (dk_at dksL_law_8 19 rfl rfl)
theorem dL_law_432 : decode cL_law 432 = .ok (.aload_n 3, 1) := dk_45 (dk_at dksL_law_8 22 rfl rfl)
theorem dL_law_433 : decode cL_law 433 = .ok (.iconst 0, 1) := dk_3 (dk_at dksL_law_8 23 rfl rfl)
theorem dL_law_434 : decode cL_law 434 = .ok (.laload, 1) := dk_47 (dk_at dksL_law_9 0 rfl rfl)
theorem dL_law_435 : decode cL_law 435 = .ok (.iload 6, 2) := dk_21 6 (dk_at dksL_law_9 1 rfl rfl)
theorem dL_law_437 : decode cL_law 437 = .ok (.ifCond .eq 7, 3) := dk_153 0 7 (dk_at dksL_law_9 3 rfl rfl)
theorem dL_law_440 : decode cL_law 440 = .ok (.lconst 1, 1) := dk_10 (dk_at dksL_law_9 6 rfl rfl)
theorem dL_law_441 : decode cL_law 441 = .ok (.goto 4, 3) := dk_167 0 4 (dk_at dksL_law_9 7 rfl rfl)
theorem dL_law_444 : decode cL_law 444 = .ok (.lconst 0, 1) := dk_9 (dk_at dksL_law_9 10 rfl rfl)
theorem dL_law_445 : decode cL_law 445 = .ok (.lcmp, 1) := dk_148 (dk_at dksL_law_9 11 rfl rfl)
theorem dL_law_446 : decode cL_law 446 = .ok (.ifCond .eq 5, 3) := dk_153 0 5 (dk_at dksL_law_9 12 rfl rfl)
theorem dL_law_449 : decode cL_law 449 = .ok (.iconst 0, 1) := dk_3 (dk_at dksL_law_9 15 rfl rfl)
theorem dL_law_450 : decode cL_law 450 = .ok (.ireturn, 1) := dk_172 (dk_at dksL_law_9 16 rfl rfl)
theorem dL_law_451 : decode cL_law 451 = .ok (.goto 2711, 3) := dk_167 10 151 (dk_at dksL_law_9 17 rfl rfl)
theorem dL_law_454 : decode cL_law 454 = .ok (.aload_n 1, 1) := dk_43 (dk_at dksL_law_9 20 rfl rfl)
theorem dL_law_455 : decode cL_law 455 = .ok (.invokevirtual 173, 3) := dk_182 0 173 (dk_at dksL_law_9 21 rfl rfl)
theorem dL_law_458 : decode cL_law 458 = .ok (.aload_n 2, 1) := dk_44 (dk_at dksL_law_10 0 rfl rfl)
theorem dL_law_459 : decode cL_law 459 = .ok (.invokevirtual 176, 3) := dk_182 0 176 (dk_at dksL_law_10 1 rfl rfl)
theorem dL_law_462 : decode cL_law 462 = .ok (.if_icmp .eq 2700, 3) := dk_159 10 140 (dk_at dksL_law_10 4 rfl rfl)
theorem dL_law_465 : decode cL_law 465 = .ok (.iconst 0, 1) := dk_3 (dk_at dksL_law_10 7 rfl rfl)
theorem dL_law_466 : decode cL_law 466 = .ok (.ireturn, 1) := dk_172 (dk_at dksL_law_10 8 rfl rfl)
theorem dL_law_467 : decode cL_law 467 = .ok (.aload_n 1, 1) := dk_43 (dk_at dksL_law_10 9 rfl rfl)
theorem dL_law_468 : decode cL_law 468 = .ok (.aload_n 3, 1) := dk_45 (dk_at dksL_law_10 10 rfl rfl)
theorem dL_law_469 : decode cL_law 469 = .ok (.invokestatic 177, 3) := dk_184 0 177 (dk_at dksL_law_10 11 rfl rfl)
theorem dL_law_472 : decode cL_law 472 = .ok (.istore 5, 2) := dk_54 5 (dk_at dksL_law_10 14 rfl rfl)
theorem dL_law_474 : decode cL_law 474 = .ok (.aload_n 2, 1) := dk_44 (dk_at dksL_law_10 16 rfl rfl)
theorem dL_law_475 : decode cL_law 475 = .ok (.invokevirtual 180, 3) := dk_182 0 180 (dk_at dksL_law_10 17 rfl rfl)
theorem dL_law_478 : decode cL_law 478 = .ok (.istore 6, 2) := dk_54 6 (dk_at dksL_law_10 20 rfl rfl)
theorem dL_law_480 : decode cL_law 480 = .ok (.aload_n 2, 1) := dk_44 (dk_at dksL_law_10 22 rfl rfl)
theorem dL_law_481 : decode cL_law 481 = .ok (.invokevirtual 166, 3) := dk_182 0 166 (dk_at dksL_law_11 0 rfl rfl)
theorem dL_law_484 : decode cL_law 484 = .ok (.iload 5, 2) := dk_21 5 (dk_at dksL_law_11 3 rfl rfl)
theorem dL_law_486 : decode cL_law 486 = .ok (.if_icmp .eq 5, 3) := dk_159 0 5 (dk_at dksL_law_11 5 rfl rfl)
theorem dL_law_489 : decode cL_law 489 = .ok (.iconst 0, 1) := dk_3 (dk_at dksL_law_11 8 rfl rfl)
theorem dL_law_490 : decode cL_law 490 = .ok (.ireturn, 1) := dk_172 (dk_at dksL_law_11 9 rfl rfl)
theorem dL_law_491 : decode cL_law 491 = .ok (.iload 5, 2) := dk_21 5 (dk_at dksL_law_11 10 rfl rfl)
theorem dL_law_493 : decode cL_law 493 = .ok (.ifCond .ne 15, 3) := dk_154 0 15 (dk_at dksL_law_11 12 rfl rfl)
theorem dL_law_496 : decode cL_law 496 = .ok (.aload_n 3, 1) := dk_45 (dk_at dksL_law_11 15 rfl rfl)
theorem dL_law_497 : decode cL_law 497 = .ok (.iconst 0, 1) := dk_3 (dk_at dksL_law_11 16 rfl rfl)
theorem dL_law_498 : decode cL_law 498 = .ok (.laload, 1) := dk_47 (dk_at dksL_law_11 17 rfl rfl)
theorem dL_law_499 : decode cL_law 499 = .ok (.iload 6, 2) := dk_21 6 (dk_at dksL_law_11 18 rfl rfl)
theorem dL_law_501 : decode cL_law 501 = .ok (.i2l, 1) := dk_133 (dk_at dksL_law_11 20 rfl rfl)
theorem dL_law_502 : decode cL_law 502 = .ok (.lcmp, 1) := dk_148 (dk_at dksL_law_11 21 rfl rfl)
theorem dL_law_503 : decode cL_law 503 = .ok (.ifCond .eq 5, 3) := dk_153 0 5 (dk_at dksL_law_12 0 rfl rfl)
theorem dL_law_506 : decode cL_law 506 = .ok (.iconst 0, 1) := dk_3 (dk_at dksL_law_12 3 rfl rfl)
theorem dL_law_507 : decode cL_law 507 = .ok (.ireturn, 1) := dk_172 (dk_at dksL_law_12 4 rfl rfl)
theorem dL_law_508 : decode cL_law 508 = .ok (.goto 2654, 3) := dk_167 10 94 (dk_at dksL_law_12 5 rfl rfl)
theorem dL_law_511 : decode cL_law 511 = .ok (.aload_n 1, 1) := dk_43 (dk_at dksL_law_12 8 rfl rfl)
theorem dL_law_512 : decode cL_law 512 = .ok (.aload_n 0, 1) := dk_42 (dk_at dksL_law_12 9 rfl rfl)
theorem dL_law_513 : decode cL_law 513 = .ok (.iload 4, 2) := dk_21 4 (dk_at dksL_law_12 10 rfl rfl)
theorem dL_law_515 : decode cL_law 515 = .ok (.iconst 1, 1) := dk_4 (dk_at dksL_law_12 12 rfl rfl)
theorem dL_law_516 : decode cL_law 516 = .ok (.iadd, 1) := dk_96 (dk_at dksL_law_12 13 rfl rfl)
theorem dL_law_517 : decode cL_law 517 = .ok (.iaload, 1) := dk_46 (dk_at dksL_law_12 14 rfl rfl)
theorem dL_law_518 : decode cL_law 518 = .ok (.aload_n 0, 1) := dk_42 (dk_at dksL_law_12 15 rfl rfl)
theorem dL_law_519 : decode cL_law 519 = .ok (.iload 4, 2) := dk_21 4 (dk_at dksL_law_12 16 rfl rfl)
theorem dL_law_521 : decode cL_law 521 = .ok (.iconst 2, 1) := dk_5 (dk_at dksL_law_12 18 rfl rfl)
theorem dL_law_522 : decode cL_law 522 = .ok (.iadd, 1) := dk_96 (dk_at dksL_law_12 19 rfl rfl)
theorem dL_law_523 : decode cL_law 523 = .ok (.iaload, 1) := dk_46 (dk_at dksL_law_12 20 rfl rfl)
theorem dL_law_524 : decode cL_law 524 = .ok (.aload_n 3, 1) := dk_45 (dk_at dksL_law_12 21 rfl rfl)
theorem dL_law_525 : decode cL_law 525 = .ok (.invokestatic 181, 3) := dk_184 0 181 (dk_at dksL_law_13 0 rfl rfl)
theorem dL_law_528 : decode cL_law 528 = .ok (.istore 5, 2) := dk_54 5 (dk_at dksL_law_13 3 rfl rfl)
theorem dL_law_530 : decode cL_law 530 = .ok (.aload_n 2, 1) := dk_44 (dk_at dksL_law_13 5 rfl rfl)
theorem dL_law_531 : decode cL_law 531 = .ok (.aload_n 0, 1) := dk_42 (dk_at dksL_law_13 6 rfl rfl)
theorem dL_law_532 : decode cL_law 532 = .ok (.iload 4, 2) := dk_21 4 (dk_at dksL_law_13 7 rfl rfl)
theorem dL_law_534 : decode cL_law 534 = .ok (.iconst 1, 1) := dk_4 (dk_at dksL_law_13 9 rfl rfl)
theorem dL_law_535 : decode cL_law 535 = .ok (.iadd, 1) := dk_96 (dk_at dksL_law_13 10 rfl rfl)
theorem dL_law_536 : decode cL_law 536 = .ok (.iaload, 1) := dk_46 (dk_at dksL_law_13 11 rfl rfl)
theorem dL_law_537 : decode cL_law 537 = .ok (.aload_n 0, 1) := dk_42 (dk_at dksL_law_13 12 rfl rfl)
theorem dL_law_538 : decode cL_law 538 = .ok (.iload 4, 2) := dk_21 4 (dk_at dksL_law_13 13 rfl rfl)
theorem dL_law_540 : decode cL_law 540 = .ok (.iconst 2, 1) := dk_5 (dk_at dksL_law_13 15 rfl rfl)
theorem dL_law_541 : decode cL_law 541 = .ok (.iadd, 1) := dk_96 (dk_at dksL_law_13 16 rfl rfl)
theorem dL_law_542 : decode cL_law 542 = .ok (.iaload, 1) := dk_46 (dk_at dksL_law_13 17 rfl rfl)
theorem dL_law_543 : decode cL_law 543 = .ok (.invokevirtual 183, 3) := dk_182 0 183 (dk_at dksL_law_13 18 rfl rfl)
theorem dL_law_546 : decode cL_law 546 = .ok (.istore 6, 2) := dk_54 6 (dk_at dksL_law_13 21 rfl rfl)
theorem dL_law_548 : decode cL_law 548 = .ok (.aload_n 2, 1) := dk_44 (dk_at dksL_law_13 23 rfl rfl)
theorem dL_law_549 : decode cL_law 549 = .ok (.invokevirtual 166, 3) := dk_182 0 166 (dk_at dksL_law_14 0 rfl rfl)
theorem dL_law_552 : decode cL_law 552 = .ok (.iload 5, 2) := dk_21 5 (dk_at dksL_law_14 3 rfl rfl)
theorem dL_law_554 : decode cL_law 554 = .ok (.if_icmp .eq 5, 3) := dk_159 0 5 (dk_at dksL_law_14 5 rfl rfl)
theorem dL_law_557 : decode cL_law 557 = .ok (.iconst 0, 1) := dk_3 (dk_at dksL_law_14 8 rfl rfl)
theorem dL_law_558 : decode cL_law 558 = .ok (.ireturn, 1) := dk_172 (dk_at dksL_law_14 9 rfl rfl)
theorem dL_law_559 : decode cL_law 559 = .ok (.iload 5, 2) := dk_21 5 (dk_at dksL_law_14 10 rfl rfl)
theorem dL_law_561 : decode cL_law 561 = .ok (.ifCond .ne 15, 3) := dk_154 0 15 (dk_at dksL_law_14 12 rfl rfl)
theorem dL_law_564 : decode cL_law 564 = .ok (.aload_n 3, 1) := dk_45 (dk_at dksL_law_14 15 rfl rfl)
theorem dL_law_565 : decode cL_law 565 = .ok (.iconst 0, 1) := dk_3 (dk_at dksL_law_14 16 rfl rfl)
theorem dL_law_566 : decode cL_law 566 = .ok (.laload, 1) := dk_47 (dk_at dksL_law_14 17 rfl rfl)
theorem dL_law_567 : decode cL_law 567 = .ok (.iload 6, 2) := dk_21 6 (dk_at dksL_law_14 18 rfl rfl)
theorem dL_law_569 : decode cL_law 569 = .ok (.i2l, 1) := dk_133 (dk_at dksL_law_14 20 rfl rfl)
theorem dL_law_570 : decode cL_law 570 = .ok (.lcmp, 1) := dk_148 (dk_at dksL_law_14 21 rfl rfl)
theorem dL_law_571 : decode cL_law 571 = .ok (.ifCond .eq 5, 3) := dk_153 0 5 (dk_at dksL_law_15 0 rfl rfl)
theorem dL_law_574 : decode cL_law 574 = .ok (.iconst 0, 1) := dk_3 (dk_at dksL_law_15 3 rfl rfl)
theorem dL_law_575 : decode cL_law 575 = .ok (.ireturn, 1) := dk_172 (dk_at dksL_law_15 4 rfl rfl)
theorem dL_law_576 : decode cL_law 576 = .ok (.goto 2586, 3) := dk_167 10 26 (dk_at dksL_law_15 5 rfl rfl)
theorem dL_law_579 : decode cL_law 579 = .ok (.aload_n 1, 1) := dk_43 (dk_at dksL_law_15 8 rfl rfl)
theorem dL_law_580 : decode cL_law 580 = .ok (.aload_n 3, 1) := dk_45 (dk_at dksL_law_15 9 rfl rfl)
theorem dL_law_581 : decode cL_law 581 = .ok (.invokestatic 184, 3) := dk_184 0 184 (dk_at dksL_law_15 10 rfl rfl)
theorem dL_law_584 : decode cL_law 584 = .ok (.istore 5, 2) := dk_54 5 (dk_at dksL_law_15 13 rfl rfl)
theorem dL_law_586 : decode cL_law 586 = .ok (.aload_n 2, 1) := dk_44 (dk_at dksL_law_15 15 rfl rfl)
theorem dL_law_587 : decode cL_law 587 = .ok (.invokevirtual 186, 3) := dk_182 0 186 (dk_at dksL_law_15 16 rfl rfl)
theorem dL_law_590 : decode cL_law 590 = .ok (.istore 6, 2) := dk_54 6 (dk_at dksL_law_15 19 rfl rfl)
theorem dL_law_592 : decode cL_law 592 = .ok (.aload_n 2, 1) := dk_44 (dk_at dksL_law_15 21 rfl rfl)
theorem dL_law_593 : decode cL_law 593 = .ok (.invokevirtual 166, 3) := dk_182 0 166 (dk_at dksL_law_16 0 rfl rfl)
theorem dL_law_596 : decode cL_law 596 = .ok (.iload 5, 2) := dk_21 5 (dk_at dksL_law_16 3 rfl rfl)
theorem dL_law_598 : decode cL_law 598 = .ok (.if_icmp .eq 5, 3) := dk_159 0 5 (dk_at dksL_law_16 5 rfl rfl)
theorem dL_law_601 : decode cL_law 601 = .ok (.iconst 0, 1) := dk_3 (dk_at dksL_law_16 8 rfl rfl)
theorem dL_law_602 : decode cL_law 602 = .ok (.ireturn, 1) := dk_172 (dk_at dksL_law_16 9 rfl rfl)
theorem dL_law_603 : decode cL_law 603 = .ok (.iload 5, 2) := dk_21 5 (dk_at dksL_law_16 10 rfl rfl)
theorem dL_law_605 : decode cL_law 605 = .ok (.ifCond .ne 15, 3) := dk_154 0 15 (dk_at dksL_law_16 12 rfl rfl)
theorem dL_law_608 : decode cL_law 608 = .ok (.aload_n 3, 1) := dk_45 (dk_at dksL_law_16 15 rfl rfl)
theorem dL_law_609 : decode cL_law 609 = .ok (.iconst 0, 1) := dk_3 (dk_at dksL_law_16 16 rfl rfl)
theorem dL_law_610 : decode cL_law 610 = .ok (.laload, 1) := dk_47 (dk_at dksL_law_16 17 rfl rfl)
theorem dL_law_611 : decode cL_law 611 = .ok (.iload 6, 2) := dk_21 6 (dk_at dksL_law_16 18 rfl rfl)
theorem dL_law_613 : decode cL_law 613 = .ok (.i2l, 1) := dk_133 (dk_at dksL_law_16 20 rfl rfl)
theorem dL_law_614 : decode cL_law 614 = .ok (.lcmp, 1) := dk_148 (dk_at dksL_law_16 21 rfl rfl)
theorem dL_law_615 : decode cL_law 615 = .ok (.ifCond .eq 5, 3) := dk_153 0 5 (dk_at dksL_law_17 0 rfl rfl)
theorem dL_law_618 : decode cL_law 618 = .ok (.iconst 0, 1) := dk_3 (dk_at dksL_law_17 3 rfl rfl)
theorem dL_law_619 : decode cL_law 619 = .ok (.ireturn, 1) := dk_172 (dk_at dksL_law_17 4 rfl rfl)
theorem dL_law_620 : decode cL_law 620 = .ok (.goto 2542, 3) := dk_167 9 238 (dk_at dksL_law_17 5 rfl rfl)
theorem dL_law_623 : decode cL_law 623 = .ok (.aload_n 1, 1) := dk_43 (dk_at dksL_law_17 8 rfl rfl)
theorem dL_law_624 : decode cL_law 624 = .ok (.aload_n 3, 1) := dk_45 (dk_at dksL_law_17 9 rfl rfl)
theorem dL_law_625 : decode cL_law 625 = .ok (.invokestatic 187, 3) := dk_184 0 187 (dk_at dksL_law_17 10 rfl rfl)
theorem dL_law_628 : decode cL_law 628 = .ok (.istore 5, 2) := dk_54 5 (dk_at dksL_law_17 13 rfl rfl)
theorem dL_law_630 : decode cL_law 630 = .ok (.aload_n 2, 1) := dk_44 (dk_at dksL_law_17 15 rfl rfl)
theorem dL_law_631 : decode cL_law 631 = .ok (.invokevirtual 189, 3) := dk_182 0 189 (dk_at dksL_law_17 16 rfl rfl)
theorem dL_law_634 : decode cL_law 634 = .ok (.istore 6, 2) := dk_54 6 (dk_at dksL_law_17 19 rfl rfl)
theorem dL_law_636 : decode cL_law 636 = .ok (.aload_n 2, 1) := dk_44 (dk_at dksL_law_17 21 rfl rfl)
theorem dL_law_637 : decode cL_law 637 = .ok (.invokevirtual 166, 3) := dk_182 0 166 (dk_at dksL_law_18 0 rfl rfl)
theorem dL_law_640 : decode cL_law 640 = .ok (.iload 5, 2) := dk_21 5 (dk_at dksL_law_18 3 rfl rfl)
theorem dL_law_642 : decode cL_law 642 = .ok (.if_icmp .eq 5, 3) := dk_159 0 5 (dk_at dksL_law_18 5 rfl rfl)
theorem dL_law_645 : decode cL_law 645 = .ok (.iconst 0, 1) := dk_3 (dk_at dksL_law_18 8 rfl rfl)
theorem dL_law_646 : decode cL_law 646 = .ok (.ireturn, 1) := dk_172 (dk_at dksL_law_18 9 rfl rfl)
theorem dL_law_647 : decode cL_law 647 = .ok (.iload 5, 2) := dk_21 5 (dk_at dksL_law_18 10 rfl rfl)
theorem dL_law_649 : decode cL_law 649 = .ok (.ifCond .ne 15, 3) := dk_154 0 15 (dk_at dksL_law_18 12 rfl rfl)
theorem dL_law_652 : decode cL_law 652 = .ok (.aload_n 3, 1) := dk_45 (dk_at dksL_law_18 15 rfl rfl)
theorem dL_law_653 : decode cL_law 653 = .ok (.iconst 0, 1) := dk_3 (dk_at dksL_law_18 16 rfl rfl)
theorem dL_law_654 : decode cL_law 654 = .ok (.laload, 1) := dk_47 (dk_at dksL_law_18 17 rfl rfl)
theorem dL_law_655 : decode cL_law 655 = .ok (.iload 6, 2) := dk_21 6 (dk_at dksL_law_18 18 rfl rfl)
theorem dL_law_657 : decode cL_law 657 = .ok (.i2l, 1) := dk_133 (dk_at dksL_law_18 20 rfl rfl)
theorem dL_law_658 : decode cL_law 658 = .ok (.lcmp, 1) := dk_148 (dk_at dksL_law_18 21 rfl rfl)
theorem dL_law_659 : decode cL_law 659 = .ok (.ifCond .eq 5, 3) := dk_153 0 5 (dk_at dksL_law_19 0 rfl rfl)
theorem dL_law_662 : decode cL_law 662 = .ok (.iconst 0, 1) := dk_3 (dk_at dksL_law_19 3 rfl rfl)
theorem dL_law_663 : decode cL_law 663 = .ok (.ireturn, 1) := dk_172 (dk_at dksL_law_19 4 rfl rfl)
theorem dL_law_664 : decode cL_law 664 = .ok (.goto 2498, 3) := dk_167 9 194 (dk_at dksL_law_19 5 rfl rfl)
theorem dL_law_667 : decode cL_law 667 = .ok (.aload_n 1, 1) := dk_43 (dk_at dksL_law_19 8 rfl rfl)
theorem dL_law_668 : decode cL_law 668 = .ok (.aload_n 0, 1) := dk_42 (dk_at dksL_law_19 9 rfl rfl)
theorem dL_law_669 : decode cL_law 669 = .ok (.iload 4, 2) := dk_21 4 (dk_at dksL_law_19 10 rfl rfl)
theorem dL_law_671 : decode cL_law 671 = .ok (.iconst 1, 1) := dk_4 (dk_at dksL_law_19 12 rfl rfl)
theorem dL_law_672 : decode cL_law 672 = .ok (.iadd, 1) := dk_96 (dk_at dksL_law_19 13 rfl rfl)
theorem dL_law_673 : decode cL_law 673 = .ok (.iaload, 1) := dk_46 (dk_at dksL_law_19 14 rfl rfl)
theorem dL_law_674 : decode cL_law 674 = .ok (.aload_n 3, 1) := dk_45 (dk_at dksL_law_19 15 rfl rfl)
theorem dL_law_675 : decode cL_law 675 = .ok (.invokestatic 190, 3) := dk_184 0 190 (dk_at dksL_law_19 16 rfl rfl)
theorem dL_law_678 : decode cL_law 678 = .ok (.istore 5, 2) := dk_54 5 (dk_at dksL_law_19 19 rfl rfl)
theorem dL_law_680 : decode cL_law 680 = .ok (.aload_n 2, 1) := dk_44 (dk_at dksL_law_19 21 rfl rfl)
theorem dL_law_681 : decode cL_law 681 = .ok (.aload_n 0, 1) := dk_42 (dk_at dksL_law_19 22 rfl rfl)
theorem dL_law_682 : decode cL_law 682 = .ok (.iload 4, 2) := dk_21 4 (dk_at dksL_law_20 0 rfl rfl)
theorem dL_law_684 : decode cL_law 684 = .ok (.iconst 1, 1) := dk_4 (dk_at dksL_law_20 2 rfl rfl)
theorem dL_law_685 : decode cL_law 685 = .ok (.iadd, 1) := dk_96 (dk_at dksL_law_20 3 rfl rfl)
theorem dL_law_686 : decode cL_law 686 = .ok (.iaload, 1) := dk_46 (dk_at dksL_law_20 4 rfl rfl)
theorem dL_law_687 : decode cL_law 687 = .ok (.invokevirtual 193, 3) := dk_182 0 193 (dk_at dksL_law_20 5 rfl rfl)
theorem dL_law_690 : decode cL_law 690 = .ok (.istore 6, 2) := dk_54 6 (dk_at dksL_law_20 8 rfl rfl)
theorem dL_law_692 : decode cL_law 692 = .ok (.aload_n 2, 1) := dk_44 (dk_at dksL_law_20 10 rfl rfl)
theorem dL_law_693 : decode cL_law 693 = .ok (.invokevirtual 166, 3) := dk_182 0 166 (dk_at dksL_law_20 11 rfl rfl)
theorem dL_law_696 : decode cL_law 696 = .ok (.iload 5, 2) := dk_21 5 (dk_at dksL_law_20 14 rfl rfl)
theorem dL_law_698 : decode cL_law 698 = .ok (.if_icmp .eq 5, 3) := dk_159 0 5 (dk_at dksL_law_20 16 rfl rfl)
theorem dL_law_701 : decode cL_law 701 = .ok (.iconst 0, 1) := dk_3 (dk_at dksL_law_20 19 rfl rfl)
theorem dL_law_702 : decode cL_law 702 = .ok (.ireturn, 1) := dk_172 (dk_at dksL_law_20 20 rfl rfl)
theorem dL_law_703 : decode cL_law 703 = .ok (.iload 5, 2) := dk_21 5 (dk_at dksL_law_20 21 rfl rfl)
theorem dL_law_705 : decode cL_law 705 = .ok (.ifCond .ne 15, 3) := dk_154 0 15 (dk_at dksL_law_21 0 rfl rfl)
theorem dL_law_708 : decode cL_law 708 = .ok (.aload_n 3, 1) := dk_45 (dk_at dksL_law_21 3 rfl rfl)
theorem dL_law_709 : decode cL_law 709 = .ok (.iconst 0, 1) := dk_3 (dk_at dksL_law_21 4 rfl rfl)
theorem dL_law_710 : decode cL_law 710 = .ok (.laload, 1) := dk_47 (dk_at dksL_law_21 5 rfl rfl)
theorem dL_law_711 : decode cL_law 711 = .ok (.iload 6, 2) := dk_21 6 (dk_at dksL_law_21 6 rfl rfl)
theorem dL_law_713 : decode cL_law 713 = .ok (.i2l, 1) := dk_133 (dk_at dksL_law_21 8 rfl rfl)
theorem dL_law_714 : decode cL_law 714 = .ok (.lcmp, 1) := dk_148 (dk_at dksL_law_21 9 rfl rfl)
theorem dL_law_715 : decode cL_law 715 = .ok (.ifCond .eq 5, 3) := dk_153 0 5 (dk_at dksL_law_21 10 rfl rfl)
theorem dL_law_718 : decode cL_law 718 = .ok (.iconst 0, 1) := dk_3 (dk_at dksL_law_21 13 rfl rfl)
theorem dL_law_719 : decode cL_law 719 = .ok (.ireturn, 1) := dk_172 (dk_at dksL_law_21 14 rfl rfl)
theorem dL_law_720 : decode cL_law 720 = .ok (.goto 2442, 3) := dk_167 9 138 (dk_at dksL_law_21 15 rfl rfl)
theorem dL_law_723 : decode cL_law 723 = .ok (.aload_n 1, 1) := dk_43 (dk_at dksL_law_21 18 rfl rfl)
theorem dL_law_724 : decode cL_law 724 = .ok (.aload_n 0, 1) := dk_42 (dk_at dksL_law_21 19 rfl rfl)
theorem dL_law_725 : decode cL_law 725 = .ok (.iload 4, 2) := dk_21 4 (dk_at dksL_law_21 20 rfl rfl)
theorem dL_law_727 : decode cL_law 727 = .ok (.iconst 1, 1) := dk_4 (dk_at dksL_law_21 22 rfl rfl)
theorem dL_law_728 : decode cL_law 728 = .ok (.iadd, 1) := dk_96 (dk_at dksL_law_21 23 rfl rfl)
theorem dL_law_729 : decode cL_law 729 = .ok (.iaload, 1) := dk_46 (dk_at dksL_law_22 0 rfl rfl)
theorem dL_law_730 : decode cL_law 730 = .ok (.aload_n 0, 1) := dk_42 (dk_at dksL_law_22 1 rfl rfl)
theorem dL_law_731 : decode cL_law 731 = .ok (.iload 4, 2) := dk_21 4 (dk_at dksL_law_22 2 rfl rfl)
theorem dL_law_733 : decode cL_law 733 = .ok (.iconst 2, 1) := dk_5 (dk_at dksL_law_22 4 rfl rfl)
theorem dL_law_734 : decode cL_law 734 = .ok (.iadd, 1) := dk_96 (dk_at dksL_law_22 5 rfl rfl)
theorem dL_law_735 : decode cL_law 735 = .ok (.iaload, 1) := dk_46 (dk_at dksL_law_22 6 rfl rfl)
theorem dL_law_736 : decode cL_law 736 = .ok (.aload_n 3, 1) := dk_45 (dk_at dksL_law_22 7 rfl rfl)
theorem dL_law_737 : decode cL_law 737 = .ok (.invokestatic 194, 3) := dk_184 0 194 (dk_at dksL_law_22 8 rfl rfl)
theorem dL_law_740 : decode cL_law 740 = .ok (.istore 5, 2) := dk_54 5 (dk_at dksL_law_22 11 rfl rfl)
theorem dL_law_742 : decode cL_law 742 = .ok (.aload_n 2, 1) := dk_44 (dk_at dksL_law_22 13 rfl rfl)
theorem dL_law_743 : decode cL_law 743 = .ok (.aload_n 0, 1) := dk_42 (dk_at dksL_law_22 14 rfl rfl)
theorem dL_law_744 : decode cL_law 744 = .ok (.iload 4, 2) := dk_21 4 (dk_at dksL_law_22 15 rfl rfl)
theorem dL_law_746 : decode cL_law 746 = .ok (.iconst 1, 1) := dk_4 (dk_at dksL_law_22 17 rfl rfl)
theorem dL_law_747 : decode cL_law 747 = .ok (.iadd, 1) := dk_96 (dk_at dksL_law_22 18 rfl rfl)
theorem dL_law_748 : decode cL_law 748 = .ok (.iaload, 1) := dk_46 (dk_at dksL_law_22 19 rfl rfl)
theorem dL_law_749 : decode cL_law 749 = .ok (.aload_n 0, 1) := dk_42 (dk_at dksL_law_22 20 rfl rfl)
theorem dL_law_750 : decode cL_law 750 = .ok (.iload 4, 2) := dk_21 4 (dk_at dksL_law_22 21 rfl rfl)
theorem dL_law_752 : decode cL_law 752 = .ok (.iconst 2, 1) := dk_5 (dk_at dksL_law_22 23 rfl rfl)
theorem dL_law_753 : decode cL_law 753 = .ok (.iadd, 1) := dk_96 (dk_at dksL_law_23 0 rfl rfl)
theorem dL_law_754 : decode cL_law 754 = .ok (.iaload, 1) := dk_46 (dk_at dksL_law_23 1 rfl rfl)
theorem dL_law_755 : decode cL_law 755 = .ok (.invokevirtual 196, 3) := dk_182 0 196 (dk_at dksL_law_23 2 rfl rfl)
theorem dL_law_758 : decode cL_law 758 = .ok (.istore 6, 2) := dk_54 6 (dk_at dksL_law_23 5 rfl rfl)
theorem dL_law_760 : decode cL_law 760 = .ok (.aload_n 2, 1) := dk_44 (dk_at dksL_law_23 7 rfl rfl)
theorem dL_law_761 : decode cL_law 761 = .ok (.invokevirtual 166, 3) := dk_182 0 166 (dk_at dksL_law_23 8 rfl rfl)
theorem dL_law_764 : decode cL_law 764 = .ok (.iload 5, 2) := dk_21 5 (dk_at dksL_law_23 11 rfl rfl)
theorem dL_law_766 : decode cL_law 766 = .ok (.if_icmp .eq 5, 3) := dk_159 0 5 (dk_at dksL_law_23 13 rfl rfl)
theorem dL_law_769 : decode cL_law 769 = .ok (.iconst 0, 1) := dk_3 (dk_at dksL_law_23 16 rfl rfl)
theorem dL_law_770 : decode cL_law 770 = .ok (.ireturn, 1) := dk_172 (dk_at dksL_law_23 17 rfl rfl)
theorem dL_law_771 : decode cL_law 771 = .ok (.iload 5, 2) := dk_21 5 (dk_at dksL_law_23 18 rfl rfl)
theorem dL_law_773 : decode cL_law 773 = .ok (.ifCond .ne 15, 3) := dk_154 0 15 (dk_at dksL_law_23 20 rfl rfl)
theorem dL_law_776 : decode cL_law 776 = .ok (.aload_n 3, 1) := dk_45 (dk_at dksL_law_23 23 rfl rfl)
theorem dL_law_777 : decode cL_law 777 = .ok (.iconst 0, 1) := dk_3 (dk_at dksL_law_24 0 rfl rfl)
theorem dL_law_778 : decode cL_law 778 = .ok (.laload, 1) := dk_47 (dk_at dksL_law_24 1 rfl rfl)
theorem dL_law_779 : decode cL_law 779 = .ok (.iload 6, 2) := dk_21 6 (dk_at dksL_law_24 2 rfl rfl)
theorem dL_law_781 : decode cL_law 781 = .ok (.i2l, 1) := dk_133 (dk_at dksL_law_24 4 rfl rfl)
theorem dL_law_782 : decode cL_law 782 = .ok (.lcmp, 1) := dk_148 (dk_at dksL_law_24 5 rfl rfl)
theorem dL_law_783 : decode cL_law 783 = .ok (.ifCond .eq 5, 3) := dk_153 0 5 (dk_at dksL_law_24 6 rfl rfl)
theorem dL_law_786 : decode cL_law 786 = .ok (.iconst 0, 1) := dk_3 (dk_at dksL_law_24 9 rfl rfl)
theorem dL_law_787 : decode cL_law 787 = .ok (.ireturn, 1) := dk_172 (dk_at dksL_law_24 10 rfl rfl)
theorem dL_law_788 : decode cL_law 788 = .ok (.goto 2374, 3) := dk_167 9 70 (dk_at dksL_law_24 11 rfl rfl)
theorem dL_law_791 : decode cL_law 791 = .ok (.aload_n 1, 1) := dk_43 (dk_at dksL_law_24 14 rfl rfl)
theorem dL_law_792 : decode cL_law 792 = .ok (.aload_n 0, 1) := dk_42 (dk_at dksL_law_24 15 rfl rfl)
theorem dL_law_793 : decode cL_law 793 = .ok (.iload 4, 2) := dk_21 4 (dk_at dksL_law_24 16 rfl rfl)
theorem dL_law_795 : decode cL_law 795 = .ok (.iconst 1, 1) := dk_4 (dk_at dksL_law_24 18 rfl rfl)
theorem dL_law_796 : decode cL_law 796 = .ok (.iadd, 1) := dk_96 (dk_at dksL_law_24 19 rfl rfl)
theorem dL_law_797 : decode cL_law 797 = .ok (.iaload, 1) := dk_46 (dk_at dksL_law_24 20 rfl rfl)
theorem dL_law_798 : decode cL_law 798 = .ok (.aload_n 0, 1) := dk_42 (dk_at dksL_law_24 21 rfl rfl)
theorem dL_law_799 : decode cL_law 799 = .ok (.iload 4, 2) := dk_21 4 (dk_at dksL_law_24 22 rfl rfl)
theorem dL_law_801 : decode cL_law 801 = .ok (.iconst 2, 1) := dk_5 (dk_at dksL_law_25 0 rfl rfl)
theorem dL_law_802 : decode cL_law 802 = .ok (.iadd, 1) := dk_96 (dk_at dksL_law_25 1 rfl rfl)
theorem dL_law_803 : decode cL_law 803 = .ok (.iaload, 1) := dk_46 (dk_at dksL_law_25 2 rfl rfl)
theorem dL_law_804 : decode cL_law 804 = .ok (.aload_n 3, 1) := dk_45 (dk_at dksL_law_25 3 rfl rfl)
theorem dL_law_805 : decode cL_law 805 = .ok (.invokestatic 197, 3) := dk_184 0 197 (dk_at dksL_law_25 4 rfl rfl)
theorem dL_law_808 : decode cL_law 808 = .ok (.istore 5, 2) := dk_54 5 (dk_at dksL_law_25 7 rfl rfl)
theorem dL_law_810 : decode cL_law 810 = .ok (.aload_n 2, 1) := dk_44 (dk_at dksL_law_25 9 rfl rfl)
theorem dL_law_811 : decode cL_law 811 = .ok (.aload_n 0, 1) := dk_42 (dk_at dksL_law_25 10 rfl rfl)
theorem dL_law_812 : decode cL_law 812 = .ok (.iload 4, 2) := dk_21 4 (dk_at dksL_law_25 11 rfl rfl)
theorem dL_law_814 : decode cL_law 814 = .ok (.iconst 1, 1) := dk_4 (dk_at dksL_law_25 13 rfl rfl)
theorem dL_law_815 : decode cL_law 815 = .ok (.iadd, 1) := dk_96 (dk_at dksL_law_25 14 rfl rfl)
theorem dL_law_816 : decode cL_law 816 = .ok (.iaload, 1) := dk_46 (dk_at dksL_law_25 15 rfl rfl)
theorem dL_law_817 : decode cL_law 817 = .ok (.aload_n 0, 1) := dk_42 (dk_at dksL_law_25 16 rfl rfl)
theorem dL_law_818 : decode cL_law 818 = .ok (.iload 4, 2) := dk_21 4 (dk_at dksL_law_25 17 rfl rfl)
theorem dL_law_820 : decode cL_law 820 = .ok (.iconst 2, 1) := dk_5 (dk_at dksL_law_25 19 rfl rfl)
theorem dL_law_821 : decode cL_law 821 = .ok (.iadd, 1) := dk_96 (dk_at dksL_law_25 20 rfl rfl)
theorem dL_law_822 : decode cL_law 822 = .ok (.iaload, 1) := dk_46 (dk_at dksL_law_25 21 rfl rfl)
theorem dL_law_823 : decode cL_law 823 = .ok (.invokevirtual 199, 3) := dk_182 0 199 (dk_at dksL_law_26 0 rfl rfl)
theorem dL_law_826 : decode cL_law 826 = .ok (.istore 6, 2) := dk_54 6 (dk_at dksL_law_26 3 rfl rfl)
theorem dL_law_828 : decode cL_law 828 = .ok (.aload_n 2, 1) := dk_44 (dk_at dksL_law_26 5 rfl rfl)
theorem dL_law_829 : decode cL_law 829 = .ok (.invokevirtual 166, 3) := dk_182 0 166 (dk_at dksL_law_26 6 rfl rfl)
theorem dL_law_832 : decode cL_law 832 = .ok (.iload 5, 2) := dk_21 5 (dk_at dksL_law_26 9 rfl rfl)
theorem dL_law_834 : decode cL_law 834 = .ok (.if_icmp .eq 5, 3) := dk_159 0 5 (dk_at dksL_law_26 11 rfl rfl)
theorem dL_law_837 : decode cL_law 837 = .ok (.iconst 0, 1) := dk_3 (dk_at dksL_law_26 14 rfl rfl)
theorem dL_law_838 : decode cL_law 838 = .ok (.ireturn, 1) := dk_172 (dk_at dksL_law_26 15 rfl rfl)
theorem dL_law_839 : decode cL_law 839 = .ok (.iload 5, 2) := dk_21 5 (dk_at dksL_law_26 16 rfl rfl)
theorem dL_law_841 : decode cL_law 841 = .ok (.ifCond .ne 15, 3) := dk_154 0 15 (dk_at dksL_law_26 18 rfl rfl)
theorem dL_law_844 : decode cL_law 844 = .ok (.aload_n 3, 1) := dk_45 (dk_at dksL_law_26 21 rfl rfl)
theorem dL_law_845 : decode cL_law 845 = .ok (.iconst 0, 1) := dk_3 (dk_at dksL_law_26 22 rfl rfl)
theorem dL_law_846 : decode cL_law 846 = .ok (.laload, 1) := dk_47 (dk_at dksL_law_26 23 rfl rfl)
theorem dL_law_847 : decode cL_law 847 = .ok (.iload 6, 2) := dk_21 6 (dk_at dksL_law_27 0 rfl rfl)
theorem dL_law_849 : decode cL_law 849 = .ok (.i2l, 1) := dk_133 (dk_at dksL_law_27 2 rfl rfl)
theorem dL_law_850 : decode cL_law 850 = .ok (.lcmp, 1) := dk_148 (dk_at dksL_law_27 3 rfl rfl)
theorem dL_law_851 : decode cL_law 851 = .ok (.ifCond .eq 5, 3) := dk_153 0 5 (dk_at dksL_law_27 4 rfl rfl)
theorem dL_law_854 : decode cL_law 854 = .ok (.iconst 0, 1) := dk_3 (dk_at dksL_law_27 7 rfl rfl)
theorem dL_law_855 : decode cL_law 855 = .ok (.ireturn, 1) := dk_172 (dk_at dksL_law_27 8 rfl rfl)
theorem dL_law_856 : decode cL_law 856 = .ok (.goto 2306, 3) := dk_167 9 2 (dk_at dksL_law_27 9 rfl rfl)
theorem dL_law_859 : decode cL_law 859 = .ok (.aload_n 1, 1) := dk_43 (dk_at dksL_law_27 12 rfl rfl)
theorem dL_law_860 : decode cL_law 860 = .ok (.aload_n 0, 1) := dk_42 (dk_at dksL_law_27 13 rfl rfl)
theorem dL_law_861 : decode cL_law 861 = .ok (.iload 4, 2) := dk_21 4 (dk_at dksL_law_27 14 rfl rfl)
theorem dL_law_863 : decode cL_law 863 = .ok (.iconst 1, 1) := dk_4 (dk_at dksL_law_27 16 rfl rfl)
theorem dL_law_864 : decode cL_law 864 = .ok (.iadd, 1) := dk_96 (dk_at dksL_law_27 17 rfl rfl)
theorem dL_law_865 : decode cL_law 865 = .ok (.iaload, 1) := dk_46 (dk_at dksL_law_27 18 rfl rfl)
theorem dL_law_866 : decode cL_law 866 = .ok (.aload_n 3, 1) := dk_45 (dk_at dksL_law_27 19 rfl rfl)
theorem dL_law_867 : decode cL_law 867 = .ok (.invokestatic 200, 3) := dk_184 0 200 (dk_at dksL_law_27 20 rfl rfl)
theorem dL_law_870 : decode cL_law 870 = .ok (.istore 5, 2) := dk_54 5 (dk_at dksL_law_28 0 rfl rfl)
theorem dL_law_872 : decode cL_law 872 = .ok (.aload_n 2, 1) := dk_44 (dk_at dksL_law_28 2 rfl rfl)
theorem dL_law_873 : decode cL_law 873 = .ok (.aload_n 0, 1) := dk_42 (dk_at dksL_law_28 3 rfl rfl)
theorem dL_law_874 : decode cL_law 874 = .ok (.iload 4, 2) := dk_21 4 (dk_at dksL_law_28 4 rfl rfl)
theorem dL_law_876 : decode cL_law 876 = .ok (.iconst 1, 1) := dk_4 (dk_at dksL_law_28 6 rfl rfl)
theorem dL_law_877 : decode cL_law 877 = .ok (.iadd, 1) := dk_96 (dk_at dksL_law_28 7 rfl rfl)
theorem dL_law_878 : decode cL_law 878 = .ok (.iaload, 1) := dk_46 (dk_at dksL_law_28 8 rfl rfl)
theorem dL_law_879 : decode cL_law 879 = .ok (.invokevirtual 202, 3) := dk_182 0 202 (dk_at dksL_law_28 9 rfl rfl)
theorem dL_law_882 : decode cL_law 882 = .ok (.istore 6, 2) := dk_54 6 (dk_at dksL_law_28 12 rfl rfl)
theorem dL_law_884 : decode cL_law 884 = .ok (.aload_n 2, 1) := dk_44 (dk_at dksL_law_28 14 rfl rfl)
theorem dL_law_885 : decode cL_law 885 = .ok (.invokevirtual 166, 3) := dk_182 0 166 (dk_at dksL_law_28 15 rfl rfl)
theorem dL_law_888 : decode cL_law 888 = .ok (.iload 5, 2) := dk_21 5 (dk_at dksL_law_28 18 rfl rfl)
theorem dL_law_890 : decode cL_law 890 = .ok (.if_icmp .eq 5, 3) := dk_159 0 5 (dk_at dksL_law_28 20 rfl rfl)
theorem dL_law_893 : decode cL_law 893 = .ok (.iconst 0, 1) := dk_3 (dk_at dksL_law_28 23 rfl rfl)
theorem dL_law_894 : decode cL_law 894 = .ok (.ireturn, 1) := dk_172 (dk_at dksL_law_29 0 rfl rfl)
theorem dL_law_895 : decode cL_law 895 = .ok (.iload 5, 2) := dk_21 5 (dk_at dksL_law_29 1 rfl rfl)
theorem dL_law_897 : decode cL_law 897 = .ok (.ifCond .ne 22, 3) := dk_154 0 22 (dk_at dksL_law_29 3 rfl rfl)
theorem dL_law_900 : decode cL_law 900 = .ok (.aload_n 3, 1) := dk_45 (dk_at dksL_law_29 6 rfl rfl)
theorem dL_law_901 : decode cL_law 901 = .ok (.iconst 0, 1) := dk_3 (dk_at dksL_law_29 7 rfl rfl)
theorem dL_law_902 : decode cL_law 902 = .ok (.laload, 1) := dk_47 (dk_at dksL_law_29 8 rfl rfl)
theorem dL_law_903 : decode cL_law 903 = .ok (.iload 6, 2) := dk_21 6 (dk_at dksL_law_29 9 rfl rfl)
theorem dL_law_905 : decode cL_law 905 = .ok (.ifCond .eq 7, 3) := dk_153 0 7 (dk_at dksL_law_29 11 rfl rfl)
theorem dL_law_908 : decode cL_law 908 = .ok (.lconst 1, 1) := dk_10 (dk_at dksL_law_29 14 rfl rfl)
theorem dL_law_909 : decode cL_law 909 = .ok (.goto 4, 3) := dk_167 0 4 (dk_at dksL_law_29 15 rfl rfl)
theorem dL_law_912 : decode cL_law 912 = .ok (.lconst 0, 1) := dk_9 (dk_at dksL_law_29 18 rfl rfl)
theorem dL_law_913 : decode cL_law 913 = .ok (.lcmp, 1) := dk_148 (dk_at dksL_law_29 19 rfl rfl)
theorem dL_law_914 : decode cL_law 914 = .ok (.ifCond .eq 5, 3) := dk_153 0 5 (dk_at dksL_law_29 20 rfl rfl)
theorem dL_law_917 : decode cL_law 917 = .ok (.iconst 0, 1) := dk_3 (dk_at dksL_law_29 23 rfl rfl)
theorem dL_law_918 : decode cL_law 918 = .ok (.ireturn, 1) := dk_172 (dk_at dksL_law_30 0 rfl rfl)
theorem dL_law_919 : decode cL_law 919 = .ok (.goto 2243, 3) := dk_167 8 195 (dk_at dksL_law_30 1 rfl rfl)
theorem dL_law_922 : decode cL_law 922 = .ok (.aload_n 1, 1) := dk_43 (dk_at dksL_law_30 4 rfl rfl)
theorem dL_law_923 : decode cL_law 923 = .ok (.aload_n 0, 1) := dk_42 (dk_at dksL_law_30 5 rfl rfl)
theorem dL_law_924 : decode cL_law 924 = .ok (.iload 4, 2) := dk_21 4 (dk_at dksL_law_30 6 rfl rfl)
theorem dL_law_926 : decode cL_law 926 = .ok (.iconst 1, 1) := dk_4 (dk_at dksL_law_30 8 rfl rfl)
theorem dL_law_927 : decode cL_law 927 = .ok (.iadd, 1) := dk_96 (dk_at dksL_law_30 9 rfl rfl)
theorem dL_law_928 : decode cL_law 928 = .ok (.iaload, 1) := dk_46 (dk_at dksL_law_30 10 rfl rfl)
theorem dL_law_929 : decode cL_law 929 = .ok (.aload_n 3, 1) := dk_45 (dk_at dksL_law_30 11 rfl rfl)
theorem dL_law_930 : decode cL_law 930 = .ok (.invokestatic 203, 3) := dk_184 0 203 (dk_at dksL_law_30 12 rfl rfl)
theorem dL_law_933 : decode cL_law 933 = .ok (.istore 5, 2) := dk_54 5 (dk_at dksL_law_30 15 rfl rfl)
theorem dL_law_935 : decode cL_law 935 = .ok (.aload_n 2, 1) := dk_44 (dk_at dksL_law_30 17 rfl rfl)
theorem dL_law_936 : decode cL_law 936 = .ok (.aload_n 0, 1) := dk_42 (dk_at dksL_law_30 18 rfl rfl)
theorem dL_law_937 : decode cL_law 937 = .ok (.iload 4, 2) := dk_21 4 (dk_at dksL_law_30 19 rfl rfl)
theorem dL_law_939 : decode cL_law 939 = .ok (.iconst 1, 1) := dk_4 (dk_at dksL_law_30 21 rfl rfl)
theorem dL_law_940 : decode cL_law 940 = .ok (.iadd, 1) := dk_96 (dk_at dksL_law_30 22 rfl rfl)
theorem dL_law_941 : decode cL_law 941 = .ok (.iaload, 1) := dk_46 (dk_at dksL_law_30 23 rfl rfl)
theorem dL_law_942 : decode cL_law 942 = .ok (.invokevirtual 205, 3) := dk_182 0 205 (dk_at dksL_law_31 0 rfl rfl)
theorem dL_law_945 : decode cL_law 945 = .ok (.istore 6, 2) := dk_54 6 (dk_at dksL_law_31 3 rfl rfl)
theorem dL_law_947 : decode cL_law 947 = .ok (.aload_n 2, 1) := dk_44 (dk_at dksL_law_31 5 rfl rfl)
theorem dL_law_948 : decode cL_law 948 = .ok (.invokevirtual 166, 3) := dk_182 0 166 (dk_at dksL_law_31 6 rfl rfl)
theorem dL_law_951 : decode cL_law 951 = .ok (.iload 5, 2) := dk_21 5 (dk_at dksL_law_31 9 rfl rfl)
theorem dL_law_953 : decode cL_law 953 = .ok (.if_icmp .eq 5, 3) := dk_159 0 5 (dk_at dksL_law_31 11 rfl rfl)
theorem dL_law_956 : decode cL_law 956 = .ok (.iconst 0, 1) := dk_3 (dk_at dksL_law_31 14 rfl rfl)
theorem dL_law_957 : decode cL_law 957 = .ok (.ireturn, 1) := dk_172 (dk_at dksL_law_31 15 rfl rfl)
theorem dL_law_958 : decode cL_law 958 = .ok (.iload 5, 2) := dk_21 5 (dk_at dksL_law_31 16 rfl rfl)
theorem dL_law_960 : decode cL_law 960 = .ok (.ifCond .ne 15, 3) := dk_154 0 15 (dk_at dksL_law_31 18 rfl rfl)
theorem dL_law_963 : decode cL_law 963 = .ok (.aload_n 3, 1) := dk_45 (dk_at dksL_law_31 21 rfl rfl)
theorem dL_law_964 : decode cL_law 964 = .ok (.iconst 0, 1) := dk_3 (dk_at dksL_law_31 22 rfl rfl)
theorem dL_law_965 : decode cL_law 965 = .ok (.laload, 1) := dk_47 (dk_at dksL_law_31 23 rfl rfl)
theorem dL_law_966 : decode cL_law 966 = .ok (.iload 6, 2) := dk_21 6 (dk_at dksL_law_32 0 rfl rfl)
theorem dL_law_968 : decode cL_law 968 = .ok (.i2l, 1) := dk_133 (dk_at dksL_law_32 2 rfl rfl)
theorem dL_law_969 : decode cL_law 969 = .ok (.lcmp, 1) := dk_148 (dk_at dksL_law_32 3 rfl rfl)
theorem dL_law_970 : decode cL_law 970 = .ok (.ifCond .eq 5, 3) := dk_153 0 5 (dk_at dksL_law_32 4 rfl rfl)
theorem dL_law_973 : decode cL_law 973 = .ok (.iconst 0, 1) := dk_3 (dk_at dksL_law_32 7 rfl rfl)
theorem dL_law_974 : decode cL_law 974 = .ok (.ireturn, 1) := dk_172 (dk_at dksL_law_32 8 rfl rfl)
theorem dL_law_975 : decode cL_law 975 = .ok (.goto 2187, 3) := dk_167 8 139 (dk_at dksL_law_32 9 rfl rfl)
theorem dL_law_978 : decode cL_law 978 = .ok (.aload_n 1, 1) := dk_43 (dk_at dksL_law_32 12 rfl rfl)
theorem dL_law_979 : decode cL_law 979 = .ok (.aload_n 0, 1) := dk_42 (dk_at dksL_law_32 13 rfl rfl)
theorem dL_law_980 : decode cL_law 980 = .ok (.iload 4, 2) := dk_21 4 (dk_at dksL_law_32 14 rfl rfl)
theorem dL_law_982 : decode cL_law 982 = .ok (.iconst 1, 1) := dk_4 (dk_at dksL_law_32 16 rfl rfl)
theorem dL_law_983 : decode cL_law 983 = .ok (.iadd, 1) := dk_96 (dk_at dksL_law_32 17 rfl rfl)
theorem dL_law_984 : decode cL_law 984 = .ok (.iaload, 1) := dk_46 (dk_at dksL_law_32 18 rfl rfl)
theorem dL_law_985 : decode cL_law 985 = .ok (.aload_n 3, 1) := dk_45 (dk_at dksL_law_32 19 rfl rfl)
theorem dL_law_986 : decode cL_law 986 = .ok (.invokestatic 206, 3) := dk_184 0 206 (dk_at dksL_law_32 20 rfl rfl)
theorem dL_law_989 : decode cL_law 989 = .ok (.istore 5, 2) := dk_54 5 (dk_at dksL_law_33 0 rfl rfl)
theorem dL_law_991 : decode cL_law 991 = .ok (.aload_n 2, 1) := dk_44 (dk_at dksL_law_33 2 rfl rfl)
theorem dL_law_992 : decode cL_law 992 = .ok (.aload_n 0, 1) := dk_42 (dk_at dksL_law_33 3 rfl rfl)
theorem dL_law_993 : decode cL_law 993 = .ok (.iload 4, 2) := dk_21 4 (dk_at dksL_law_33 4 rfl rfl)
theorem dL_law_995 : decode cL_law 995 = .ok (.iconst 1, 1) := dk_4 (dk_at dksL_law_33 6 rfl rfl)
theorem dL_law_996 : decode cL_law 996 = .ok (.iadd, 1) := dk_96 (dk_at dksL_law_33 7 rfl rfl)
theorem dL_law_997 : decode cL_law 997 = .ok (.iaload, 1) := dk_46 (dk_at dksL_law_33 8 rfl rfl)
theorem dL_law_998 : decode cL_law 998 = .ok (.invokevirtual 208, 3) := dk_182 0 208 (dk_at dksL_law_33 9 rfl rfl)
theorem dL_law_1001 : decode cL_law 1001 = .ok (.istore 6, 2) := dk_54 6 (dk_at dksL_law_33 12 rfl rfl)
theorem dL_law_1003 : decode cL_law 1003 = .ok (.aload_n 2, 1) := dk_44 (dk_at dksL_law_33 14 rfl rfl)
theorem dL_law_1004 : decode cL_law 1004 = .ok (.invokevirtual 166, 3) := dk_182 0 166 (dk_at dksL_law_33 15 rfl rfl)
theorem dL_law_1007 : decode cL_law 1007 = .ok (.iload 5, 2) := dk_21 5 (dk_at dksL_law_33 18 rfl rfl)
theorem dL_law_1009 : decode cL_law 1009 = .ok (.if_icmp .eq 5, 3) := dk_159 0 5 (dk_at dksL_law_33 20 rfl rfl)
theorem dL_law_1012 : decode cL_law 1012 = .ok (.iconst 0, 1) := dk_3 (dk_at dksL_law_33 23 rfl rfl)
theorem dL_law_1013 : decode cL_law 1013 = .ok (.ireturn, 1) := dk_172 (dk_at dksL_law_34 0 rfl rfl)
theorem dL_law_1014 : decode cL_law 1014 = .ok (.iload 5, 2) := dk_21 5 (dk_at dksL_law_34 1 rfl rfl)
theorem dL_law_1016 : decode cL_law 1016 = .ok (.ifCond .ne 15, 3) := dk_154 0 15 (dk_at dksL_law_34 3 rfl rfl)
theorem dL_law_1019 : decode cL_law 1019 = .ok (.aload_n 3, 1) := dk_45 (dk_at dksL_law_34 6 rfl rfl)
theorem dL_law_1020 : decode cL_law 1020 = .ok (.iconst 0, 1) := dk_3 (dk_at dksL_law_34 7 rfl rfl)
theorem dL_law_1021 : decode cL_law 1021 = .ok (.laload, 1) := dk_47 (dk_at dksL_law_34 8 rfl rfl)
theorem dL_law_1022 : decode cL_law 1022 = .ok (.iload 6, 2) := dk_21 6 (dk_at dksL_law_34 9 rfl rfl)
theorem dL_law_1024 : decode cL_law 1024 = .ok (.i2l, 1) := dk_133 (dk_at dksL_law_34 11 rfl rfl)
theorem dL_law_1025 : decode cL_law 1025 = .ok (.lcmp, 1) := dk_148 (dk_at dksL_law_34 12 rfl rfl)
theorem dL_law_1026 : decode cL_law 1026 = .ok (.ifCond .eq 5, 3) := dk_153 0 5 (dk_at dksL_law_34 13 rfl rfl)
theorem dL_law_1029 : decode cL_law 1029 = .ok (.iconst 0, 1) := dk_3 (dk_at dksL_law_34 16 rfl rfl)
theorem dL_law_1030 : decode cL_law 1030 = .ok (.ireturn, 1) := dk_172 (dk_at dksL_law_34 17 rfl rfl)
theorem dL_law_1031 : decode cL_law 1031 = .ok (.goto 2131, 3) := dk_167 8 83 (dk_at dksL_law_34 18 rfl rfl)
theorem dL_law_1034 : decode cL_law 1034 = .ok (.aload_n 1, 1) := dk_43 (dk_at dksL_law_34 21 rfl rfl)
theorem dL_law_1035 : decode cL_law 1035 = .ok (.aload_n 0, 1) := dk_42 (dk_at dksL_law_34 22 rfl rfl)
theorem dL_law_1036 : decode cL_law 1036 = .ok (.iload 4, 2) := dk_21 4 (dk_at dksL_law_35 0 rfl rfl)
theorem dL_law_1038 : decode cL_law 1038 = .ok (.iconst 1, 1) := dk_4 (dk_at dksL_law_35 2 rfl rfl)
theorem dL_law_1039 : decode cL_law 1039 = .ok (.iadd, 1) := dk_96 (dk_at dksL_law_35 3 rfl rfl)
theorem dL_law_1040 : decode cL_law 1040 = .ok (.iaload, 1) := dk_46 (dk_at dksL_law_35 4 rfl rfl)
theorem dL_law_1041 : decode cL_law 1041 = .ok (.aload_n 0, 1) := dk_42 (dk_at dksL_law_35 5 rfl rfl)
theorem dL_law_1042 : decode cL_law 1042 = .ok (.iload 4, 2) := dk_21 4 (dk_at dksL_law_35 6 rfl rfl)
theorem dL_law_1044 : decode cL_law 1044 = .ok (.iconst 2, 1) := dk_5 (dk_at dksL_law_35 8 rfl rfl)
theorem dL_law_1045 : decode cL_law 1045 = .ok (.iadd, 1) := dk_96 (dk_at dksL_law_35 9 rfl rfl)
theorem dL_law_1046 : decode cL_law 1046 = .ok (.iaload, 1) := dk_46 (dk_at dksL_law_35 10 rfl rfl)
theorem dL_law_1047 : decode cL_law 1047 = .ok (.aload_n 0, 1) := dk_42 (dk_at dksL_law_35 11 rfl rfl)
theorem dL_law_1048 : decode cL_law 1048 = .ok (.iload 4, 2) := dk_21 4 (dk_at dksL_law_35 12 rfl rfl)
theorem dL_law_1050 : decode cL_law 1050 = .ok (.iconst 3, 1) := dk_6 (dk_at dksL_law_35 14 rfl rfl)
theorem dL_law_1051 : decode cL_law 1051 = .ok (.iadd, 1) := dk_96 (dk_at dksL_law_35 15 rfl rfl)
theorem dL_law_1052 : decode cL_law 1052 = .ok (.iaload, 1) := dk_46 (dk_at dksL_law_35 16 rfl rfl)
theorem dL_law_1053 : decode cL_law 1053 = .ok (.aload_n 3, 1) := dk_45 (dk_at dksL_law_35 17 rfl rfl)
theorem dL_law_1054 : decode cL_law 1054 = .ok (.invokestatic 209, 3) := dk_184 0 209 (dk_at dksL_law_35 18 rfl rfl)
theorem dL_law_1057 : decode cL_law 1057 = .ok (.istore 5, 2) := dk_54 5 (dk_at dksL_law_35 21 rfl rfl)
theorem dL_law_1059 : decode cL_law 1059 = .ok (.aload_n 2, 1) := dk_44 (dk_at dksL_law_35 23 rfl rfl)
theorem dL_law_1060 : decode cL_law 1060 = .ok (.aload_n 0, 1) := dk_42 (dk_at dksL_law_36 0 rfl rfl)
theorem dL_law_1061 : decode cL_law 1061 = .ok (.iload 4, 2) := dk_21 4 (dk_at dksL_law_36 1 rfl rfl)
theorem dL_law_1063 : decode cL_law 1063 = .ok (.iconst 1, 1) := dk_4 (dk_at dksL_law_36 3 rfl rfl)
theorem dL_law_1064 : decode cL_law 1064 = .ok (.iadd, 1) := dk_96 (dk_at dksL_law_36 4 rfl rfl)
theorem dL_law_1065 : decode cL_law 1065 = .ok (.iaload, 1) := dk_46 (dk_at dksL_law_36 5 rfl rfl)
theorem dL_law_1066 : decode cL_law 1066 = .ok (.aload_n 0, 1) := dk_42 (dk_at dksL_law_36 6 rfl rfl)
theorem dL_law_1067 : decode cL_law 1067 = .ok (.iload 4, 2) := dk_21 4 (dk_at dksL_law_36 7 rfl rfl)
theorem dL_law_1069 : decode cL_law 1069 = .ok (.iconst 2, 1) := dk_5 (dk_at dksL_law_36 9 rfl rfl)
theorem dL_law_1070 : decode cL_law 1070 = .ok (.iadd, 1) := dk_96 (dk_at dksL_law_36 10 rfl rfl)
theorem dL_law_1071 : decode cL_law 1071 = .ok (.iaload, 1) := dk_46 (dk_at dksL_law_36 11 rfl rfl)
theorem dL_law_1072 : decode cL_law 1072 = .ok (.aload_n 0, 1) := dk_42 (dk_at dksL_law_36 12 rfl rfl)
theorem dL_law_1073 : decode cL_law 1073 = .ok (.iload 4, 2) := dk_21 4 (dk_at dksL_law_36 13 rfl rfl)
theorem dL_law_1075 : decode cL_law 1075 = .ok (.iconst 3, 1) := dk_6 (dk_at dksL_law_36 15 rfl rfl)
theorem dL_law_1076 : decode cL_law 1076 = .ok (.iadd, 1) := dk_96 (dk_at dksL_law_36 16 rfl rfl)
theorem dL_law_1077 : decode cL_law 1077 = .ok (.iaload, 1) := dk_46 (dk_at dksL_law_36 17 rfl rfl)
theorem dL_law_1078 : decode cL_law 1078 = .ok (.invokevirtual 211, 3) := dk_182 0 211 (dk_at dksL_law_36 18 rfl rfl)
theorem dL_law_1081 : decode cL_law 1081 = .ok (.istore 6, 2) := dk_54 6 (dk_at dksL_law_36 21 rfl rfl)
theorem dL_law_1083 : decode cL_law 1083 = .ok (.aload_n 2, 1) := dk_44 (dk_at dksL_law_36 23 rfl rfl)
theorem dL_law_1084 : decode cL_law 1084 = .ok (.invokevirtual 166, 3) := dk_182 0 166 (dk_at dksL_law_37 0 rfl rfl)
theorem dL_law_1087 : decode cL_law 1087 = .ok (.iload 5, 2) := dk_21 5 (dk_at dksL_law_37 3 rfl rfl)
theorem dL_law_1089 : decode cL_law 1089 = .ok (.if_icmp .eq 5, 3) := dk_159 0 5 (dk_at dksL_law_37 5 rfl rfl)
theorem dL_law_1092 : decode cL_law 1092 = .ok (.iconst 0, 1) := dk_3 (dk_at dksL_law_37 8 rfl rfl)
theorem dL_law_1093 : decode cL_law 1093 = .ok (.ireturn, 1) := dk_172 (dk_at dksL_law_37 9 rfl rfl)
theorem dL_law_1094 : decode cL_law 1094 = .ok (.iload 5, 2) := dk_21 5 (dk_at dksL_law_37 10 rfl rfl)
theorem dL_law_1096 : decode cL_law 1096 = .ok (.ifCond .ne 15, 3) := dk_154 0 15 (dk_at dksL_law_37 12 rfl rfl)
theorem dL_law_1099 : decode cL_law 1099 = .ok (.aload_n 3, 1) := dk_45 (dk_at dksL_law_37 15 rfl rfl)
theorem dL_law_1100 : decode cL_law 1100 = .ok (.iconst 0, 1) := dk_3 (dk_at dksL_law_37 16 rfl rfl)
theorem dL_law_1101 : decode cL_law 1101 = .ok (.laload, 1) := dk_47 (dk_at dksL_law_37 17 rfl rfl)
theorem dL_law_1102 : decode cL_law 1102 = .ok (.iload 6, 2) := dk_21 6 (dk_at dksL_law_37 18 rfl rfl)
theorem dL_law_1104 : decode cL_law 1104 = .ok (.i2l, 1) := dk_133 (dk_at dksL_law_37 20 rfl rfl)
theorem dL_law_1105 : decode cL_law 1105 = .ok (.lcmp, 1) := dk_148 (dk_at dksL_law_37 21 rfl rfl)
theorem dL_law_1106 : decode cL_law 1106 = .ok (.ifCond .eq 5, 3) := dk_153 0 5 (dk_at dksL_law_38 0 rfl rfl)
theorem dL_law_1109 : decode cL_law 1109 = .ok (.iconst 0, 1) := dk_3 (dk_at dksL_law_38 3 rfl rfl)
theorem dL_law_1110 : decode cL_law 1110 = .ok (.ireturn, 1) := dk_172 (dk_at dksL_law_38 4 rfl rfl)
theorem dL_law_1111 : decode cL_law 1111 = .ok (.goto 2051, 3) := dk_167 8 3 (dk_at dksL_law_38 5 rfl rfl)
theorem dL_law_1114 : decode cL_law 1114 = .ok (.aload_n 1, 1) := dk_43 (dk_at dksL_law_38 8 rfl rfl)
theorem dL_law_1115 : decode cL_law 1115 = .ok (.aload_n 0, 1) := dk_42 (dk_at dksL_law_38 9 rfl rfl)
theorem dL_law_1116 : decode cL_law 1116 = .ok (.iload 4, 2) := dk_21 4 (dk_at dksL_law_38 10 rfl rfl)
theorem dL_law_1118 : decode cL_law 1118 = .ok (.iconst 1, 1) := dk_4 (dk_at dksL_law_38 12 rfl rfl)
theorem dL_law_1119 : decode cL_law 1119 = .ok (.iadd, 1) := dk_96 (dk_at dksL_law_38 13 rfl rfl)
theorem dL_law_1120 : decode cL_law 1120 = .ok (.iaload, 1) := dk_46 (dk_at dksL_law_38 14 rfl rfl)
theorem dL_law_1121 : decode cL_law 1121 = .ok (.aload_n 0, 1) := dk_42 (dk_at dksL_law_38 15 rfl rfl)
theorem dL_law_1122 : decode cL_law 1122 = .ok (.iload 4, 2) := dk_21 4 (dk_at dksL_law_38 16 rfl rfl)
theorem dL_law_1124 : decode cL_law 1124 = .ok (.iconst 2, 1) := dk_5 (dk_at dksL_law_38 18 rfl rfl)
theorem dL_law_1125 : decode cL_law 1125 = .ok (.iadd, 1) := dk_96 (dk_at dksL_law_38 19 rfl rfl)
theorem dL_law_1126 : decode cL_law 1126 = .ok (.iaload, 1) := dk_46 (dk_at dksL_law_38 20 rfl rfl)
theorem dL_law_1127 : decode cL_law 1127 = .ok (.aload_n 3, 1) := dk_45 (dk_at dksL_law_38 21 rfl rfl)
theorem dL_law_1128 : decode cL_law 1128 = .ok (.invokestatic 212, 3) := dk_184 0 212 (dk_at dksL_law_39 0 rfl rfl)
theorem dL_law_1131 : decode cL_law 1131 = .ok (.istore 5, 2) := dk_54 5 (dk_at dksL_law_39 3 rfl rfl)
theorem dL_law_1133 : decode cL_law 1133 = .ok (.aload_n 2, 1) := dk_44 (dk_at dksL_law_39 5 rfl rfl)
theorem dL_law_1134 : decode cL_law 1134 = .ok (.aload_n 0, 1) := dk_42 (dk_at dksL_law_39 6 rfl rfl)
theorem dL_law_1135 : decode cL_law 1135 = .ok (.iload 4, 2) := dk_21 4 (dk_at dksL_law_39 7 rfl rfl)
theorem dL_law_1137 : decode cL_law 1137 = .ok (.iconst 1, 1) := dk_4 (dk_at dksL_law_39 9 rfl rfl)
theorem dL_law_1138 : decode cL_law 1138 = .ok (.iadd, 1) := dk_96 (dk_at dksL_law_39 10 rfl rfl)
theorem dL_law_1139 : decode cL_law 1139 = .ok (.iaload, 1) := dk_46 (dk_at dksL_law_39 11 rfl rfl)
theorem dL_law_1140 : decode cL_law 1140 = .ok (.aload_n 0, 1) := dk_42 (dk_at dksL_law_39 12 rfl rfl)
theorem dL_law_1141 : decode cL_law 1141 = .ok (.iload 4, 2) := dk_21 4 (dk_at dksL_law_39 13 rfl rfl)
theorem dL_law_1143 : decode cL_law 1143 = .ok (.iconst 2, 1) := dk_5 (dk_at dksL_law_39 15 rfl rfl)
theorem dL_law_1144 : decode cL_law 1144 = .ok (.iadd, 1) := dk_96 (dk_at dksL_law_39 16 rfl rfl)
theorem dL_law_1145 : decode cL_law 1145 = .ok (.iaload, 1) := dk_46 (dk_at dksL_law_39 17 rfl rfl)
theorem dL_law_1146 : decode cL_law 1146 = .ok (.invokevirtual 214, 3) := dk_182 0 214 (dk_at dksL_law_39 18 rfl rfl)
theorem dL_law_1149 : decode cL_law 1149 = .ok (.istore 6, 2) := dk_54 6 (dk_at dksL_law_39 21 rfl rfl)
theorem dL_law_1151 : decode cL_law 1151 = .ok (.aload_n 2, 1) := dk_44 (dk_at dksL_law_39 23 rfl rfl)
theorem dL_law_1152 : decode cL_law 1152 = .ok (.invokevirtual 166, 3) := dk_182 0 166 (dk_at dksL_law_40 0 rfl rfl)
theorem dL_law_1155 : decode cL_law 1155 = .ok (.iload 5, 2) := dk_21 5 (dk_at dksL_law_40 3 rfl rfl)
theorem dL_law_1157 : decode cL_law 1157 = .ok (.if_icmp .eq 5, 3) := dk_159 0 5 (dk_at dksL_law_40 5 rfl rfl)
theorem dL_law_1160 : decode cL_law 1160 = .ok (.iconst 0, 1) := dk_3 (dk_at dksL_law_40 8 rfl rfl)
theorem dL_law_1161 : decode cL_law 1161 = .ok (.ireturn, 1) := dk_172 (dk_at dksL_law_40 9 rfl rfl)
theorem dL_law_1162 : decode cL_law 1162 = .ok (.iload 5, 2) := dk_21 5 (dk_at dksL_law_40 10 rfl rfl)
theorem dL_law_1164 : decode cL_law 1164 = .ok (.ifCond .ne 15, 3) := dk_154 0 15 (dk_at dksL_law_40 12 rfl rfl)
theorem dL_law_1167 : decode cL_law 1167 = .ok (.aload_n 3, 1) := dk_45 (dk_at dksL_law_40 15 rfl rfl)
theorem dL_law_1168 : decode cL_law 1168 = .ok (.iconst 0, 1) := dk_3 (dk_at dksL_law_40 16 rfl rfl)
theorem dL_law_1169 : decode cL_law 1169 = .ok (.laload, 1) := dk_47 (dk_at dksL_law_40 17 rfl rfl)
theorem dL_law_1170 : decode cL_law 1170 = .ok (.iload 6, 2) := dk_21 6 (dk_at dksL_law_40 18 rfl rfl)
theorem dL_law_1172 : decode cL_law 1172 = .ok (.i2l, 1) := dk_133 (dk_at dksL_law_40 20 rfl rfl)
theorem dL_law_1173 : decode cL_law 1173 = .ok (.lcmp, 1) := dk_148 (dk_at dksL_law_40 21 rfl rfl)
theorem dL_law_1174 : decode cL_law 1174 = .ok (.ifCond .eq 5, 3) := dk_153 0 5 (dk_at dksL_law_41 0 rfl rfl)
theorem dL_law_1177 : decode cL_law 1177 = .ok (.iconst 0, 1) := dk_3 (dk_at dksL_law_41 3 rfl rfl)
theorem dL_law_1178 : decode cL_law 1178 = .ok (.ireturn, 1) := dk_172 (dk_at dksL_law_41 4 rfl rfl)
theorem dL_law_1179 : decode cL_law 1179 = .ok (.goto 1983, 3) := dk_167 7 191 (dk_at dksL_law_41 5 rfl rfl)
theorem dL_law_1182 : decode cL_law 1182 = .ok (.aload_n 1, 1) := dk_43 (dk_at dksL_law_41 8 rfl rfl)
theorem dL_law_1183 : decode cL_law 1183 = .ok (.aload_n 0, 1) := dk_42 (dk_at dksL_law_41 9 rfl rfl)
theorem dL_law_1184 : decode cL_law 1184 = .ok (.iload 4, 2) := dk_21 4 (dk_at dksL_law_41 10 rfl rfl)
theorem dL_law_1186 : decode cL_law 1186 = .ok (.iconst 1, 1) := dk_4 (dk_at dksL_law_41 12 rfl rfl)
theorem dL_law_1187 : decode cL_law 1187 = .ok (.iadd, 1) := dk_96 (dk_at dksL_law_41 13 rfl rfl)
theorem dL_law_1188 : decode cL_law 1188 = .ok (.iaload, 1) := dk_46 (dk_at dksL_law_41 14 rfl rfl)
theorem dL_law_1189 : decode cL_law 1189 = .ok (.aload_n 0, 1) := dk_42 (dk_at dksL_law_41 15 rfl rfl)
theorem dL_law_1190 : decode cL_law 1190 = .ok (.iload 4, 2) := dk_21 4 (dk_at dksL_law_41 16 rfl rfl)
theorem dL_law_1192 : decode cL_law 1192 = .ok (.iconst 2, 1) := dk_5 (dk_at dksL_law_41 18 rfl rfl)
theorem dL_law_1193 : decode cL_law 1193 = .ok (.iadd, 1) := dk_96 (dk_at dksL_law_41 19 rfl rfl)
theorem dL_law_1194 : decode cL_law 1194 = .ok (.iaload, 1) := dk_46 (dk_at dksL_law_41 20 rfl rfl)
theorem dL_law_1195 : decode cL_law 1195 = .ok (.aload_n 0, 1) := dk_42 (dk_at dksL_law_41 21 rfl rfl)
theorem dL_law_1196 : decode cL_law 1196 = .ok (.iload 4, 2) := dk_21 4 (dk_at dksL_law_41 22 rfl rfl)
theorem dL_law_1198 : decode cL_law 1198 = .ok (.iconst 3, 1) := dk_6 (dk_at dksL_law_42 0 rfl rfl)
theorem dL_law_1199 : decode cL_law 1199 = .ok (.iadd, 1) := dk_96 (dk_at dksL_law_42 1 rfl rfl)
theorem dL_law_1200 : decode cL_law 1200 = .ok (.iaload, 1) := dk_46 (dk_at dksL_law_42 2 rfl rfl)
theorem dL_law_1201 : decode cL_law 1201 = .ok (.aload_n 0, 1) := dk_42 (dk_at dksL_law_42 3 rfl rfl)
theorem dL_law_1202 : decode cL_law 1202 = .ok (.iload 4, 2) := dk_21 4 (dk_at dksL_law_42 4 rfl rfl)
theorem dL_law_1204 : decode cL_law 1204 = .ok (.iconst 4, 1) := dk_7 (dk_at dksL_law_42 6 rfl rfl)
theorem dL_law_1205 : decode cL_law 1205 = .ok (.iadd, 1) := dk_96 (dk_at dksL_law_42 7 rfl rfl)
theorem dL_law_1206 : decode cL_law 1206 = .ok (.iaload, 1) := dk_46 (dk_at dksL_law_42 8 rfl rfl)
theorem dL_law_1207 : decode cL_law 1207 = .ok (.aload_n 3, 1) := dk_45 (dk_at dksL_law_42 9 rfl rfl)
theorem dL_law_1208 : decode cL_law 1208 = .ok (.invokestatic 215, 3) := dk_184 0 215 (dk_at dksL_law_42 10 rfl rfl)
theorem dL_law_1211 : decode cL_law 1211 = .ok (.istore 5, 2) := dk_54 5 (dk_at dksL_law_42 13 rfl rfl)
theorem dL_law_1213 : decode cL_law 1213 = .ok (.aload_n 2, 1) := dk_44 (dk_at dksL_law_42 15 rfl rfl)
theorem dL_law_1214 : decode cL_law 1214 = .ok (.aload_n 0, 1) := dk_42 (dk_at dksL_law_42 16 rfl rfl)
theorem dL_law_1215 : decode cL_law 1215 = .ok (.iload 4, 2) := dk_21 4 (dk_at dksL_law_42 17 rfl rfl)
theorem dL_law_1217 : decode cL_law 1217 = .ok (.iconst 1, 1) := dk_4 (dk_at dksL_law_42 19 rfl rfl)
theorem dL_law_1218 : decode cL_law 1218 = .ok (.iadd, 1) := dk_96 (dk_at dksL_law_42 20 rfl rfl)
theorem dL_law_1219 : decode cL_law 1219 = .ok (.iaload, 1) := dk_46 (dk_at dksL_law_42 21 rfl rfl)
theorem dL_law_1220 : decode cL_law 1220 = .ok (.aload_n 0, 1) := dk_42 (dk_at dksL_law_42 22 rfl rfl)
theorem dL_law_1221 : decode cL_law 1221 = .ok (.iload 4, 2) := dk_21 4 (dk_at dksL_law_43 0 rfl rfl)
theorem dL_law_1223 : decode cL_law 1223 = .ok (.iconst 2, 1) := dk_5 (dk_at dksL_law_43 2 rfl rfl)
theorem dL_law_1224 : decode cL_law 1224 = .ok (.iadd, 1) := dk_96 (dk_at dksL_law_43 3 rfl rfl)
theorem dL_law_1225 : decode cL_law 1225 = .ok (.iaload, 1) := dk_46 (dk_at dksL_law_43 4 rfl rfl)
theorem dL_law_1226 : decode cL_law 1226 = .ok (.aload_n 0, 1) := dk_42 (dk_at dksL_law_43 5 rfl rfl)
theorem dL_law_1227 : decode cL_law 1227 = .ok (.iload 4, 2) := dk_21 4 (dk_at dksL_law_43 6 rfl rfl)
theorem dL_law_1229 : decode cL_law 1229 = .ok (.iconst 3, 1) := dk_6 (dk_at dksL_law_43 8 rfl rfl)
theorem dL_law_1230 : decode cL_law 1230 = .ok (.iadd, 1) := dk_96 (dk_at dksL_law_43 9 rfl rfl)
theorem dL_law_1231 : decode cL_law 1231 = .ok (.iaload, 1) := dk_46 (dk_at dksL_law_43 10 rfl rfl)
theorem dL_law_1232 : decode cL_law 1232 = .ok (.aload_n 0, 1) := dk_42 (dk_at dksL_law_43 11 rfl rfl)
theorem dL_law_1233 : decode cL_law 1233 = .ok (.iload 4, 2) := dk_21 4 (dk_at dksL_law_43 12 rfl rfl)
theorem dL_law_1235 : decode cL_law 1235 = .ok (.iconst 4, 1) := dk_7 (dk_at dksL_law_43 14 rfl rfl)
theorem dL_law_1236 : decode cL_law 1236 = .ok (.iadd, 1) := dk_96 (dk_at dksL_law_43 15 rfl rfl)
theorem dL_law_1237 : decode cL_law 1237 = .ok (.iaload, 1) := dk_46 (dk_at dksL_law_43 16 rfl rfl)
theorem dL_law_1238 : decode cL_law 1238 = .ok (.invokevirtual 218, 3) := dk_182 0 218 (dk_at dksL_law_43 17 rfl rfl)
theorem dL_law_1241 : decode cL_law 1241 = .ok (.istore 6, 2) := dk_54 6 (dk_at dksL_law_43 20 rfl rfl)
theorem dL_law_1243 : decode cL_law 1243 = .ok (.aload_n 2, 1) := dk_44 (dk_at dksL_law_43 22 rfl rfl)
theorem dL_law_1244 : decode cL_law 1244 = .ok (.invokevirtual 166, 3) := dk_182 0 166 (dk_at dksL_law_44 0 rfl rfl)
theorem dL_law_1247 : decode cL_law 1247 = .ok (.iload 5, 2) := dk_21 5 (dk_at dksL_law_44 3 rfl rfl)
theorem dL_law_1249 : decode cL_law 1249 = .ok (.if_icmp .eq 5, 3) := dk_159 0 5 (dk_at dksL_law_44 5 rfl rfl)
theorem dL_law_1252 : decode cL_law 1252 = .ok (.iconst 0, 1) := dk_3 (dk_at dksL_law_44 8 rfl rfl)
theorem dL_law_1253 : decode cL_law 1253 = .ok (.ireturn, 1) := dk_172 (dk_at dksL_law_44 9 rfl rfl)
theorem dL_law_1254 : decode cL_law 1254 = .ok (.iload 5, 2) := dk_21 5 (dk_at dksL_law_44 10 rfl rfl)
theorem dL_law_1256 : decode cL_law 1256 = .ok (.ifCond .ne 15, 3) := dk_154 0 15 (dk_at dksL_law_44 12 rfl rfl)
theorem dL_law_1259 : decode cL_law 1259 = .ok (.aload_n 3, 1) := dk_45 (dk_at dksL_law_44 15 rfl rfl)
theorem dL_law_1260 : decode cL_law 1260 = .ok (.iconst 0, 1) := dk_3 (dk_at dksL_law_44 16 rfl rfl)
theorem dL_law_1261 : decode cL_law 1261 = .ok (.laload, 1) := dk_47 (dk_at dksL_law_44 17 rfl rfl)
theorem dL_law_1262 : decode cL_law 1262 = .ok (.iload 6, 2) := dk_21 6 (dk_at dksL_law_44 18 rfl rfl)
theorem dL_law_1264 : decode cL_law 1264 = .ok (.i2l, 1) := dk_133 (dk_at dksL_law_44 20 rfl rfl)
theorem dL_law_1265 : decode cL_law 1265 = .ok (.lcmp, 1) := dk_148 (dk_at dksL_law_44 21 rfl rfl)
theorem dL_law_1266 : decode cL_law 1266 = .ok (.ifCond .eq 5, 3) := dk_153 0 5 (dk_at dksL_law_45 0 rfl rfl)
theorem dL_law_1269 : decode cL_law 1269 = .ok (.iconst 0, 1) := dk_3 (dk_at dksL_law_45 3 rfl rfl)
theorem dL_law_1270 : decode cL_law 1270 = .ok (.ireturn, 1) := dk_172 (dk_at dksL_law_45 4 rfl rfl)
theorem dL_law_1271 : decode cL_law 1271 = .ok (.goto 1891, 3) := dk_167 7 99 (dk_at dksL_law_45 5 rfl rfl)
theorem dL_law_1274 : decode cL_law 1274 = .ok (.aload_n 1, 1) := dk_43 (dk_at dksL_law_45 8 rfl rfl)
theorem dL_law_1275 : decode cL_law 1275 = .ok (.aload_n 0, 1) := dk_42 (dk_at dksL_law_45 9 rfl rfl)
theorem dL_law_1276 : decode cL_law 1276 = .ok (.iload 4, 2) := dk_21 4 (dk_at dksL_law_45 10 rfl rfl)
theorem dL_law_1278 : decode cL_law 1278 = .ok (.iconst 1, 1) := dk_4 (dk_at dksL_law_45 12 rfl rfl)
theorem dL_law_1279 : decode cL_law 1279 = .ok (.iadd, 1) := dk_96 (dk_at dksL_law_45 13 rfl rfl)
theorem dL_law_1280 : decode cL_law 1280 = .ok (.iaload, 1) := dk_46 (dk_at dksL_law_45 14 rfl rfl)
theorem dL_law_1281 : decode cL_law 1281 = .ok (.aload_n 0, 1) := dk_42 (dk_at dksL_law_45 15 rfl rfl)
theorem dL_law_1282 : decode cL_law 1282 = .ok (.iload 4, 2) := dk_21 4 (dk_at dksL_law_45 16 rfl rfl)
theorem dL_law_1284 : decode cL_law 1284 = .ok (.iconst 2, 1) := dk_5 (dk_at dksL_law_45 18 rfl rfl)
theorem dL_law_1285 : decode cL_law 1285 = .ok (.iadd, 1) := dk_96 (dk_at dksL_law_45 19 rfl rfl)
theorem dL_law_1286 : decode cL_law 1286 = .ok (.iaload, 1) := dk_46 (dk_at dksL_law_45 20 rfl rfl)
theorem dL_law_1287 : decode cL_law 1287 = .ok (.aload_n 3, 1) := dk_45 (dk_at dksL_law_45 21 rfl rfl)
theorem dL_law_1288 : decode cL_law 1288 = .ok (.invokestatic 219, 3) := dk_184 0 219 (dk_at dksL_law_46 0 rfl rfl)
theorem dL_law_1291 : decode cL_law 1291 = .ok (.istore 5, 2) := dk_54 5 (dk_at dksL_law_46 3 rfl rfl)
theorem dL_law_1293 : decode cL_law 1293 = .ok (.aload_n 2, 1) := dk_44 (dk_at dksL_law_46 5 rfl rfl)
theorem dL_law_1294 : decode cL_law 1294 = .ok (.aload_n 0, 1) := dk_42 (dk_at dksL_law_46 6 rfl rfl)
theorem dL_law_1295 : decode cL_law 1295 = .ok (.iload 4, 2) := dk_21 4 (dk_at dksL_law_46 7 rfl rfl)
theorem dL_law_1297 : decode cL_law 1297 = .ok (.iconst 1, 1) := dk_4 (dk_at dksL_law_46 9 rfl rfl)
theorem dL_law_1298 : decode cL_law 1298 = .ok (.iadd, 1) := dk_96 (dk_at dksL_law_46 10 rfl rfl)
theorem dL_law_1299 : decode cL_law 1299 = .ok (.iaload, 1) := dk_46 (dk_at dksL_law_46 11 rfl rfl)
theorem dL_law_1300 : decode cL_law 1300 = .ok (.aload_n 0, 1) := dk_42 (dk_at dksL_law_46 12 rfl rfl)
theorem dL_law_1301 : decode cL_law 1301 = .ok (.iload 4, 2) := dk_21 4 (dk_at dksL_law_46 13 rfl rfl)
theorem dL_law_1303 : decode cL_law 1303 = .ok (.iconst 2, 1) := dk_5 (dk_at dksL_law_46 15 rfl rfl)
theorem dL_law_1304 : decode cL_law 1304 = .ok (.iadd, 1) := dk_96 (dk_at dksL_law_46 16 rfl rfl)
theorem dL_law_1305 : decode cL_law 1305 = .ok (.iaload, 1) := dk_46 (dk_at dksL_law_46 17 rfl rfl)
theorem dL_law_1306 : decode cL_law 1306 = .ok (.invokevirtual 221, 3) := dk_182 0 221 (dk_at dksL_law_46 18 rfl rfl)
theorem dL_law_1309 : decode cL_law 1309 = .ok (.istore 6, 2) := dk_54 6 (dk_at dksL_law_46 21 rfl rfl)
theorem dL_law_1311 : decode cL_law 1311 = .ok (.aload_n 2, 1) := dk_44 (dk_at dksL_law_46 23 rfl rfl)
theorem dL_law_1312 : decode cL_law 1312 = .ok (.invokevirtual 166, 3) := dk_182 0 166 (dk_at dksL_law_47 0 rfl rfl)
theorem dL_law_1315 : decode cL_law 1315 = .ok (.iload 5, 2) := dk_21 5 (dk_at dksL_law_47 3 rfl rfl)
theorem dL_law_1317 : decode cL_law 1317 = .ok (.if_icmp .eq 5, 3) := dk_159 0 5 (dk_at dksL_law_47 5 rfl rfl)
theorem dL_law_1320 : decode cL_law 1320 = .ok (.iconst 0, 1) := dk_3 (dk_at dksL_law_47 8 rfl rfl)
theorem dL_law_1321 : decode cL_law 1321 = .ok (.ireturn, 1) := dk_172 (dk_at dksL_law_47 9 rfl rfl)
theorem dL_law_1322 : decode cL_law 1322 = .ok (.iload 5, 2) := dk_21 5 (dk_at dksL_law_47 10 rfl rfl)
theorem dL_law_1324 : decode cL_law 1324 = .ok (.ifCond .ne 22, 3) := dk_154 0 22 (dk_at dksL_law_47 12 rfl rfl)
theorem dL_law_1327 : decode cL_law 1327 = .ok (.aload_n 3, 1) := dk_45 (dk_at dksL_law_47 15 rfl rfl)
theorem dL_law_1328 : decode cL_law 1328 = .ok (.iconst 0, 1) := dk_3 (dk_at dksL_law_47 16 rfl rfl)
theorem dL_law_1329 : decode cL_law 1329 = .ok (.laload, 1) := dk_47 (dk_at dksL_law_47 17 rfl rfl)
theorem dL_law_1330 : decode cL_law 1330 = .ok (.iload 6, 2) := dk_21 6 (dk_at dksL_law_47 18 rfl rfl)
theorem dL_law_1332 : decode cL_law 1332 = .ok (.ifCond .eq 7, 3) := dk_153 0 7 (dk_at dksL_law_47 20 rfl rfl)
theorem dL_law_1335 : decode cL_law 1335 = .ok (.lconst 1, 1) := dk_10 (dk_at dksL_law_47 23 rfl rfl)
theorem dL_law_1336 : decode cL_law 1336 = .ok (.goto 4, 3) := dk_167 0 4 (dk_at dksL_law_48 0 rfl rfl)
theorem dL_law_1339 : decode cL_law 1339 = .ok (.lconst 0, 1) := dk_9 (dk_at dksL_law_48 3 rfl rfl)
theorem dL_law_1340 : decode cL_law 1340 = .ok (.lcmp, 1) := dk_148 (dk_at dksL_law_48 4 rfl rfl)
theorem dL_law_1341 : decode cL_law 1341 = .ok (.ifCond .eq 5, 3) := dk_153 0 5 (dk_at dksL_law_48 5 rfl rfl)
theorem dL_law_1344 : decode cL_law 1344 = .ok (.iconst 0, 1) := dk_3 (dk_at dksL_law_48 8 rfl rfl)
theorem dL_law_1345 : decode cL_law 1345 = .ok (.ireturn, 1) := dk_172 (dk_at dksL_law_48 9 rfl rfl)
theorem dL_law_1346 : decode cL_law 1346 = .ok (.goto 1816, 3) := dk_167 7 24 (dk_at dksL_law_48 10 rfl rfl)
theorem dL_law_1349 : decode cL_law 1349 = .ok (.aload_n 1, 1) := dk_43 (dk_at dksL_law_48 13 rfl rfl)
theorem dL_law_1350 : decode cL_law 1350 = .ok (.aload_n 0, 1) := dk_42 (dk_at dksL_law_48 14 rfl rfl)
theorem dL_law_1351 : decode cL_law 1351 = .ok (.iload 4, 2) := dk_21 4 (dk_at dksL_law_48 15 rfl rfl)
theorem dL_law_1353 : decode cL_law 1353 = .ok (.iconst 1, 1) := dk_4 (dk_at dksL_law_48 17 rfl rfl)
theorem dL_law_1354 : decode cL_law 1354 = .ok (.iadd, 1) := dk_96 (dk_at dksL_law_48 18 rfl rfl)
theorem dL_law_1355 : decode cL_law 1355 = .ok (.iaload, 1) := dk_46 (dk_at dksL_law_48 19 rfl rfl)
theorem dL_law_1356 : decode cL_law 1356 = .ok (.aload_n 0, 1) := dk_42 (dk_at dksL_law_48 20 rfl rfl)
theorem dL_law_1357 : decode cL_law 1357 = .ok (.iload 4, 2) := dk_21 4 (dk_at dksL_law_48 21 rfl rfl)
theorem dL_law_1359 : decode cL_law 1359 = .ok (.iconst 2, 1) := dk_5 (dk_at dksL_law_48 23 rfl rfl)
theorem dL_law_1360 : decode cL_law 1360 = .ok (.iadd, 1) := dk_96 (dk_at dksL_law_49 0 rfl rfl)
theorem dL_law_1361 : decode cL_law 1361 = .ok (.iaload, 1) := dk_46 (dk_at dksL_law_49 1 rfl rfl)
theorem dL_law_1362 : decode cL_law 1362 = .ok (.aload_n 3, 1) := dk_45 (dk_at dksL_law_49 2 rfl rfl)
theorem dL_law_1363 : decode cL_law 1363 = .ok (.invokestatic 222, 3) := dk_184 0 222 (dk_at dksL_law_49 3 rfl rfl)
theorem dL_law_1366 : decode cL_law 1366 = .ok (.istore 5, 2) := dk_54 5 (dk_at dksL_law_49 6 rfl rfl)
theorem dL_law_1368 : decode cL_law 1368 = .ok (.aload_n 2, 1) := dk_44 (dk_at dksL_law_49 8 rfl rfl)
theorem dL_law_1369 : decode cL_law 1369 = .ok (.aload_n 0, 1) := dk_42 (dk_at dksL_law_49 9 rfl rfl)
theorem dL_law_1370 : decode cL_law 1370 = .ok (.iload 4, 2) := dk_21 4 (dk_at dksL_law_49 10 rfl rfl)
theorem dL_law_1372 : decode cL_law 1372 = .ok (.iconst 1, 1) := dk_4 (dk_at dksL_law_49 12 rfl rfl)
theorem dL_law_1373 : decode cL_law 1373 = .ok (.iadd, 1) := dk_96 (dk_at dksL_law_49 13 rfl rfl)
theorem dL_law_1374 : decode cL_law 1374 = .ok (.iaload, 1) := dk_46 (dk_at dksL_law_49 14 rfl rfl)
theorem dL_law_1375 : decode cL_law 1375 = .ok (.aload_n 0, 1) := dk_42 (dk_at dksL_law_49 15 rfl rfl)
theorem dL_law_1376 : decode cL_law 1376 = .ok (.iload 4, 2) := dk_21 4 (dk_at dksL_law_49 16 rfl rfl)
theorem dL_law_1378 : decode cL_law 1378 = .ok (.iconst 2, 1) := dk_5 (dk_at dksL_law_49 18 rfl rfl)
theorem dL_law_1379 : decode cL_law 1379 = .ok (.iadd, 1) := dk_96 (dk_at dksL_law_49 19 rfl rfl)
theorem dL_law_1380 : decode cL_law 1380 = .ok (.iaload, 1) := dk_46 (dk_at dksL_law_49 20 rfl rfl)
theorem dL_law_1381 : decode cL_law 1381 = .ok (.invokevirtual 224, 3) := dk_182 0 224 (dk_at dksL_law_49 21 rfl rfl)
theorem dL_law_1384 : decode cL_law 1384 = .ok (.istore 6, 2) := dk_54 6 (dk_at dksL_law_50 0 rfl rfl)
theorem dL_law_1386 : decode cL_law 1386 = .ok (.aload_n 2, 1) := dk_44 (dk_at dksL_law_50 2 rfl rfl)
theorem dL_law_1387 : decode cL_law 1387 = .ok (.invokevirtual 166, 3) := dk_182 0 166 (dk_at dksL_law_50 3 rfl rfl)
theorem dL_law_1390 : decode cL_law 1390 = .ok (.iload 5, 2) := dk_21 5 (dk_at dksL_law_50 6 rfl rfl)
theorem dL_law_1392 : decode cL_law 1392 = .ok (.if_icmp .eq 5, 3) := dk_159 0 5 (dk_at dksL_law_50 8 rfl rfl)
theorem dL_law_1395 : decode cL_law 1395 = .ok (.iconst 0, 1) := dk_3 (dk_at dksL_law_50 11 rfl rfl)
theorem dL_law_1396 : decode cL_law 1396 = .ok (.ireturn, 1) := dk_172 (dk_at dksL_law_50 12 rfl rfl)
theorem dL_law_1397 : decode cL_law 1397 = .ok (.iload 5, 2) := dk_21 5 (dk_at dksL_law_50 13 rfl rfl)
theorem dL_law_1399 : decode cL_law 1399 = .ok (.ifCond .ne 15, 3) := dk_154 0 15 (dk_at dksL_law_50 15 rfl rfl)
theorem dL_law_1402 : decode cL_law 1402 = .ok (.aload_n 3, 1) := dk_45 (dk_at dksL_law_50 18 rfl rfl)
theorem dL_law_1403 : decode cL_law 1403 = .ok (.iconst 0, 1) := dk_3 (dk_at dksL_law_50 19 rfl rfl)
theorem dL_law_1404 : decode cL_law 1404 = .ok (.laload, 1) := dk_47 (dk_at dksL_law_50 20 rfl rfl)
theorem dL_law_1405 : decode cL_law 1405 = .ok (.iload 6, 2) := dk_21 6 (dk_at dksL_law_50 21 rfl rfl)
theorem dL_law_1407 : decode cL_law 1407 = .ok (.i2l, 1) := dk_133 (dk_at dksL_law_50 23 rfl rfl)
theorem dL_law_1408 : decode cL_law 1408 = .ok (.lcmp, 1) := dk_148 (dk_at dksL_law_51 0 rfl rfl)
theorem dL_law_1409 : decode cL_law 1409 = .ok (.ifCond .eq 5, 3) := dk_153 0 5 (dk_at dksL_law_51 1 rfl rfl)
theorem dL_law_1412 : decode cL_law 1412 = .ok (.iconst 0, 1) := dk_3 (dk_at dksL_law_51 4 rfl rfl)
theorem dL_law_1413 : decode cL_law 1413 = .ok (.ireturn, 1) := dk_172 (dk_at dksL_law_51 5 rfl rfl)
theorem dL_law_1414 : decode cL_law 1414 = .ok (.goto 1748, 3) := dk_167 6 212 (dk_at dksL_law_51 6 rfl rfl)
theorem dL_law_1417 : decode cL_law 1417 = .ok (.aload_n 1, 1) := dk_43 (dk_at dksL_law_51 9 rfl rfl)
theorem dL_law_1418 : decode cL_law 1418 = .ok (.aload_n 0, 1) := dk_42 (dk_at dksL_law_51 10 rfl rfl)
theorem dL_law_1419 : decode cL_law 1419 = .ok (.iload 4, 2) := dk_21 4 (dk_at dksL_law_51 11 rfl rfl)
theorem dL_law_1421 : decode cL_law 1421 = .ok (.iconst 1, 1) := dk_4 (dk_at dksL_law_51 13 rfl rfl)
theorem dL_law_1422 : decode cL_law 1422 = .ok (.iadd, 1) := dk_96 (dk_at dksL_law_51 14 rfl rfl)
theorem dL_law_1423 : decode cL_law 1423 = .ok (.iaload, 1) := dk_46 (dk_at dksL_law_51 15 rfl rfl)
theorem dL_law_1424 : decode cL_law 1424 = .ok (.aload_n 0, 1) := dk_42 (dk_at dksL_law_51 16 rfl rfl)
theorem dL_law_1425 : decode cL_law 1425 = .ok (.iload 4, 2) := dk_21 4 (dk_at dksL_law_51 17 rfl rfl)
theorem dL_law_1427 : decode cL_law 1427 = .ok (.iconst 2, 1) := dk_5 (dk_at dksL_law_51 19 rfl rfl)
theorem dL_law_1428 : decode cL_law 1428 = .ok (.iadd, 1) := dk_96 (dk_at dksL_law_51 20 rfl rfl)
theorem dL_law_1429 : decode cL_law 1429 = .ok (.iaload, 1) := dk_46 (dk_at dksL_law_51 21 rfl rfl)
theorem dL_law_1430 : decode cL_law 1430 = .ok (.aload_n 3, 1) := dk_45 (dk_at dksL_law_51 22 rfl rfl)
theorem dL_law_1431 : decode cL_law 1431 = .ok (.invokestatic 225, 3) := dk_184 0 225 (dk_at dksL_law_52 0 rfl rfl)
theorem dL_law_1434 : decode cL_law 1434 = .ok (.istore 5, 2) := dk_54 5 (dk_at dksL_law_52 3 rfl rfl)
theorem dL_law_1436 : decode cL_law 1436 = .ok (.aload_n 2, 1) := dk_44 (dk_at dksL_law_52 5 rfl rfl)
theorem dL_law_1437 : decode cL_law 1437 = .ok (.aload_n 0, 1) := dk_42 (dk_at dksL_law_52 6 rfl rfl)
theorem dL_law_1438 : decode cL_law 1438 = .ok (.iload 4, 2) := dk_21 4 (dk_at dksL_law_52 7 rfl rfl)
theorem dL_law_1440 : decode cL_law 1440 = .ok (.iconst 1, 1) := dk_4 (dk_at dksL_law_52 9 rfl rfl)
theorem dL_law_1441 : decode cL_law 1441 = .ok (.iadd, 1) := dk_96 (dk_at dksL_law_52 10 rfl rfl)
theorem dL_law_1442 : decode cL_law 1442 = .ok (.iaload, 1) := dk_46 (dk_at dksL_law_52 11 rfl rfl)
theorem dL_law_1443 : decode cL_law 1443 = .ok (.aload_n 0, 1) := dk_42 (dk_at dksL_law_52 12 rfl rfl)
theorem dL_law_1444 : decode cL_law 1444 = .ok (.iload 4, 2) := dk_21 4 (dk_at dksL_law_52 13 rfl rfl)
theorem dL_law_1446 : decode cL_law 1446 = .ok (.iconst 2, 1) := dk_5 (dk_at dksL_law_52 15 rfl rfl)
theorem dL_law_1447 : decode cL_law 1447 = .ok (.iadd, 1) := dk_96 (dk_at dksL_law_52 16 rfl rfl)
theorem dL_law_1448 : decode cL_law 1448 = .ok (.iaload, 1) := dk_46 (dk_at dksL_law_52 17 rfl rfl)
theorem dL_law_1449 : decode cL_law 1449 = .ok (.invokevirtual 227, 3) := dk_182 0 227 (dk_at dksL_law_52 18 rfl rfl)
theorem dL_law_1452 : decode cL_law 1452 = .ok (.istore 6, 2) := dk_54 6 (dk_at dksL_law_52 21 rfl rfl)
theorem dL_law_1454 : decode cL_law 1454 = .ok (.aload_n 2, 1) := dk_44 (dk_at dksL_law_52 23 rfl rfl)
theorem dL_law_1455 : decode cL_law 1455 = .ok (.invokevirtual 166, 3) := dk_182 0 166 (dk_at dksL_law_53 0 rfl rfl)
theorem dL_law_1458 : decode cL_law 1458 = .ok (.iload 5, 2) := dk_21 5 (dk_at dksL_law_53 3 rfl rfl)
theorem dL_law_1460 : decode cL_law 1460 = .ok (.if_icmp .eq 5, 3) := dk_159 0 5 (dk_at dksL_law_53 5 rfl rfl)
theorem dL_law_1463 : decode cL_law 1463 = .ok (.iconst 0, 1) := dk_3 (dk_at dksL_law_53 8 rfl rfl)
theorem dL_law_1464 : decode cL_law 1464 = .ok (.ireturn, 1) := dk_172 (dk_at dksL_law_53 9 rfl rfl)
theorem dL_law_1465 : decode cL_law 1465 = .ok (.iload 5, 2) := dk_21 5 (dk_at dksL_law_53 10 rfl rfl)
theorem dL_law_1467 : decode cL_law 1467 = .ok (.ifCond .ne 15, 3) := dk_154 0 15 (dk_at dksL_law_53 12 rfl rfl)
theorem dL_law_1470 : decode cL_law 1470 = .ok (.aload_n 3, 1) := dk_45 (dk_at dksL_law_53 15 rfl rfl)
theorem dL_law_1471 : decode cL_law 1471 = .ok (.iconst 0, 1) := dk_3 (dk_at dksL_law_53 16 rfl rfl)
theorem dL_law_1472 : decode cL_law 1472 = .ok (.laload, 1) := dk_47 (dk_at dksL_law_53 17 rfl rfl)
theorem dL_law_1473 : decode cL_law 1473 = .ok (.iload 6, 2) := dk_21 6 (dk_at dksL_law_53 18 rfl rfl)
theorem dL_law_1475 : decode cL_law 1475 = .ok (.i2l, 1) := dk_133 (dk_at dksL_law_53 20 rfl rfl)
theorem dL_law_1476 : decode cL_law 1476 = .ok (.lcmp, 1) := dk_148 (dk_at dksL_law_53 21 rfl rfl)
theorem dL_law_1477 : decode cL_law 1477 = .ok (.ifCond .eq 5, 3) := dk_153 0 5 (dk_at dksL_law_54 0 rfl rfl)
theorem dL_law_1480 : decode cL_law 1480 = .ok (.iconst 0, 1) := dk_3 (dk_at dksL_law_54 3 rfl rfl)
theorem dL_law_1481 : decode cL_law 1481 = .ok (.ireturn, 1) := dk_172 (dk_at dksL_law_54 4 rfl rfl)
theorem dL_law_1482 : decode cL_law 1482 = .ok (.goto 1680, 3) := dk_167 6 144 (dk_at dksL_law_54 5 rfl rfl)
theorem dL_law_1485 : decode cL_law 1485 = .ok (.aload_n 1, 1) := dk_43 (dk_at dksL_law_54 8 rfl rfl)
theorem dL_law_1486 : decode cL_law 1486 = .ok (.invokevirtual 228, 3) := dk_182 0 228 (dk_at dksL_law_54 9 rfl rfl)
theorem dL_law_1489 : decode cL_law 1489 = .ok (.aload_n 2, 1) := dk_44 (dk_at dksL_law_54 12 rfl rfl)
theorem dL_law_1490 : decode cL_law 1490 = .ok (.invokevirtual 232, 3) := dk_182 0 232 (dk_at dksL_law_54 13 rfl rfl)
theorem dL_law_1493 : decode cL_law 1493 = .ok (.if_icmp .eq 1669, 3) := dk_159 6 133 (dk_at dksL_law_54 16 rfl rfl)
theorem dL_law_1496 : decode cL_law 1496 = .ok (.iconst 0, 1) := dk_3 (dk_at dksL_law_54 19 rfl rfl)
theorem dL_law_1497 : decode cL_law 1497 = .ok (.ireturn, 1) := dk_172 (dk_at dksL_law_54 20 rfl rfl)
theorem dL_law_1498 : decode cL_law 1498 = .ok (.aload_n 1, 1) := dk_43 (dk_at dksL_law_54 21 rfl rfl)
theorem dL_law_1499 : decode cL_law 1499 = .ok (.invokevirtual 233, 3) := dk_182 0 233 (dk_at dksL_law_55 0 rfl rfl)
theorem dL_law_1502 : decode cL_law 1502 = .ok (.aload_n 2, 1) := dk_44 (dk_at dksL_law_55 3 rfl rfl)
theorem dL_law_1503 : decode cL_law 1503 = .ok (.invokevirtual 236, 3) := dk_182 0 236 (dk_at dksL_law_55 4 rfl rfl)
theorem dL_law_1506 : decode cL_law 1506 = .ok (.if_icmp .eq 1656, 3) := dk_159 6 120 (dk_at dksL_law_55 7 rfl rfl)
theorem dL_law_1509 : decode cL_law 1509 = .ok (.iconst 0, 1) := dk_3 (dk_at dksL_law_55 10 rfl rfl)
theorem dL_law_1510 : decode cL_law 1510 = .ok (.ireturn, 1) := dk_172 (dk_at dksL_law_55 11 rfl rfl)
theorem dL_law_1511 : decode cL_law 1511 = .ok (.aload_n 1, 1) := dk_43 (dk_at dksL_law_55 12 rfl rfl)
theorem dL_law_1512 : decode cL_law 1512 = .ok (.invokevirtual 237, 3) := dk_182 0 237 (dk_at dksL_law_55 13 rfl rfl)
theorem dL_law_1515 : decode cL_law 1515 = .ok (.aload_n 2, 1) := dk_44 (dk_at dksL_law_55 16 rfl rfl)
theorem dL_law_1516 : decode cL_law 1516 = .ok (.invokevirtual 240, 3) := dk_182 0 240 (dk_at dksL_law_55 17 rfl rfl)
theorem dL_law_1519 : decode cL_law 1519 = .ok (.if_icmp .eq 1643, 3) := dk_159 6 107 (dk_at dksL_law_55 20 rfl rfl)
theorem dL_law_1522 : decode cL_law 1522 = .ok (.iconst 0, 1) := dk_3 (dk_at dksL_law_55 23 rfl rfl)
theorem dL_law_1523 : decode cL_law 1523 = .ok (.ireturn, 1) := dk_172 (dk_at dksL_law_56 0 rfl rfl)
theorem dL_law_1524 : decode cL_law 1524 = .ok (.aload_n 1, 1) := dk_43 (dk_at dksL_law_56 1 rfl rfl)
theorem dL_law_1525 : decode cL_law 1525 = .ok (.aload_n 0, 1) := dk_42 (dk_at dksL_law_56 2 rfl rfl)
theorem dL_law_1526 : decode cL_law 1526 = .ok (.iload 4, 2) := dk_21 4 (dk_at dksL_law_56 3 rfl rfl)
theorem dL_law_1528 : decode cL_law 1528 = .ok (.iconst 1, 1) := dk_4 (dk_at dksL_law_56 5 rfl rfl)
theorem dL_law_1529 : decode cL_law 1529 = .ok (.iadd, 1) := dk_96 (dk_at dksL_law_56 6 rfl rfl)
theorem dL_law_1530 : decode cL_law 1530 = .ok (.iaload, 1) := dk_46 (dk_at dksL_law_56 7 rfl rfl)
theorem dL_law_1531 : decode cL_law 1531 = .ok (.aload_n 0, 1) := dk_42 (dk_at dksL_law_56 8 rfl rfl)
theorem dL_law_1532 : decode cL_law 1532 = .ok (.iload 4, 2) := dk_21 4 (dk_at dksL_law_56 9 rfl rfl)
theorem dL_law_1534 : decode cL_law 1534 = .ok (.iconst 2, 1) := dk_5 (dk_at dksL_law_56 11 rfl rfl)
theorem dL_law_1535 : decode cL_law 1535 = .ok (.iadd, 1) := dk_96 (dk_at dksL_law_56 12 rfl rfl)
theorem dL_law_1536 : decode cL_law 1536 = .ok (.iaload, 1) := dk_46 (dk_at dksL_law_56 13 rfl rfl)
theorem dL_law_1537 : decode cL_law 1537 = .ok (.aload_n 0, 1) := dk_42 (dk_at dksL_law_56 14 rfl rfl)
theorem dL_law_1538 : decode cL_law 1538 = .ok (.iload 4, 2) := dk_21 4 (dk_at dksL_law_56 15 rfl rfl)
theorem dL_law_1540 : decode cL_law 1540 = .ok (.iconst 3, 1) := dk_6 (dk_at dksL_law_56 17 rfl rfl)
theorem dL_law_1541 : decode cL_law 1541 = .ok (.iadd, 1) := dk_96 (dk_at dksL_law_56 18 rfl rfl)
theorem dL_law_1542 : decode cL_law 1542 = .ok (.iaload, 1) := dk_46 (dk_at dksL_law_56 19 rfl rfl)
theorem dL_law_1543 : decode cL_law 1543 = .ok (.aload_n 3, 1) := dk_45 (dk_at dksL_law_56 20 rfl rfl)
theorem dL_law_1544 : decode cL_law 1544 = .ok (.invokestatic 241, 3) := dk_184 0 241 (dk_at dksL_law_56 21 rfl rfl)
theorem dL_law_1547 : decode cL_law 1547 = .ok (.istore 5, 2) := dk_54 5 (dk_at dksL_law_57 0 rfl rfl)
theorem dL_law_1549 : decode cL_law 1549 = .ok (.aload_n 2, 1) := dk_44 (dk_at dksL_law_57 2 rfl rfl)
theorem dL_law_1550 : decode cL_law 1550 = .ok (.aload_n 0, 1) := dk_42 (dk_at dksL_law_57 3 rfl rfl)
theorem dL_law_1551 : decode cL_law 1551 = .ok (.iload 4, 2) := dk_21 4 (dk_at dksL_law_57 4 rfl rfl)
theorem dL_law_1553 : decode cL_law 1553 = .ok (.iconst 1, 1) := dk_4 (dk_at dksL_law_57 6 rfl rfl)
theorem dL_law_1554 : decode cL_law 1554 = .ok (.iadd, 1) := dk_96 (dk_at dksL_law_57 7 rfl rfl)
theorem dL_law_1555 : decode cL_law 1555 = .ok (.iaload, 1) := dk_46 (dk_at dksL_law_57 8 rfl rfl)
theorem dL_law_1556 : decode cL_law 1556 = .ok (.aload_n 0, 1) := dk_42 (dk_at dksL_law_57 9 rfl rfl)
theorem dL_law_1557 : decode cL_law 1557 = .ok (.iload 4, 2) := dk_21 4 (dk_at dksL_law_57 10 rfl rfl)
theorem dL_law_1559 : decode cL_law 1559 = .ok (.iconst 2, 1) := dk_5 (dk_at dksL_law_57 12 rfl rfl)
theorem dL_law_1560 : decode cL_law 1560 = .ok (.iadd, 1) := dk_96 (dk_at dksL_law_57 13 rfl rfl)
theorem dL_law_1561 : decode cL_law 1561 = .ok (.iaload, 1) := dk_46 (dk_at dksL_law_57 14 rfl rfl)
theorem dL_law_1562 : decode cL_law 1562 = .ok (.aload_n 0, 1) := dk_42 (dk_at dksL_law_57 15 rfl rfl)
theorem dL_law_1563 : decode cL_law 1563 = .ok (.iload 4, 2) := dk_21 4 (dk_at dksL_law_57 16 rfl rfl)
theorem dL_law_1565 : decode cL_law 1565 = .ok (.iconst 3, 1) := dk_6 (dk_at dksL_law_57 18 rfl rfl)
theorem dL_law_1566 : decode cL_law 1566 = .ok (.iadd, 1) := dk_96 (dk_at dksL_law_57 19 rfl rfl)
theorem dL_law_1567 : decode cL_law 1567 = .ok (.iaload, 1) := dk_46 (dk_at dksL_law_57 20 rfl rfl)
theorem dL_law_1568 : decode cL_law 1568 = .ok (.invokevirtual 243, 3) := dk_182 0 243 (dk_at dksL_law_57 21 rfl rfl)
theorem dL_law_1571 : decode cL_law 1571 = .ok (.istore 6, 2) := dk_54 6 (dk_at dksL_law_58 0 rfl rfl)
theorem dL_law_1573 : decode cL_law 1573 = .ok (.aload_n 2, 1) := dk_44 (dk_at dksL_law_58 2 rfl rfl)
theorem dL_law_1574 : decode cL_law 1574 = .ok (.invokevirtual 166, 3) := dk_182 0 166 (dk_at dksL_law_58 3 rfl rfl)
theorem dL_law_1577 : decode cL_law 1577 = .ok (.iload 5, 2) := dk_21 5 (dk_at dksL_law_58 6 rfl rfl)
theorem dL_law_1579 : decode cL_law 1579 = .ok (.if_icmp .eq 5, 3) := dk_159 0 5 (dk_at dksL_law_58 8 rfl rfl)
theorem dL_law_1582 : decode cL_law 1582 = .ok (.iconst 0, 1) := dk_3 (dk_at dksL_law_58 11 rfl rfl)
theorem dL_law_1583 : decode cL_law 1583 = .ok (.ireturn, 1) := dk_172 (dk_at dksL_law_58 12 rfl rfl)
theorem dL_law_1584 : decode cL_law 1584 = .ok (.iload 5, 2) := dk_21 5 (dk_at dksL_law_58 13 rfl rfl)
theorem dL_law_1586 : decode cL_law 1586 = .ok (.ifCond .ne 22, 3) := dk_154 0 22 (dk_at dksL_law_58 15 rfl rfl)
theorem dL_law_1589 : decode cL_law 1589 = .ok (.aload_n 3, 1) := dk_45 (dk_at dksL_law_58 18 rfl rfl)
theorem dL_law_1590 : decode cL_law 1590 = .ok (.iconst 0, 1) := dk_3 (dk_at dksL_law_58 19 rfl rfl)
theorem dL_law_1591 : decode cL_law 1591 = .ok (.laload, 1) := dk_47 (dk_at dksL_law_58 20 rfl rfl)
theorem dL_law_1592 : decode cL_law 1592 = .ok (.iload 6, 2) := dk_21 6 (dk_at dksL_law_58 21 rfl rfl)
theorem dL_law_1594 : decode cL_law 1594 = .ok (.ifCond .eq 7, 3) := dk_153 0 7 (dk_at dksL_law_59 0 rfl rfl)
theorem dL_law_1597 : decode cL_law 1597 = .ok (.lconst 1, 1) := dk_10 (dk_at dksL_law_59 3 rfl rfl)
theorem dL_law_1598 : decode cL_law 1598 = .ok (.goto 4, 3) := dk_167 0 4 (dk_at dksL_law_59 4 rfl rfl)
theorem dL_law_1601 : decode cL_law 1601 = .ok (.lconst 0, 1) := dk_9 (dk_at dksL_law_59 7 rfl rfl)
theorem dL_law_1602 : decode cL_law 1602 = .ok (.lcmp, 1) := dk_148 (dk_at dksL_law_59 8 rfl rfl)
theorem dL_law_1603 : decode cL_law 1603 = .ok (.ifCond .eq 5, 3) := dk_153 0 5 (dk_at dksL_law_59 9 rfl rfl)
theorem dL_law_1606 : decode cL_law 1606 = .ok (.iconst 0, 1) := dk_3 (dk_at dksL_law_59 12 rfl rfl)
theorem dL_law_1607 : decode cL_law 1607 = .ok (.ireturn, 1) := dk_172 (dk_at dksL_law_59 13 rfl rfl)
theorem dL_law_1608 : decode cL_law 1608 = .ok (.goto 1554, 3) := dk_167 6 18 (dk_at dksL_law_59 14 rfl rfl)
theorem dL_law_1611 : decode cL_law 1611 = .ok (.aload_n 1, 1) := dk_43 (dk_at dksL_law_59 17 rfl rfl)
theorem dL_law_1612 : decode cL_law 1612 = .ok (.invokevirtual 244, 3) := dk_182 0 244 (dk_at dksL_law_59 18 rfl rfl)
theorem dL_law_1615 : decode cL_law 1615 = .ok (.aload_n 2, 1) := dk_44 (dk_at dksL_law_59 21 rfl rfl)
theorem dL_law_1616 : decode cL_law 1616 = .ok (.invokevirtual 247, 3) := dk_182 0 247 (dk_at dksL_law_60 0 rfl rfl)
theorem dL_law_1619 : decode cL_law 1619 = .ok (.if_icmp .eq 1543, 3) := dk_159 6 7 (dk_at dksL_law_60 3 rfl rfl)
theorem dL_law_1622 : decode cL_law 1622 = .ok (.iconst 0, 1) := dk_3 (dk_at dksL_law_60 6 rfl rfl)
theorem dL_law_1623 : decode cL_law 1623 = .ok (.ireturn, 1) := dk_172 (dk_at dksL_law_60 7 rfl rfl)
theorem dL_law_1624 : decode cL_law 1624 = .ok (.aload_n 1, 1) := dk_43 (dk_at dksL_law_60 8 rfl rfl)
theorem dL_law_1625 : decode cL_law 1625 = .ok (.invokevirtual 248, 3) := dk_182 0 248 (dk_at dksL_law_60 9 rfl rfl)
theorem dL_law_1628 : decode cL_law 1628 = .ok (.aload_n 2, 1) := dk_44 (dk_at dksL_law_60 12 rfl rfl)
theorem dL_law_1629 : decode cL_law 1629 = .ok (.invokevirtual 251, 3) := dk_182 0 251 (dk_at dksL_law_60 13 rfl rfl)
theorem dL_law_1632 : decode cL_law 1632 = .ok (.if_icmp .eq 1530, 3) := dk_159 5 250 (dk_at dksL_law_60 16 rfl rfl)
theorem dL_law_1635 : decode cL_law 1635 = .ok (.iconst 0, 1) := dk_3 (dk_at dksL_law_60 19 rfl rfl)
theorem dL_law_1636 : decode cL_law 1636 = .ok (.ireturn, 1) := dk_172 (dk_at dksL_law_60 20 rfl rfl)
theorem dL_law_1637 : decode cL_law 1637 = .ok (.aload_n 1, 1) := dk_43 (dk_at dksL_law_60 21 rfl rfl)
theorem dL_law_1638 : decode cL_law 1638 = .ok (.aload_n 0, 1) := dk_42 (dk_at dksL_law_60 22 rfl rfl)
theorem dL_law_1639 : decode cL_law 1639 = .ok (.iload 4, 2) := dk_21 4 (dk_at dksL_law_61 0 rfl rfl)
theorem dL_law_1641 : decode cL_law 1641 = .ok (.iconst 1, 1) := dk_4 (dk_at dksL_law_61 2 rfl rfl)
theorem dL_law_1642 : decode cL_law 1642 = .ok (.iadd, 1) := dk_96 (dk_at dksL_law_61 3 rfl rfl)
theorem dL_law_1643 : decode cL_law 1643 = .ok (.iaload, 1) := dk_46 (dk_at dksL_law_61 4 rfl rfl)
theorem dL_law_1644 : decode cL_law 1644 = .ok (.aload_n 3, 1) := dk_45 (dk_at dksL_law_61 5 rfl rfl)
theorem dL_law_1645 : decode cL_law 1645 = .ok (.invokestatic 252, 3) := dk_184 0 252 (dk_at dksL_law_61 6 rfl rfl)
theorem dL_law_1648 : decode cL_law 1648 = .ok (.istore 5, 2) := dk_54 5 (dk_at dksL_law_61 9 rfl rfl)
theorem dL_law_1650 : decode cL_law 1650 = .ok (.aload_n 2, 1) := dk_44 (dk_at dksL_law_61 11 rfl rfl)
theorem dL_law_1651 : decode cL_law 1651 = .ok (.aload_n 0, 1) := dk_42 (dk_at dksL_law_61 12 rfl rfl)
theorem dL_law_1652 : decode cL_law 1652 = .ok (.iload 4, 2) := dk_21 4 (dk_at dksL_law_61 13 rfl rfl)
theorem dL_law_1654 : decode cL_law 1654 = .ok (.iconst 1, 1) := dk_4 (dk_at dksL_law_61 15 rfl rfl)
theorem dL_law_1655 : decode cL_law 1655 = .ok (.iadd, 1) := dk_96 (dk_at dksL_law_61 16 rfl rfl)
theorem dL_law_1656 : decode cL_law 1656 = .ok (.iaload, 1) := dk_46 (dk_at dksL_law_61 17 rfl rfl)
theorem dL_law_1657 : decode cL_law 1657 = .ok (.invokevirtual 254, 3) := dk_182 0 254 (dk_at dksL_law_61 18 rfl rfl)
theorem dL_law_1660 : decode cL_law 1660 = .ok (.istore 6, 2) := dk_54 6 (dk_at dksL_law_61 21 rfl rfl)
theorem dL_law_1662 : decode cL_law 1662 = .ok (.aload_n 2, 1) := dk_44 (dk_at dksL_law_61 23 rfl rfl)
theorem dL_law_1663 : decode cL_law 1663 = .ok (.invokevirtual 166, 3) := dk_182 0 166 (dk_at dksL_law_62 0 rfl rfl)
theorem dL_law_1666 : decode cL_law 1666 = .ok (.iload 5, 2) := dk_21 5 (dk_at dksL_law_62 3 rfl rfl)
theorem dL_law_1668 : decode cL_law 1668 = .ok (.if_icmp .eq 5, 3) := dk_159 0 5 (dk_at dksL_law_62 5 rfl rfl)
theorem dL_law_1671 : decode cL_law 1671 = .ok (.iconst 0, 1) := dk_3 (dk_at dksL_law_62 8 rfl rfl)
theorem dL_law_1672 : decode cL_law 1672 = .ok (.ireturn, 1) := dk_172 (dk_at dksL_law_62 9 rfl rfl)
theorem dL_law_1673 : decode cL_law 1673 = .ok (.iload 5, 2) := dk_21 5 (dk_at dksL_law_62 10 rfl rfl)
theorem dL_law_1675 : decode cL_law 1675 = .ok (.ifCond .ne 15, 3) := dk_154 0 15 (dk_at dksL_law_62 12 rfl rfl)
theorem dL_law_1678 : decode cL_law 1678 = .ok (.aload_n 3, 1) := dk_45 (dk_at dksL_law_62 15 rfl rfl)
theorem dL_law_1679 : decode cL_law 1679 = .ok (.iconst 0, 1) := dk_3 (dk_at dksL_law_62 16 rfl rfl)
theorem dL_law_1680 : decode cL_law 1680 = .ok (.laload, 1) := dk_47 (dk_at dksL_law_62 17 rfl rfl)
theorem dL_law_1681 : decode cL_law 1681 = .ok (.iload 6, 2) := dk_21 6 (dk_at dksL_law_62 18 rfl rfl)
theorem dL_law_1683 : decode cL_law 1683 = .ok (.i2l, 1) := dk_133 (dk_at dksL_law_62 20 rfl rfl)
theorem dL_law_1684 : decode cL_law 1684 = .ok (.lcmp, 1) := dk_148 (dk_at dksL_law_62 21 rfl rfl)
theorem dL_law_1685 : decode cL_law 1685 = .ok (.ifCond .eq 5, 3) := dk_153 0 5 (dk_at dksL_law_63 0 rfl rfl)
theorem dL_law_1688 : decode cL_law 1688 = .ok (.iconst 0, 1) := dk_3 (dk_at dksL_law_63 3 rfl rfl)
theorem dL_law_1689 : decode cL_law 1689 = .ok (.ireturn, 1) := dk_172 (dk_at dksL_law_63 4 rfl rfl)
theorem dL_law_1690 : decode cL_law 1690 = .ok (.goto 1472, 3) := dk_167 5 192 (dk_at dksL_law_63 5 rfl rfl)
theorem dL_law_1693 : decode cL_law 1693 = .ok (.aload_n 1, 1) := dk_43 (dk_at dksL_law_63 8 rfl rfl)
theorem dL_law_1694 : decode cL_law 1694 = .ok (.aload_n 0, 1) := dk_42 (dk_at dksL_law_63 9 rfl rfl)
theorem dL_law_1695 : decode cL_law 1695 = .ok (.iload 4, 2) := dk_21 4 (dk_at dksL_law_63 10 rfl rfl)
theorem dL_law_1697 : decode cL_law 1697 = .ok (.iconst 1, 1) := dk_4 (dk_at dksL_law_63 12 rfl rfl)
theorem dL_law_1698 : decode cL_law 1698 = .ok (.iadd, 1) := dk_96 (dk_at dksL_law_63 13 rfl rfl)
theorem dL_law_1699 : decode cL_law 1699 = .ok (.iaload, 1) := dk_46 (dk_at dksL_law_63 14 rfl rfl)
theorem dL_law_1700 : decode cL_law 1700 = .ok (.aload_n 3, 1) := dk_45 (dk_at dksL_law_63 15 rfl rfl)
theorem dL_law_1701 : decode cL_law 1701 = .ok (.invokestatic 255, 3) := dk_184 0 255 (dk_at dksL_law_63 16 rfl rfl)
theorem dL_law_1704 : decode cL_law 1704 = .ok (.istore 5, 2) := dk_54 5 (dk_at dksL_law_63 19 rfl rfl)
theorem dL_law_1706 : decode cL_law 1706 = .ok (.aload_n 2, 1) := dk_44 (dk_at dksL_law_63 21 rfl rfl)
theorem dL_law_1707 : decode cL_law 1707 = .ok (.aload_n 0, 1) := dk_42 (dk_at dksL_law_63 22 rfl rfl)
theorem dL_law_1708 : decode cL_law 1708 = .ok (.iload 4, 2) := dk_21 4 (dk_at dksL_law_64 0 rfl rfl)
theorem dL_law_1710 : decode cL_law 1710 = .ok (.iconst 1, 1) := dk_4 (dk_at dksL_law_64 2 rfl rfl)
theorem dL_law_1711 : decode cL_law 1711 = .ok (.iadd, 1) := dk_96 (dk_at dksL_law_64 3 rfl rfl)
theorem dL_law_1712 : decode cL_law 1712 = .ok (.iaload, 1) := dk_46 (dk_at dksL_law_64 4 rfl rfl)
theorem dL_law_1713 : decode cL_law 1713 = .ok (.invokevirtual 257, 3) := dk_182 1 1 (dk_at dksL_law_64 5 rfl rfl)
theorem dL_law_1716 : decode cL_law 1716 = .ok (.istore 6, 2) := dk_54 6 (dk_at dksL_law_64 8 rfl rfl)
theorem dL_law_1718 : decode cL_law 1718 = .ok (.aload_n 2, 1) := dk_44 (dk_at dksL_law_64 10 rfl rfl)
theorem dL_law_1719 : decode cL_law 1719 = .ok (.invokevirtual 166, 3) := dk_182 0 166 (dk_at dksL_law_64 11 rfl rfl)
theorem dL_law_1722 : decode cL_law 1722 = .ok (.iload 5, 2) := dk_21 5 (dk_at dksL_law_64 14 rfl rfl)
theorem dL_law_1724 : decode cL_law 1724 = .ok (.if_icmp .eq 5, 3) := dk_159 0 5 (dk_at dksL_law_64 16 rfl rfl)
theorem dL_law_1727 : decode cL_law 1727 = .ok (.iconst 0, 1) := dk_3 (dk_at dksL_law_64 19 rfl rfl)
theorem dL_law_1728 : decode cL_law 1728 = .ok (.ireturn, 1) := dk_172 (dk_at dksL_law_64 20 rfl rfl)
theorem dL_law_1729 : decode cL_law 1729 = .ok (.iload 5, 2) := dk_21 5 (dk_at dksL_law_64 21 rfl rfl)
theorem dL_law_1731 : decode cL_law 1731 = .ok (.ifCond .ne 15, 3) := dk_154 0 15 (dk_at dksL_law_65 0 rfl rfl)
theorem dL_law_1734 : decode cL_law 1734 = .ok (.aload_n 3, 1) := dk_45 (dk_at dksL_law_65 3 rfl rfl)
theorem dL_law_1735 : decode cL_law 1735 = .ok (.iconst 0, 1) := dk_3 (dk_at dksL_law_65 4 rfl rfl)
theorem dL_law_1736 : decode cL_law 1736 = .ok (.laload, 1) := dk_47 (dk_at dksL_law_65 5 rfl rfl)
theorem dL_law_1737 : decode cL_law 1737 = .ok (.iload 6, 2) := dk_21 6 (dk_at dksL_law_65 6 rfl rfl)
theorem dL_law_1739 : decode cL_law 1739 = .ok (.i2l, 1) := dk_133 (dk_at dksL_law_65 8 rfl rfl)
theorem dL_law_1740 : decode cL_law 1740 = .ok (.lcmp, 1) := dk_148 (dk_at dksL_law_65 9 rfl rfl)
theorem dL_law_1741 : decode cL_law 1741 = .ok (.ifCond .eq 5, 3) := dk_153 0 5 (dk_at dksL_law_65 10 rfl rfl)
theorem dL_law_1744 : decode cL_law 1744 = .ok (.iconst 0, 1) := dk_3 (dk_at dksL_law_65 13 rfl rfl)
theorem dL_law_1745 : decode cL_law 1745 = .ok (.ireturn, 1) := dk_172 (dk_at dksL_law_65 14 rfl rfl)
theorem dL_law_1746 : decode cL_law 1746 = .ok (.goto 1416, 3) := dk_167 5 136 (dk_at dksL_law_65 15 rfl rfl)
theorem dL_law_1749 : decode cL_law 1749 = .ok (.aload_n 1, 1) := dk_43 (dk_at dksL_law_65 18 rfl rfl)
theorem dL_law_1750 : decode cL_law 1750 = .ok (.aload_n 0, 1) := dk_42 (dk_at dksL_law_65 19 rfl rfl)
theorem dL_law_1751 : decode cL_law 1751 = .ok (.iload 4, 2) := dk_21 4 (dk_at dksL_law_65 20 rfl rfl)
theorem dL_law_1753 : decode cL_law 1753 = .ok (.iconst 1, 1) := dk_4 (dk_at dksL_law_65 22 rfl rfl)
theorem dL_law_1754 : decode cL_law 1754 = .ok (.iadd, 1) := dk_96 (dk_at dksL_law_65 23 rfl rfl)
theorem dL_law_1755 : decode cL_law 1755 = .ok (.iaload, 1) := dk_46 (dk_at dksL_law_66 0 rfl rfl)
theorem dL_law_1756 : decode cL_law 1756 = .ok (.aload_n 0, 1) := dk_42 (dk_at dksL_law_66 1 rfl rfl)
theorem dL_law_1757 : decode cL_law 1757 = .ok (.iload 4, 2) := dk_21 4 (dk_at dksL_law_66 2 rfl rfl)
theorem dL_law_1759 : decode cL_law 1759 = .ok (.iconst 2, 1) := dk_5 (dk_at dksL_law_66 4 rfl rfl)
theorem dL_law_1760 : decode cL_law 1760 = .ok (.iadd, 1) := dk_96 (dk_at dksL_law_66 5 rfl rfl)
theorem dL_law_1761 : decode cL_law 1761 = .ok (.iaload, 1) := dk_46 (dk_at dksL_law_66 6 rfl rfl)
theorem dL_law_1762 : decode cL_law 1762 = .ok (.aload_n 0, 1) := dk_42 (dk_at dksL_law_66 7 rfl rfl)
theorem dL_law_1763 : decode cL_law 1763 = .ok (.iload 4, 2) := dk_21 4 (dk_at dksL_law_66 8 rfl rfl)
theorem dL_law_1765 : decode cL_law 1765 = .ok (.iconst 3, 1) := dk_6 (dk_at dksL_law_66 10 rfl rfl)
theorem dL_law_1766 : decode cL_law 1766 = .ok (.iadd, 1) := dk_96 (dk_at dksL_law_66 11 rfl rfl)
theorem dL_law_1767 : decode cL_law 1767 = .ok (.iaload, 1) := dk_46 (dk_at dksL_law_66 12 rfl rfl)
theorem dL_law_1768 : decode cL_law 1768 = .ok (.aload_n 3, 1) := dk_45 (dk_at dksL_law_66 13 rfl rfl)
theorem dL_law_1769 : decode cL_law 1769 = .ok (.invokestatic 258, 3) := dk_184 1 2 (dk_at dksL_law_66 14 rfl rfl)
theorem dL_law_1772 : decode cL_law 1772 = .ok (.istore 5, 2) := dk_54 5 (dk_at dksL_law_66 17 rfl rfl)
theorem dL_law_1774 : decode cL_law 1774 = .ok (.aload_n 2, 1) := dk_44 (dk_at dksL_law_66 19 rfl rfl)
theorem dL_law_1775 : decode cL_law 1775 = .ok (.aload_n 0, 1) := dk_42 (dk_at dksL_law_66 20 rfl rfl)
theorem dL_law_1776 : decode cL_law 1776 = .ok (.iload 4, 2) := dk_21 4 (dk_at dksL_law_66 21 rfl rfl)
theorem dL_law_1778 : decode cL_law 1778 = .ok (.iconst 1, 1) := dk_4 (dk_at dksL_law_66 23 rfl rfl)
theorem dL_law_1779 : decode cL_law 1779 = .ok (.iadd, 1) := dk_96 (dk_at dksL_law_67 0 rfl rfl)
theorem dL_law_1780 : decode cL_law 1780 = .ok (.iaload, 1) := dk_46 (dk_at dksL_law_67 1 rfl rfl)
theorem dL_law_1781 : decode cL_law 1781 = .ok (.aload_n 0, 1) := dk_42 (dk_at dksL_law_67 2 rfl rfl)
theorem dL_law_1782 : decode cL_law 1782 = .ok (.iload 4, 2) := dk_21 4 (dk_at dksL_law_67 3 rfl rfl)
theorem dL_law_1784 : decode cL_law 1784 = .ok (.iconst 2, 1) := dk_5 (dk_at dksL_law_67 5 rfl rfl)
theorem dL_law_1785 : decode cL_law 1785 = .ok (.iadd, 1) := dk_96 (dk_at dksL_law_67 6 rfl rfl)
theorem dL_law_1786 : decode cL_law 1786 = .ok (.iaload, 1) := dk_46 (dk_at dksL_law_67 7 rfl rfl)
theorem dL_law_1787 : decode cL_law 1787 = .ok (.aload_n 0, 1) := dk_42 (dk_at dksL_law_67 8 rfl rfl)
theorem dL_law_1788 : decode cL_law 1788 = .ok (.iload 4, 2) := dk_21 4 (dk_at dksL_law_67 9 rfl rfl)
theorem dL_law_1790 : decode cL_law 1790 = .ok (.iconst 3, 1) := dk_6 (dk_at dksL_law_67 11 rfl rfl)
theorem dL_law_1791 : decode cL_law 1791 = .ok (.iadd, 1) := dk_96 (dk_at dksL_law_67 12 rfl rfl)
theorem dL_law_1792 : decode cL_law 1792 = .ok (.iaload, 1) := dk_46 (dk_at dksL_law_67 13 rfl rfl)
theorem dL_law_1793 : decode cL_law 1793 = .ok (.invokevirtual 260, 3) := dk_182 1 4 (dk_at dksL_law_67 14 rfl rfl)
theorem dL_law_1796 : decode cL_law 1796 = .ok (.istore 6, 2) := dk_54 6 (dk_at dksL_law_67 17 rfl rfl)
theorem dL_law_1798 : decode cL_law 1798 = .ok (.aload_n 2, 1) := dk_44 (dk_at dksL_law_67 19 rfl rfl)
theorem dL_law_1799 : decode cL_law 1799 = .ok (.invokevirtual 166, 3) := dk_182 0 166 (dk_at dksL_law_67 20 rfl rfl)
theorem dL_law_1802 : decode cL_law 1802 = .ok (.iload 5, 2) := dk_21 5 (dk_at dksL_law_68 0 rfl rfl)
theorem dL_law_1804 : decode cL_law 1804 = .ok (.if_icmp .eq 5, 3) := dk_159 0 5 (dk_at dksL_law_68 2 rfl rfl)
theorem dL_law_1807 : decode cL_law 1807 = .ok (.iconst 0, 1) := dk_3 (dk_at dksL_law_68 5 rfl rfl)
theorem dL_law_1808 : decode cL_law 1808 = .ok (.ireturn, 1) := dk_172 (dk_at dksL_law_68 6 rfl rfl)
theorem dL_law_1809 : decode cL_law 1809 = .ok (.iload 5, 2) := dk_21 5 (dk_at dksL_law_68 7 rfl rfl)
theorem dL_law_1811 : decode cL_law 1811 = .ok (.ifCond .ne 15, 3) := dk_154 0 15 (dk_at dksL_law_68 9 rfl rfl)
theorem dL_law_1814 : decode cL_law 1814 = .ok (.aload_n 3, 1) := dk_45 (dk_at dksL_law_68 12 rfl rfl)
theorem dL_law_1815 : decode cL_law 1815 = .ok (.iconst 0, 1) := dk_3 (dk_at dksL_law_68 13 rfl rfl)
theorem dL_law_1816 : decode cL_law 1816 = .ok (.laload, 1) := dk_47 (dk_at dksL_law_68 14 rfl rfl)
theorem dL_law_1817 : decode cL_law 1817 = .ok (.iload 6, 2) := dk_21 6 (dk_at dksL_law_68 15 rfl rfl)
theorem dL_law_1819 : decode cL_law 1819 = .ok (.i2l, 1) := dk_133 (dk_at dksL_law_68 17 rfl rfl)
theorem dL_law_1820 : decode cL_law 1820 = .ok (.lcmp, 1) := dk_148 (dk_at dksL_law_68 18 rfl rfl)
theorem dL_law_1821 : decode cL_law 1821 = .ok (.ifCond .eq 5, 3) := dk_153 0 5 (dk_at dksL_law_68 19 rfl rfl)
theorem dL_law_1824 : decode cL_law 1824 = .ok (.iconst 0, 1) := dk_3 (dk_at dksL_law_68 22 rfl rfl)
theorem dL_law_1825 : decode cL_law 1825 = .ok (.ireturn, 1) := dk_172 (dk_at dksL_law_68 23 rfl rfl)
theorem dL_law_1826 : decode cL_law 1826 = .ok (.goto 1336, 3) := dk_167 5 56 (dk_at dksL_law_69 0 rfl rfl)
theorem dL_law_1829 : decode cL_law 1829 = .ok (.aload_n 1, 1) := dk_43 (dk_at dksL_law_69 3 rfl rfl)
theorem dL_law_1830 : decode cL_law 1830 = .ok (.aload_n 3, 1) := dk_45 (dk_at dksL_law_69 4 rfl rfl)
theorem dL_law_1831 : decode cL_law 1831 = .ok (.invokestatic 261, 3) := dk_184 1 5 (dk_at dksL_law_69 5 rfl rfl)
theorem dL_law_1834 : decode cL_law 1834 = .ok (.istore 5, 2) := dk_54 5 (dk_at dksL_law_69 8 rfl rfl)
theorem dL_law_1836 : decode cL_law 1836 = .ok (.aload_n 2, 1) := dk_44 (dk_at dksL_law_69 10 rfl rfl)
theorem dL_law_1837 : decode cL_law 1837 = .ok (.invokevirtual 263, 3) := dk_182 1 7 (dk_at dksL_law_69 11 rfl rfl)
theorem dL_law_1840 : decode cL_law 1840 = .ok (.istore 6, 2) := dk_54 6 (dk_at dksL_law_69 14 rfl rfl)
theorem dL_law_1842 : decode cL_law 1842 = .ok (.aload_n 2, 1) := dk_44 (dk_at dksL_law_69 16 rfl rfl)
theorem dL_law_1843 : decode cL_law 1843 = .ok (.invokevirtual 166, 3) := dk_182 0 166 (dk_at dksL_law_69 17 rfl rfl)
theorem dL_law_1846 : decode cL_law 1846 = .ok (.iload 5, 2) := dk_21 5 (dk_at dksL_law_69 20 rfl rfl)
theorem dL_law_1848 : decode cL_law 1848 = .ok (.if_icmp .eq 5, 3) := dk_159 0 5 (dk_at dksL_law_70 0 rfl rfl)
theorem dL_law_1851 : decode cL_law 1851 = .ok (.iconst 0, 1) := dk_3 (dk_at dksL_law_70 3 rfl rfl)
theorem dL_law_1852 : decode cL_law 1852 = .ok (.ireturn, 1) := dk_172 (dk_at dksL_law_70 4 rfl rfl)
theorem dL_law_1853 : decode cL_law 1853 = .ok (.iload 5, 2) := dk_21 5 (dk_at dksL_law_70 5 rfl rfl)
theorem dL_law_1855 : decode cL_law 1855 = .ok (.ifCond .ne 15, 3) := dk_154 0 15 (dk_at dksL_law_70 7 rfl rfl)
theorem dL_law_1858 : decode cL_law 1858 = .ok (.aload_n 3, 1) := dk_45 (dk_at dksL_law_70 10 rfl rfl)
theorem dL_law_1859 : decode cL_law 1859 = .ok (.iconst 0, 1) := dk_3 (dk_at dksL_law_70 11 rfl rfl)
theorem dL_law_1860 : decode cL_law 1860 = .ok (.laload, 1) := dk_47 (dk_at dksL_law_70 12 rfl rfl)
theorem dL_law_1861 : decode cL_law 1861 = .ok (.iload 6, 2) := dk_21 6 (dk_at dksL_law_70 13 rfl rfl)
theorem dL_law_1863 : decode cL_law 1863 = .ok (.i2l, 1) := dk_133 (dk_at dksL_law_70 15 rfl rfl)
theorem dL_law_1864 : decode cL_law 1864 = .ok (.lcmp, 1) := dk_148 (dk_at dksL_law_70 16 rfl rfl)
theorem dL_law_1865 : decode cL_law 1865 = .ok (.ifCond .eq 5, 3) := dk_153 0 5 (dk_at dksL_law_70 17 rfl rfl)
theorem dL_law_1868 : decode cL_law 1868 = .ok (.iconst 0, 1) := dk_3 (dk_at dksL_law_70 20 rfl rfl)
theorem dL_law_1869 : decode cL_law 1869 = .ok (.ireturn, 1) := dk_172 (dk_at dksL_law_70 21 rfl rfl)
theorem dL_law_1870 : decode cL_law 1870 = .ok (.goto 1292, 3) := dk_167 5 12 (dk_at dksL_law_71 0 rfl rfl)
theorem dL_law_1873 : decode cL_law 1873 = .ok (.aload_n 1, 1) := dk_43 (dk_at dksL_law_71 3 rfl rfl)
theorem dL_law_1874 : decode cL_law 1874 = .ok (.aload_n 0, 1) := dk_42 (dk_at dksL_law_71 4 rfl rfl)
theorem dL_law_1875 : decode cL_law 1875 = .ok (.iload 4, 2) := dk_21 4 (dk_at dksL_law_71 5 rfl rfl)
theorem dL_law_1877 : decode cL_law 1877 = .ok (.iconst 1, 1) := dk_4 (dk_at dksL_law_71 7 rfl rfl)
theorem dL_law_1878 : decode cL_law 1878 = .ok (.iadd, 1) := dk_96 (dk_at dksL_law_71 8 rfl rfl)
theorem dL_law_1879 : decode cL_law 1879 = .ok (.iaload, 1) := dk_46 (dk_at dksL_law_71 9 rfl rfl)
theorem dL_law_1880 : decode cL_law 1880 = .ok (.aload_n 3, 1) := dk_45 (dk_at dksL_law_71 10 rfl rfl)
theorem dL_law_1881 : decode cL_law 1881 = .ok (.invokestatic 264, 3) := dk_184 1 8 (dk_at dksL_law_71 11 rfl rfl)
theorem dL_law_1884 : decode cL_law 1884 = .ok (.istore 5, 2) := dk_54 5 (dk_at dksL_law_71 14 rfl rfl)
theorem dL_law_1886 : decode cL_law 1886 = .ok (.aload_n 2, 1) := dk_44 (dk_at dksL_law_71 16 rfl rfl)
theorem dL_law_1887 : decode cL_law 1887 = .ok (.aload_n 0, 1) := dk_42 (dk_at dksL_law_71 17 rfl rfl)
theorem dL_law_1888 : decode cL_law 1888 = .ok (.iload 4, 2) := dk_21 4 (dk_at dksL_law_71 18 rfl rfl)
theorem dL_law_1890 : decode cL_law 1890 = .ok (.iconst 1, 1) := dk_4 (dk_at dksL_law_71 20 rfl rfl)
theorem dL_law_1891 : decode cL_law 1891 = .ok (.iadd, 1) := dk_96 (dk_at dksL_law_71 21 rfl rfl)
theorem dL_law_1892 : decode cL_law 1892 = .ok (.iaload, 1) := dk_46 (dk_at dksL_law_71 22 rfl rfl)
theorem dL_law_1893 : decode cL_law 1893 = .ok (.invokevirtual 266, 3) := dk_182 1 10 (dk_at dksL_law_72 0 rfl rfl)
theorem dL_law_1896 : decode cL_law 1896 = .ok (.istore 6, 2) := dk_54 6 (dk_at dksL_law_72 3 rfl rfl)
theorem dL_law_1898 : decode cL_law 1898 = .ok (.aload_n 2, 1) := dk_44 (dk_at dksL_law_72 5 rfl rfl)
theorem dL_law_1899 : decode cL_law 1899 = .ok (.invokevirtual 166, 3) := dk_182 0 166 (dk_at dksL_law_72 6 rfl rfl)
theorem dL_law_1902 : decode cL_law 1902 = .ok (.iload 5, 2) := dk_21 5 (dk_at dksL_law_72 9 rfl rfl)
theorem dL_law_1904 : decode cL_law 1904 = .ok (.if_icmp .eq 5, 3) := dk_159 0 5 (dk_at dksL_law_72 11 rfl rfl)
theorem dL_law_1907 : decode cL_law 1907 = .ok (.iconst 0, 1) := dk_3 (dk_at dksL_law_72 14 rfl rfl)
theorem dL_law_1908 : decode cL_law 1908 = .ok (.ireturn, 1) := dk_172 (dk_at dksL_law_72 15 rfl rfl)
theorem dL_law_1909 : decode cL_law 1909 = .ok (.iload 5, 2) := dk_21 5 (dk_at dksL_law_72 16 rfl rfl)
theorem dL_law_1911 : decode cL_law 1911 = .ok (.ifCond .ne 22, 3) := dk_154 0 22 (dk_at dksL_law_72 18 rfl rfl)
theorem dL_law_1914 : decode cL_law 1914 = .ok (.aload_n 3, 1) := dk_45 (dk_at dksL_law_72 21 rfl rfl)
theorem dL_law_1915 : decode cL_law 1915 = .ok (.iconst 0, 1) := dk_3 (dk_at dksL_law_72 22 rfl rfl)
theorem dL_law_1916 : decode cL_law 1916 = .ok (.laload, 1) := dk_47 (dk_at dksL_law_72 23 rfl rfl)
theorem dL_law_1917 : decode cL_law 1917 = .ok (.iload 6, 2) := dk_21 6 (dk_at dksL_law_73 0 rfl rfl)
theorem dL_law_1919 : decode cL_law 1919 = .ok (.ifCond .eq 7, 3) := dk_153 0 7 (dk_at dksL_law_73 2 rfl rfl)
theorem dL_law_1922 : decode cL_law 1922 = .ok (.lconst 1, 1) := dk_10 (dk_at dksL_law_73 5 rfl rfl)
theorem dL_law_1923 : decode cL_law 1923 = .ok (.goto 4, 3) := dk_167 0 4 (dk_at dksL_law_73 6 rfl rfl)
theorem dL_law_1926 : decode cL_law 1926 = .ok (.lconst 0, 1) := dk_9 (dk_at dksL_law_73 9 rfl rfl)
theorem dL_law_1927 : decode cL_law 1927 = .ok (.lcmp, 1) := dk_148 (dk_at dksL_law_73 10 rfl rfl)
theorem dL_law_1928 : decode cL_law 1928 = .ok (.ifCond .eq 5, 3) := dk_153 0 5 (dk_at dksL_law_73 11 rfl rfl)
theorem dL_law_1931 : decode cL_law 1931 = .ok (.iconst 0, 1) := dk_3 (dk_at dksL_law_73 14 rfl rfl)
theorem dL_law_1932 : decode cL_law 1932 = .ok (.ireturn, 1) := dk_172 (dk_at dksL_law_73 15 rfl rfl)
theorem dL_law_1933 : decode cL_law 1933 = .ok (.goto 1229, 3) := dk_167 4 205 (dk_at dksL_law_73 16 rfl rfl)
theorem dL_law_1936 : decode cL_law 1936 = .ok (.aload_n 1, 1) := dk_43 (dk_at dksL_law_73 19 rfl rfl)
theorem dL_law_1937 : decode cL_law 1937 = .ok (.aload_n 0, 1) := dk_42 (dk_at dksL_law_73 20 rfl rfl)
theorem dL_law_1938 : decode cL_law 1938 = .ok (.iload 4, 2) := dk_21 4 (dk_at dksL_law_73 21 rfl rfl)
theorem dL_law_1940 : decode cL_law 1940 = .ok (.iconst 1, 1) := dk_4 (dk_at dksL_law_73 23 rfl rfl)
theorem dL_law_1941 : decode cL_law 1941 = .ok (.iadd, 1) := dk_96 (dk_at dksL_law_74 0 rfl rfl)
theorem dL_law_1942 : decode cL_law 1942 = .ok (.iaload, 1) := dk_46 (dk_at dksL_law_74 1 rfl rfl)
theorem dL_law_1943 : decode cL_law 1943 = .ok (.aload_n 3, 1) := dk_45 (dk_at dksL_law_74 2 rfl rfl)
theorem dL_law_1944 : decode cL_law 1944 = .ok (.invokestatic 267, 3) := dk_184 1 11 (dk_at dksL_law_74 3 rfl rfl)
theorem dL_law_1947 : decode cL_law 1947 = .ok (.istore 5, 2) := dk_54 5 (dk_at dksL_law_74 6 rfl rfl)
theorem dL_law_1949 : decode cL_law 1949 = .ok (.aload_n 2, 1) := dk_44 (dk_at dksL_law_74 8 rfl rfl)
theorem dL_law_1950 : decode cL_law 1950 = .ok (.aload_n 0, 1) := dk_42 (dk_at dksL_law_74 9 rfl rfl)
theorem dL_law_1951 : decode cL_law 1951 = .ok (.iload 4, 2) := dk_21 4 (dk_at dksL_law_74 10 rfl rfl)
theorem dL_law_1953 : decode cL_law 1953 = .ok (.iconst 1, 1) := dk_4 (dk_at dksL_law_74 12 rfl rfl)
theorem dL_law_1954 : decode cL_law 1954 = .ok (.iadd, 1) := dk_96 (dk_at dksL_law_74 13 rfl rfl)
theorem dL_law_1955 : decode cL_law 1955 = .ok (.iaload, 1) := dk_46 (dk_at dksL_law_74 14 rfl rfl)
theorem dL_law_1956 : decode cL_law 1956 = .ok (.invokevirtual 269, 3) := dk_182 1 13 (dk_at dksL_law_74 15 rfl rfl)
theorem dL_law_1959 : decode cL_law 1959 = .ok (.istore 6, 2) := dk_54 6 (dk_at dksL_law_74 18 rfl rfl)
theorem dL_law_1961 : decode cL_law 1961 = .ok (.aload_n 2, 1) := dk_44 (dk_at dksL_law_74 20 rfl rfl)
theorem dL_law_1962 : decode cL_law 1962 = .ok (.invokevirtual 166, 3) := dk_182 0 166 (dk_at dksL_law_74 21 rfl rfl)
theorem dL_law_1965 : decode cL_law 1965 = .ok (.iload 5, 2) := dk_21 5 (dk_at dksL_law_75 0 rfl rfl)
theorem dL_law_1967 : decode cL_law 1967 = .ok (.if_icmp .eq 5, 3) := dk_159 0 5 (dk_at dksL_law_75 2 rfl rfl)
theorem dL_law_1970 : decode cL_law 1970 = .ok (.iconst 0, 1) := dk_3 (dk_at dksL_law_75 5 rfl rfl)
theorem dL_law_1971 : decode cL_law 1971 = .ok (.ireturn, 1) := dk_172 (dk_at dksL_law_75 6 rfl rfl)
theorem dL_law_1972 : decode cL_law 1972 = .ok (.iload 5, 2) := dk_21 5 (dk_at dksL_law_75 7 rfl rfl)
theorem dL_law_1974 : decode cL_law 1974 = .ok (.ifCond .ne 22, 3) := dk_154 0 22 (dk_at dksL_law_75 9 rfl rfl)
theorem dL_law_1977 : decode cL_law 1977 = .ok (.aload_n 3, 1) := dk_45 (dk_at dksL_law_75 12 rfl rfl)
theorem dL_law_1978 : decode cL_law 1978 = .ok (.iconst 0, 1) := dk_3 (dk_at dksL_law_75 13 rfl rfl)
theorem dL_law_1979 : decode cL_law 1979 = .ok (.laload, 1) := dk_47 (dk_at dksL_law_75 14 rfl rfl)
theorem dL_law_1980 : decode cL_law 1980 = .ok (.iload 6, 2) := dk_21 6 (dk_at dksL_law_75 15 rfl rfl)
theorem dL_law_1982 : decode cL_law 1982 = .ok (.ifCond .eq 7, 3) := dk_153 0 7 (dk_at dksL_law_75 17 rfl rfl)
theorem dL_law_1985 : decode cL_law 1985 = .ok (.lconst 1, 1) := dk_10 (dk_at dksL_law_75 20 rfl rfl)
theorem dL_law_1986 : decode cL_law 1986 = .ok (.goto 4, 3) := dk_167 0 4 (dk_at dksL_law_75 21 rfl rfl)
theorem dL_law_1989 : decode cL_law 1989 = .ok (.lconst 0, 1) := dk_9 (dk_at dksL_law_76 0 rfl rfl)
theorem dL_law_1990 : decode cL_law 1990 = .ok (.lcmp, 1) := dk_148 (dk_at dksL_law_76 1 rfl rfl)
theorem dL_law_1991 : decode cL_law 1991 = .ok (.ifCond .eq 5, 3) := dk_153 0 5 (dk_at dksL_law_76 2 rfl rfl)
theorem dL_law_1994 : decode cL_law 1994 = .ok (.iconst 0, 1) := dk_3 (dk_at dksL_law_76 5 rfl rfl)
theorem dL_law_1995 : decode cL_law 1995 = .ok (.ireturn, 1) := dk_172 (dk_at dksL_law_76 6 rfl rfl)
theorem dL_law_1996 : decode cL_law 1996 = .ok (.goto 1166, 3) := dk_167 4 142 (dk_at dksL_law_76 7 rfl rfl)
theorem dL_law_1999 : decode cL_law 1999 = .ok (.aload_n 1, 1) := dk_43 (dk_at dksL_law_76 10 rfl rfl)
theorem dL_law_2000 : decode cL_law 2000 = .ok (.aload_n 0, 1) := dk_42 (dk_at dksL_law_76 11 rfl rfl)
theorem dL_law_2001 : decode cL_law 2001 = .ok (.iload 4, 2) := dk_21 4 (dk_at dksL_law_76 12 rfl rfl)
theorem dL_law_2003 : decode cL_law 2003 = .ok (.iconst 1, 1) := dk_4 (dk_at dksL_law_76 14 rfl rfl)
theorem dL_law_2004 : decode cL_law 2004 = .ok (.iadd, 1) := dk_96 (dk_at dksL_law_76 15 rfl rfl)
theorem dL_law_2005 : decode cL_law 2005 = .ok (.iaload, 1) := dk_46 (dk_at dksL_law_76 16 rfl rfl)
theorem dL_law_2006 : decode cL_law 2006 = .ok (.aload_n 3, 1) := dk_45 (dk_at dksL_law_76 17 rfl rfl)
theorem dL_law_2007 : decode cL_law 2007 = .ok (.invokestatic 270, 3) := dk_184 1 14 (dk_at dksL_law_76 18 rfl rfl)
theorem dL_law_2010 : decode cL_law 2010 = .ok (.istore 5, 2) := dk_54 5 (dk_at dksL_law_76 21 rfl rfl)
theorem dL_law_2012 : decode cL_law 2012 = .ok (.aload_n 2, 1) := dk_44 (dk_at dksL_law_76 23 rfl rfl)
theorem dL_law_2013 : decode cL_law 2013 = .ok (.aload_n 0, 1) := dk_42 (dk_at dksL_law_77 0 rfl rfl)
theorem dL_law_2014 : decode cL_law 2014 = .ok (.iload 4, 2) := dk_21 4 (dk_at dksL_law_77 1 rfl rfl)
theorem dL_law_2016 : decode cL_law 2016 = .ok (.iconst 1, 1) := dk_4 (dk_at dksL_law_77 3 rfl rfl)
theorem dL_law_2017 : decode cL_law 2017 = .ok (.iadd, 1) := dk_96 (dk_at dksL_law_77 4 rfl rfl)
theorem dL_law_2018 : decode cL_law 2018 = .ok (.iaload, 1) := dk_46 (dk_at dksL_law_77 5 rfl rfl)
theorem dL_law_2019 : decode cL_law 2019 = .ok (.invokevirtual 272, 3) := dk_182 1 16 (dk_at dksL_law_77 6 rfl rfl)
theorem dL_law_2022 : decode cL_law 2022 = .ok (.istore 6, 2) := dk_54 6 (dk_at dksL_law_77 9 rfl rfl)
theorem dL_law_2024 : decode cL_law 2024 = .ok (.aload_n 2, 1) := dk_44 (dk_at dksL_law_77 11 rfl rfl)
theorem dL_law_2025 : decode cL_law 2025 = .ok (.invokevirtual 166, 3) := dk_182 0 166 (dk_at dksL_law_77 12 rfl rfl)
theorem dL_law_2028 : decode cL_law 2028 = .ok (.iload 5, 2) := dk_21 5 (dk_at dksL_law_77 15 rfl rfl)
theorem dL_law_2030 : decode cL_law 2030 = .ok (.if_icmp .eq 5, 3) := dk_159 0 5 (dk_at dksL_law_77 17 rfl rfl)
theorem dL_law_2033 : decode cL_law 2033 = .ok (.iconst 0, 1) := dk_3 (dk_at dksL_law_77 20 rfl rfl)
theorem dL_law_2034 : decode cL_law 2034 = .ok (.ireturn, 1) := dk_172 (dk_at dksL_law_77 21 rfl rfl)
theorem dL_law_2035 : decode cL_law 2035 = .ok (.iload 5, 2) := dk_21 5 (dk_at dksL_law_77 22 rfl rfl)
theorem dL_law_2037 : decode cL_law 2037 = .ok (.ifCond .ne 15, 3) := dk_154 0 15 (dk_at dksL_law_78 0 rfl rfl)
theorem dL_law_2040 : decode cL_law 2040 = .ok (.aload_n 3, 1) := dk_45 (dk_at dksL_law_78 3 rfl rfl)
theorem dL_law_2041 : decode cL_law 2041 = .ok (.iconst 0, 1) := dk_3 (dk_at dksL_law_78 4 rfl rfl)
theorem dL_law_2042 : decode cL_law 2042 = .ok (.laload, 1) := dk_47 (dk_at dksL_law_78 5 rfl rfl)
theorem dL_law_2043 : decode cL_law 2043 = .ok (.iload 6, 2) := dk_21 6 (dk_at dksL_law_78 6 rfl rfl)
theorem dL_law_2045 : decode cL_law 2045 = .ok (.i2l, 1) := dk_133 (dk_at dksL_law_78 8 rfl rfl)
theorem dL_law_2046 : decode cL_law 2046 = .ok (.lcmp, 1) := dk_148 (dk_at dksL_law_78 9 rfl rfl)
theorem dL_law_2047 : decode cL_law 2047 = .ok (.ifCond .eq 5, 3) := dk_153 0 5 (dk_at dksL_law_78 10 rfl rfl)
theorem dL_law_2050 : decode cL_law 2050 = .ok (.iconst 0, 1) := dk_3 (dk_at dksL_law_78 13 rfl rfl)
theorem dL_law_2051 : decode cL_law 2051 = .ok (.ireturn, 1) := dk_172 (dk_at dksL_law_78 14 rfl rfl)
theorem dL_law_2052 : decode cL_law 2052 = .ok (.goto 1110, 3) := dk_167 4 86 (dk_at dksL_law_78 15 rfl rfl)
theorem dL_law_2055 : decode cL_law 2055 = .ok (.aload_n 1, 1) := dk_43 (dk_at dksL_law_78 18 rfl rfl)
theorem dL_law_2056 : decode cL_law 2056 = .ok (.aload_n 0, 1) := dk_42 (dk_at dksL_law_78 19 rfl rfl)
theorem dL_law_2057 : decode cL_law 2057 = .ok (.iload 4, 2) := dk_21 4 (dk_at dksL_law_78 20 rfl rfl)
theorem dL_law_2059 : decode cL_law 2059 = .ok (.iconst 1, 1) := dk_4 (dk_at dksL_law_78 22 rfl rfl)
theorem dL_law_2060 : decode cL_law 2060 = .ok (.iadd, 1) := dk_96 (dk_at dksL_law_78 23 rfl rfl)
theorem dL_law_2061 : decode cL_law 2061 = .ok (.iaload, 1) := dk_46 (dk_at dksL_law_79 0 rfl rfl)
theorem dL_law_2062 : decode cL_law 2062 = .ok (.aload_n 3, 1) := dk_45 (dk_at dksL_law_79 1 rfl rfl)
theorem dL_law_2063 : decode cL_law 2063 = .ok (.invokestatic 273, 3) := dk_184 1 17 (dk_at dksL_law_79 2 rfl rfl)
theorem dL_law_2066 : decode cL_law 2066 = .ok (.istore 5, 2) := dk_54 5 (dk_at dksL_law_79 5 rfl rfl)
theorem dL_law_2068 : decode cL_law 2068 = .ok (.aload_n 2, 1) := dk_44 (dk_at dksL_law_79 7 rfl rfl)
theorem dL_law_2069 : decode cL_law 2069 = .ok (.aload_n 0, 1) := dk_42 (dk_at dksL_law_79 8 rfl rfl)
theorem dL_law_2070 : decode cL_law 2070 = .ok (.iload 4, 2) := dk_21 4 (dk_at dksL_law_79 9 rfl rfl)
theorem dL_law_2072 : decode cL_law 2072 = .ok (.iconst 1, 1) := dk_4 (dk_at dksL_law_79 11 rfl rfl)
theorem dL_law_2073 : decode cL_law 2073 = .ok (.iadd, 1) := dk_96 (dk_at dksL_law_79 12 rfl rfl)
theorem dL_law_2074 : decode cL_law 2074 = .ok (.iaload, 1) := dk_46 (dk_at dksL_law_79 13 rfl rfl)
theorem dL_law_2075 : decode cL_law 2075 = .ok (.invokevirtual 275, 3) := dk_182 1 19 (dk_at dksL_law_79 14 rfl rfl)
theorem dL_law_2078 : decode cL_law 2078 = .ok (.istore 6, 2) := dk_54 6 (dk_at dksL_law_79 17 rfl rfl)
theorem dL_law_2080 : decode cL_law 2080 = .ok (.aload_n 2, 1) := dk_44 (dk_at dksL_law_79 19 rfl rfl)
theorem dL_law_2081 : decode cL_law 2081 = .ok (.invokevirtual 166, 3) := dk_182 0 166 (dk_at dksL_law_79 20 rfl rfl)
theorem dL_law_2084 : decode cL_law 2084 = .ok (.iload 5, 2) := dk_21 5 (dk_at dksL_law_80 0 rfl rfl)
theorem dL_law_2086 : decode cL_law 2086 = .ok (.if_icmp .eq 5, 3) := dk_159 0 5 (dk_at dksL_law_80 2 rfl rfl)
theorem dL_law_2089 : decode cL_law 2089 = .ok (.iconst 0, 1) := dk_3 (dk_at dksL_law_80 5 rfl rfl)
theorem dL_law_2090 : decode cL_law 2090 = .ok (.ireturn, 1) := dk_172 (dk_at dksL_law_80 6 rfl rfl)
theorem dL_law_2091 : decode cL_law 2091 = .ok (.iload 5, 2) := dk_21 5 (dk_at dksL_law_80 7 rfl rfl)
theorem dL_law_2093 : decode cL_law 2093 = .ok (.ifCond .ne 22, 3) := dk_154 0 22 (dk_at dksL_law_80 9 rfl rfl)
theorem dL_law_2096 : decode cL_law 2096 = .ok (.aload_n 3, 1) := dk_45 (dk_at dksL_law_80 12 rfl rfl)
theorem dL_law_2097 : decode cL_law 2097 = .ok (.iconst 0, 1) := dk_3 (dk_at dksL_law_80 13 rfl rfl)
theorem dL_law_2098 : decode cL_law 2098 = .ok (.laload, 1) := dk_47 (dk_at dksL_law_80 14 rfl rfl)
theorem dL_law_2099 : decode cL_law 2099 = .ok (.iload 6, 2) := dk_21 6 (dk_at dksL_law_80 15 rfl rfl)
theorem dL_law_2101 : decode cL_law 2101 = .ok (.ifCond .eq 7, 3) := dk_153 0 7 (dk_at dksL_law_80 17 rfl rfl)
theorem dL_law_2104 : decode cL_law 2104 = .ok (.lconst 1, 1) := dk_10 (dk_at dksL_law_80 20 rfl rfl)
theorem dL_law_2105 : decode cL_law 2105 = .ok (.goto 4, 3) := dk_167 0 4 (dk_at dksL_law_80 21 rfl rfl)
theorem dL_law_2108 : decode cL_law 2108 = .ok (.lconst 0, 1) := dk_9 (dk_at dksL_law_81 0 rfl rfl)
theorem dL_law_2109 : decode cL_law 2109 = .ok (.lcmp, 1) := dk_148 (dk_at dksL_law_81 1 rfl rfl)
theorem dL_law_2110 : decode cL_law 2110 = .ok (.ifCond .eq 5, 3) := dk_153 0 5 (dk_at dksL_law_81 2 rfl rfl)
theorem dL_law_2113 : decode cL_law 2113 = .ok (.iconst 0, 1) := dk_3 (dk_at dksL_law_81 5 rfl rfl)
theorem dL_law_2114 : decode cL_law 2114 = .ok (.ireturn, 1) := dk_172 (dk_at dksL_law_81 6 rfl rfl)
theorem dL_law_2115 : decode cL_law 2115 = .ok (.goto 1047, 3) := dk_167 4 23 (dk_at dksL_law_81 7 rfl rfl)
theorem dL_law_2118 : decode cL_law 2118 = .ok (.aload_n 1, 1) := dk_43 (dk_at dksL_law_81 10 rfl rfl)
theorem dL_law_2119 : decode cL_law 2119 = .ok (.aload_n 0, 1) := dk_42 (dk_at dksL_law_81 11 rfl rfl)
theorem dL_law_2120 : decode cL_law 2120 = .ok (.iload 4, 2) := dk_21 4 (dk_at dksL_law_81 12 rfl rfl)
theorem dL_law_2122 : decode cL_law 2122 = .ok (.iconst 1, 1) := dk_4 (dk_at dksL_law_81 14 rfl rfl)
theorem dL_law_2123 : decode cL_law 2123 = .ok (.iadd, 1) := dk_96 (dk_at dksL_law_81 15 rfl rfl)
theorem dL_law_2124 : decode cL_law 2124 = .ok (.iaload, 1) := dk_46 (dk_at dksL_law_81 16 rfl rfl)
theorem dL_law_2125 : decode cL_law 2125 = .ok (.aload_n 0, 1) := dk_42 (dk_at dksL_law_81 17 rfl rfl)
theorem dL_law_2126 : decode cL_law 2126 = .ok (.iload 4, 2) := dk_21 4 (dk_at dksL_law_81 18 rfl rfl)
theorem dL_law_2128 : decode cL_law 2128 = .ok (.iconst 2, 1) := dk_5 (dk_at dksL_law_81 20 rfl rfl)
theorem dL_law_2129 : decode cL_law 2129 = .ok (.iadd, 1) := dk_96 (dk_at dksL_law_81 21 rfl rfl)
theorem dL_law_2130 : decode cL_law 2130 = .ok (.iaload, 1) := dk_46 (dk_at dksL_law_81 22 rfl rfl)
theorem dL_law_2131 : decode cL_law 2131 = .ok (.aload_n 3, 1) := dk_45 (dk_at dksL_law_81 23 rfl rfl)
theorem dL_law_2132 : decode cL_law 2132 = .ok (.invokestatic 276, 3) := dk_184 1 20 (dk_at dksL_law_82 0 rfl rfl)
theorem dL_law_2135 : decode cL_law 2135 = .ok (.istore 5, 2) := dk_54 5 (dk_at dksL_law_82 3 rfl rfl)
theorem dL_law_2137 : decode cL_law 2137 = .ok (.aload_n 2, 1) := dk_44 (dk_at dksL_law_82 5 rfl rfl)
theorem dL_law_2138 : decode cL_law 2138 = .ok (.aload_n 0, 1) := dk_42 (dk_at dksL_law_82 6 rfl rfl)
theorem dL_law_2139 : decode cL_law 2139 = .ok (.iload 4, 2) := dk_21 4 (dk_at dksL_law_82 7 rfl rfl)
theorem dL_law_2141 : decode cL_law 2141 = .ok (.iconst 1, 1) := dk_4 (dk_at dksL_law_82 9 rfl rfl)
theorem dL_law_2142 : decode cL_law 2142 = .ok (.iadd, 1) := dk_96 (dk_at dksL_law_82 10 rfl rfl)
theorem dL_law_2143 : decode cL_law 2143 = .ok (.iaload, 1) := dk_46 (dk_at dksL_law_82 11 rfl rfl)
theorem dL_law_2144 : decode cL_law 2144 = .ok (.aload_n 0, 1) := dk_42 (dk_at dksL_law_82 12 rfl rfl)
theorem dL_law_2145 : decode cL_law 2145 = .ok (.iload 4, 2) := dk_21 4 (dk_at dksL_law_82 13 rfl rfl)
theorem dL_law_2147 : decode cL_law 2147 = .ok (.iconst 2, 1) := dk_5 (dk_at dksL_law_82 15 rfl rfl)
theorem dL_law_2148 : decode cL_law 2148 = .ok (.iadd, 1) := dk_96 (dk_at dksL_law_82 16 rfl rfl)
theorem dL_law_2149 : decode cL_law 2149 = .ok (.iaload, 1) := dk_46 (dk_at dksL_law_82 17 rfl rfl)
theorem dL_law_2150 : decode cL_law 2150 = .ok (.invokevirtual 278, 3) := dk_182 1 22 (dk_at dksL_law_82 18 rfl rfl)
theorem dL_law_2153 : decode cL_law 2153 = .ok (.istore 6, 2) := dk_54 6 (dk_at dksL_law_82 21 rfl rfl)
theorem dL_law_2155 : decode cL_law 2155 = .ok (.aload_n 2, 1) := dk_44 (dk_at dksL_law_82 23 rfl rfl)
theorem dL_law_2156 : decode cL_law 2156 = .ok (.invokevirtual 166, 3) := dk_182 0 166 (dk_at dksL_law_83 0 rfl rfl)
theorem dL_law_2159 : decode cL_law 2159 = .ok (.iload 5, 2) := dk_21 5 (dk_at dksL_law_83 3 rfl rfl)
theorem dL_law_2161 : decode cL_law 2161 = .ok (.if_icmp .eq 5, 3) := dk_159 0 5 (dk_at dksL_law_83 5 rfl rfl)
theorem dL_law_2164 : decode cL_law 2164 = .ok (.iconst 0, 1) := dk_3 (dk_at dksL_law_83 8 rfl rfl)
theorem dL_law_2165 : decode cL_law 2165 = .ok (.ireturn, 1) := dk_172 (dk_at dksL_law_83 9 rfl rfl)
theorem dL_law_2166 : decode cL_law 2166 = .ok (.iload 5, 2) := dk_21 5 (dk_at dksL_law_83 10 rfl rfl)
theorem dL_law_2168 : decode cL_law 2168 = .ok (.ifCond .ne 15, 3) := dk_154 0 15 (dk_at dksL_law_83 12 rfl rfl)
theorem dL_law_2171 : decode cL_law 2171 = .ok (.aload_n 3, 1) := dk_45 (dk_at dksL_law_83 15 rfl rfl)
theorem dL_law_2172 : decode cL_law 2172 = .ok (.iconst 0, 1) := dk_3 (dk_at dksL_law_83 16 rfl rfl)
theorem dL_law_2173 : decode cL_law 2173 = .ok (.laload, 1) := dk_47 (dk_at dksL_law_83 17 rfl rfl)
theorem dL_law_2174 : decode cL_law 2174 = .ok (.iload 6, 2) := dk_21 6 (dk_at dksL_law_83 18 rfl rfl)
theorem dL_law_2176 : decode cL_law 2176 = .ok (.i2l, 1) := dk_133 (dk_at dksL_law_83 20 rfl rfl)
theorem dL_law_2177 : decode cL_law 2177 = .ok (.lcmp, 1) := dk_148 (dk_at dksL_law_83 21 rfl rfl)
theorem dL_law_2178 : decode cL_law 2178 = .ok (.ifCond .eq 5, 3) := dk_153 0 5 (dk_at dksL_law_84 0 rfl rfl)
theorem dL_law_2181 : decode cL_law 2181 = .ok (.iconst 0, 1) := dk_3 (dk_at dksL_law_84 3 rfl rfl)
theorem dL_law_2182 : decode cL_law 2182 = .ok (.ireturn, 1) := dk_172 (dk_at dksL_law_84 4 rfl rfl)
theorem dL_law_2183 : decode cL_law 2183 = .ok (.goto 979, 3) := dk_167 3 211 (dk_at dksL_law_84 5 rfl rfl)
theorem dL_law_2186 : decode cL_law 2186 = .ok (.aload_n 1, 1) := dk_43 (dk_at dksL_law_84 8 rfl rfl)
theorem dL_law_2187 : decode cL_law 2187 = .ok (.invokevirtual 279, 3) := dk_182 1 23 (dk_at dksL_law_84 9 rfl rfl)
theorem dL_law_2190 : decode cL_law 2190 = .ok (.aload_n 2, 1) := dk_44 (dk_at dksL_law_84 12 rfl rfl)
theorem dL_law_2191 : decode cL_law 2191 = .ok (.invokevirtual 282, 3) := dk_182 1 26 (dk_at dksL_law_84 13 rfl rfl)
theorem dL_law_2194 : decode cL_law 2194 = .ok (.if_icmp .eq 968, 3) := dk_159 3 200 (dk_at dksL_law_84 16 rfl rfl)
theorem dL_law_2197 : decode cL_law 2197 = .ok (.iconst 0, 1) := dk_3 (dk_at dksL_law_84 19 rfl rfl)
theorem dL_law_2198 : decode cL_law 2198 = .ok (.ireturn, 1) := dk_172 (dk_at dksL_law_84 20 rfl rfl)
theorem dL_law_2199 : decode cL_law 2199 = .ok (.aload_n 1, 1) := dk_43 (dk_at dksL_law_84 21 rfl rfl)
theorem dL_law_2200 : decode cL_law 2200 = .ok (.aload_n 0, 1) := dk_42 (dk_at dksL_law_84 22 rfl rfl)
theorem dL_law_2201 : decode cL_law 2201 = .ok (.iload 4, 2) := dk_21 4 (dk_at dksL_law_85 0 rfl rfl)
theorem dL_law_2203 : decode cL_law 2203 = .ok (.iconst 1, 1) := dk_4 (dk_at dksL_law_85 2 rfl rfl)
theorem dL_law_2204 : decode cL_law 2204 = .ok (.iadd, 1) := dk_96 (dk_at dksL_law_85 3 rfl rfl)
theorem dL_law_2205 : decode cL_law 2205 = .ok (.iaload, 1) := dk_46 (dk_at dksL_law_85 4 rfl rfl)
theorem dL_law_2206 : decode cL_law 2206 = .ok (.aload_n 3, 1) := dk_45 (dk_at dksL_law_85 5 rfl rfl)
theorem dL_law_2207 : decode cL_law 2207 = .ok (.invokestatic 283, 3) := dk_184 1 27 (dk_at dksL_law_85 6 rfl rfl)
theorem dL_law_2210 : decode cL_law 2210 = .ok (.istore 5, 2) := dk_54 5 (dk_at dksL_law_85 9 rfl rfl)
theorem dL_law_2212 : decode cL_law 2212 = .ok (.aload_n 2, 1) := dk_44 (dk_at dksL_law_85 11 rfl rfl)
theorem dL_law_2213 : decode cL_law 2213 = .ok (.aload_n 0, 1) := dk_42 (dk_at dksL_law_85 12 rfl rfl)
theorem dL_law_2214 : decode cL_law 2214 = .ok (.iload 4, 2) := dk_21 4 (dk_at dksL_law_85 13 rfl rfl)
theorem dL_law_2216 : decode cL_law 2216 = .ok (.iconst 1, 1) := dk_4 (dk_at dksL_law_85 15 rfl rfl)
theorem dL_law_2217 : decode cL_law 2217 = .ok (.iadd, 1) := dk_96 (dk_at dksL_law_85 16 rfl rfl)
theorem dL_law_2218 : decode cL_law 2218 = .ok (.iaload, 1) := dk_46 (dk_at dksL_law_85 17 rfl rfl)
theorem dL_law_2219 : decode cL_law 2219 = .ok (.invokevirtual 285, 3) := dk_182 1 29 (dk_at dksL_law_85 18 rfl rfl)
theorem dL_law_2222 : decode cL_law 2222 = .ok (.istore 6, 2) := dk_54 6 (dk_at dksL_law_85 21 rfl rfl)
theorem dL_law_2224 : decode cL_law 2224 = .ok (.aload_n 2, 1) := dk_44 (dk_at dksL_law_85 23 rfl rfl)
theorem dL_law_2225 : decode cL_law 2225 = .ok (.invokevirtual 166, 3) := dk_182 0 166 (dk_at dksL_law_86 0 rfl rfl)
theorem dL_law_2228 : decode cL_law 2228 = .ok (.iload 5, 2) := dk_21 5 (dk_at dksL_law_86 3 rfl rfl)
theorem dL_law_2230 : decode cL_law 2230 = .ok (.if_icmp .eq 5, 3) := dk_159 0 5 (dk_at dksL_law_86 5 rfl rfl)
theorem dL_law_2233 : decode cL_law 2233 = .ok (.iconst 0, 1) := dk_3 (dk_at dksL_law_86 8 rfl rfl)
theorem dL_law_2234 : decode cL_law 2234 = .ok (.ireturn, 1) := dk_172 (dk_at dksL_law_86 9 rfl rfl)
theorem dL_law_2235 : decode cL_law 2235 = .ok (.iload 5, 2) := dk_21 5 (dk_at dksL_law_86 10 rfl rfl)
theorem dL_law_2237 : decode cL_law 2237 = .ok (.ifCond .ne 15, 3) := dk_154 0 15 (dk_at dksL_law_86 12 rfl rfl)
theorem dL_law_2240 : decode cL_law 2240 = .ok (.aload_n 3, 1) := dk_45 (dk_at dksL_law_86 15 rfl rfl)
theorem dL_law_2241 : decode cL_law 2241 = .ok (.iconst 0, 1) := dk_3 (dk_at dksL_law_86 16 rfl rfl)
theorem dL_law_2242 : decode cL_law 2242 = .ok (.laload, 1) := dk_47 (dk_at dksL_law_86 17 rfl rfl)
theorem dL_law_2243 : decode cL_law 2243 = .ok (.iload 6, 2) := dk_21 6 (dk_at dksL_law_86 18 rfl rfl)
theorem dL_law_2245 : decode cL_law 2245 = .ok (.i2l, 1) := dk_133 (dk_at dksL_law_86 20 rfl rfl)
theorem dL_law_2246 : decode cL_law 2246 = .ok (.lcmp, 1) := dk_148 (dk_at dksL_law_86 21 rfl rfl)
theorem dL_law_2247 : decode cL_law 2247 = .ok (.ifCond .eq 5, 3) := dk_153 0 5 (dk_at dksL_law_87 0 rfl rfl)
theorem dL_law_2250 : decode cL_law 2250 = .ok (.iconst 0, 1) := dk_3 (dk_at dksL_law_87 3 rfl rfl)
theorem dL_law_2251 : decode cL_law 2251 = .ok (.ireturn, 1) := dk_172 (dk_at dksL_law_87 4 rfl rfl)
theorem dL_law_2252 : decode cL_law 2252 = .ok (.goto 910, 3) := dk_167 3 142 (dk_at dksL_law_87 5 rfl rfl)
theorem dL_law_2255 : decode cL_law 2255 = .ok (.aload_n 1, 1) := dk_43 (dk_at dksL_law_87 8 rfl rfl)
theorem dL_law_2256 : decode cL_law 2256 = .ok (.aload_n 0, 1) := dk_42 (dk_at dksL_law_87 9 rfl rfl)
theorem dL_law_2257 : decode cL_law 2257 = .ok (.iload 4, 2) := dk_21 4 (dk_at dksL_law_87 10 rfl rfl)
theorem dL_law_2259 : decode cL_law 2259 = .ok (.iconst 1, 1) := dk_4 (dk_at dksL_law_87 12 rfl rfl)
theorem dL_law_2260 : decode cL_law 2260 = .ok (.iadd, 1) := dk_96 (dk_at dksL_law_87 13 rfl rfl)
theorem dL_law_2261 : decode cL_law 2261 = .ok (.iaload, 1) := dk_46 (dk_at dksL_law_87 14 rfl rfl)
theorem dL_law_2262 : decode cL_law 2262 = .ok (.aload_n 3, 1) := dk_45 (dk_at dksL_law_87 15 rfl rfl)
theorem dL_law_2263 : decode cL_law 2263 = .ok (.invokestatic 286, 3) := dk_184 1 30 (dk_at dksL_law_87 16 rfl rfl)
theorem dL_law_2266 : decode cL_law 2266 = .ok (.istore 5, 2) := dk_54 5 (dk_at dksL_law_87 19 rfl rfl)
theorem dL_law_2268 : decode cL_law 2268 = .ok (.aload_n 2, 1) := dk_44 (dk_at dksL_law_87 21 rfl rfl)
theorem dL_law_2269 : decode cL_law 2269 = .ok (.aload_n 0, 1) := dk_42 (dk_at dksL_law_87 22 rfl rfl)
theorem dL_law_2270 : decode cL_law 2270 = .ok (.iload 4, 2) := dk_21 4 (dk_at dksL_law_88 0 rfl rfl)
theorem dL_law_2272 : decode cL_law 2272 = .ok (.iconst 1, 1) := dk_4 (dk_at dksL_law_88 2 rfl rfl)
theorem dL_law_2273 : decode cL_law 2273 = .ok (.iadd, 1) := dk_96 (dk_at dksL_law_88 3 rfl rfl)
theorem dL_law_2274 : decode cL_law 2274 = .ok (.iaload, 1) := dk_46 (dk_at dksL_law_88 4 rfl rfl)
theorem dL_law_2275 : decode cL_law 2275 = .ok (.invokevirtual 288, 3) := dk_182 1 32 (dk_at dksL_law_88 5 rfl rfl)
theorem dL_law_2278 : decode cL_law 2278 = .ok (.istore 6, 2) := dk_54 6 (dk_at dksL_law_88 8 rfl rfl)
theorem dL_law_2280 : decode cL_law 2280 = .ok (.aload_n 2, 1) := dk_44 (dk_at dksL_law_88 10 rfl rfl)
theorem dL_law_2281 : decode cL_law 2281 = .ok (.invokevirtual 166, 3) := dk_182 0 166 (dk_at dksL_law_88 11 rfl rfl)
theorem dL_law_2284 : decode cL_law 2284 = .ok (.iload 5, 2) := dk_21 5 (dk_at dksL_law_88 14 rfl rfl)
theorem dL_law_2286 : decode cL_law 2286 = .ok (.if_icmp .eq 5, 3) := dk_159 0 5 (dk_at dksL_law_88 16 rfl rfl)
theorem dL_law_2289 : decode cL_law 2289 = .ok (.iconst 0, 1) := dk_3 (dk_at dksL_law_88 19 rfl rfl)
theorem dL_law_2290 : decode cL_law 2290 = .ok (.ireturn, 1) := dk_172 (dk_at dksL_law_88 20 rfl rfl)
theorem dL_law_2291 : decode cL_law 2291 = .ok (.iload 5, 2) := dk_21 5 (dk_at dksL_law_88 21 rfl rfl)
theorem dL_law_2293 : decode cL_law 2293 = .ok (.ifCond .ne 15, 3) := dk_154 0 15 (dk_at dksL_law_89 0 rfl rfl)
theorem dL_law_2296 : decode cL_law 2296 = .ok (.aload_n 3, 1) := dk_45 (dk_at dksL_law_89 3 rfl rfl)
theorem dL_law_2297 : decode cL_law 2297 = .ok (.iconst 0, 1) := dk_3 (dk_at dksL_law_89 4 rfl rfl)
theorem dL_law_2298 : decode cL_law 2298 = .ok (.laload, 1) := dk_47 (dk_at dksL_law_89 5 rfl rfl)
theorem dL_law_2299 : decode cL_law 2299 = .ok (.iload 6, 2) := dk_21 6 (dk_at dksL_law_89 6 rfl rfl)
theorem dL_law_2301 : decode cL_law 2301 = .ok (.i2l, 1) := dk_133 (dk_at dksL_law_89 8 rfl rfl)
theorem dL_law_2302 : decode cL_law 2302 = .ok (.lcmp, 1) := dk_148 (dk_at dksL_law_89 9 rfl rfl)
theorem dL_law_2303 : decode cL_law 2303 = .ok (.ifCond .eq 5, 3) := dk_153 0 5 (dk_at dksL_law_89 10 rfl rfl)
theorem dL_law_2306 : decode cL_law 2306 = .ok (.iconst 0, 1) := dk_3 (dk_at dksL_law_89 13 rfl rfl)
theorem dL_law_2307 : decode cL_law 2307 = .ok (.ireturn, 1) := dk_172 (dk_at dksL_law_89 14 rfl rfl)
theorem dL_law_2308 : decode cL_law 2308 = .ok (.goto 854, 3) := dk_167 3 86 (dk_at dksL_law_89 15 rfl rfl)
theorem dL_law_2311 : decode cL_law 2311 = .ok (.aload_n 1, 1) := dk_43 (dk_at dksL_law_89 18 rfl rfl)
theorem dL_law_2312 : decode cL_law 2312 = .ok (.aload_n 0, 1) := dk_42 (dk_at dksL_law_89 19 rfl rfl)
theorem dL_law_2313 : decode cL_law 2313 = .ok (.iload 4, 2) := dk_21 4 (dk_at dksL_law_89 20 rfl rfl)
theorem dL_law_2315 : decode cL_law 2315 = .ok (.iconst 1, 1) := dk_4 (dk_at dksL_law_89 22 rfl rfl)
theorem dL_law_2316 : decode cL_law 2316 = .ok (.iadd, 1) := dk_96 (dk_at dksL_law_89 23 rfl rfl)
theorem dL_law_2317 : decode cL_law 2317 = .ok (.iaload, 1) := dk_46 (dk_at dksL_law_90 0 rfl rfl)
theorem dL_law_2318 : decode cL_law 2318 = .ok (.aload_n 0, 1) := dk_42 (dk_at dksL_law_90 1 rfl rfl)
theorem dL_law_2319 : decode cL_law 2319 = .ok (.iload 4, 2) := dk_21 4 (dk_at dksL_law_90 2 rfl rfl)
theorem dL_law_2321 : decode cL_law 2321 = .ok (.iconst 2, 1) := dk_5 (dk_at dksL_law_90 4 rfl rfl)
theorem dL_law_2322 : decode cL_law 2322 = .ok (.iadd, 1) := dk_96 (dk_at dksL_law_90 5 rfl rfl)
theorem dL_law_2323 : decode cL_law 2323 = .ok (.iaload, 1) := dk_46 (dk_at dksL_law_90 6 rfl rfl)
theorem dL_law_2324 : decode cL_law 2324 = .ok (.aload_n 3, 1) := dk_45 (dk_at dksL_law_90 7 rfl rfl)
theorem dL_law_2325 : decode cL_law 2325 = .ok (.invokestatic 289, 3) := dk_184 1 33 (dk_at dksL_law_90 8 rfl rfl)
theorem dL_law_2328 : decode cL_law 2328 = .ok (.istore 5, 2) := dk_54 5 (dk_at dksL_law_90 11 rfl rfl)
theorem dL_law_2330 : decode cL_law 2330 = .ok (.aload_n 2, 1) := dk_44 (dk_at dksL_law_90 13 rfl rfl)
theorem dL_law_2331 : decode cL_law 2331 = .ok (.aload_n 0, 1) := dk_42 (dk_at dksL_law_90 14 rfl rfl)
theorem dL_law_2332 : decode cL_law 2332 = .ok (.iload 4, 2) := dk_21 4 (dk_at dksL_law_90 15 rfl rfl)
theorem dL_law_2334 : decode cL_law 2334 = .ok (.iconst 1, 1) := dk_4 (dk_at dksL_law_90 17 rfl rfl)
theorem dL_law_2335 : decode cL_law 2335 = .ok (.iadd, 1) := dk_96 (dk_at dksL_law_90 18 rfl rfl)
theorem dL_law_2336 : decode cL_law 2336 = .ok (.iaload, 1) := dk_46 (dk_at dksL_law_90 19 rfl rfl)
theorem dL_law_2337 : decode cL_law 2337 = .ok (.aload_n 0, 1) := dk_42 (dk_at dksL_law_90 20 rfl rfl)
theorem dL_law_2338 : decode cL_law 2338 = .ok (.iload 4, 2) := dk_21 4 (dk_at dksL_law_90 21 rfl rfl)
theorem dL_law_2340 : decode cL_law 2340 = .ok (.iconst 2, 1) := dk_5 (dk_at dksL_law_90 23 rfl rfl)
theorem dL_law_2341 : decode cL_law 2341 = .ok (.iadd, 1) := dk_96 (dk_at dksL_law_91 0 rfl rfl)
theorem dL_law_2342 : decode cL_law 2342 = .ok (.iaload, 1) := dk_46 (dk_at dksL_law_91 1 rfl rfl)
theorem dL_law_2343 : decode cL_law 2343 = .ok (.invokevirtual 291, 3) := dk_182 1 35 (dk_at dksL_law_91 2 rfl rfl)
theorem dL_law_2346 : decode cL_law 2346 = .ok (.istore 6, 2) := dk_54 6 (dk_at dksL_law_91 5 rfl rfl)
theorem dL_law_2348 : decode cL_law 2348 = .ok (.aload_n 2, 1) := dk_44 (dk_at dksL_law_91 7 rfl rfl)
theorem dL_law_2349 : decode cL_law 2349 = .ok (.invokevirtual 166, 3) := dk_182 0 166 (dk_at dksL_law_91 8 rfl rfl)
theorem dL_law_2352 : decode cL_law 2352 = .ok (.iload 5, 2) := dk_21 5 (dk_at dksL_law_91 11 rfl rfl)
theorem dL_law_2354 : decode cL_law 2354 = .ok (.if_icmp .eq 5, 3) := dk_159 0 5 (dk_at dksL_law_91 13 rfl rfl)
theorem dL_law_2357 : decode cL_law 2357 = .ok (.iconst 0, 1) := dk_3 (dk_at dksL_law_91 16 rfl rfl)
theorem dL_law_2358 : decode cL_law 2358 = .ok (.ireturn, 1) := dk_172 (dk_at dksL_law_91 17 rfl rfl)
theorem dL_law_2359 : decode cL_law 2359 = .ok (.iload 5, 2) := dk_21 5 (dk_at dksL_law_91 18 rfl rfl)
theorem dL_law_2361 : decode cL_law 2361 = .ok (.ifCond .ne 22, 3) := dk_154 0 22 (dk_at dksL_law_91 20 rfl rfl)
theorem dL_law_2364 : decode cL_law 2364 = .ok (.aload_n 3, 1) := dk_45 (dk_at dksL_law_91 23 rfl rfl)
theorem dL_law_2365 : decode cL_law 2365 = .ok (.iconst 0, 1) := dk_3 (dk_at dksL_law_92 0 rfl rfl)
theorem dL_law_2366 : decode cL_law 2366 = .ok (.laload, 1) := dk_47 (dk_at dksL_law_92 1 rfl rfl)
theorem dL_law_2367 : decode cL_law 2367 = .ok (.iload 6, 2) := dk_21 6 (dk_at dksL_law_92 2 rfl rfl)
theorem dL_law_2369 : decode cL_law 2369 = .ok (.ifCond .eq 7, 3) := dk_153 0 7 (dk_at dksL_law_92 4 rfl rfl)
theorem dL_law_2372 : decode cL_law 2372 = .ok (.lconst 1, 1) := dk_10 (dk_at dksL_law_92 7 rfl rfl)
theorem dL_law_2373 : decode cL_law 2373 = .ok (.goto 4, 3) := dk_167 0 4 (dk_at dksL_law_92 8 rfl rfl)
theorem dL_law_2376 : decode cL_law 2376 = .ok (.lconst 0, 1) := dk_9 (dk_at dksL_law_92 11 rfl rfl)
theorem dL_law_2377 : decode cL_law 2377 = .ok (.lcmp, 1) := dk_148 (dk_at dksL_law_92 12 rfl rfl)
theorem dL_law_2378 : decode cL_law 2378 = .ok (.ifCond .eq 5, 3) := dk_153 0 5 (dk_at dksL_law_92 13 rfl rfl)
theorem dL_law_2381 : decode cL_law 2381 = .ok (.iconst 0, 1) := dk_3 (dk_at dksL_law_92 16 rfl rfl)
theorem dL_law_2382 : decode cL_law 2382 = .ok (.ireturn, 1) := dk_172 (dk_at dksL_law_92 17 rfl rfl)
theorem dL_law_2383 : decode cL_law 2383 = .ok (.goto 779, 3) := dk_167 3 11 (dk_at dksL_law_92 18 rfl rfl)
theorem dL_law_2386 : decode cL_law 2386 = .ok (.aload_n 1, 1) := dk_43 (dk_at dksL_law_92 21 rfl rfl)
theorem dL_law_2387 : decode cL_law 2387 = .ok (.aload_n 3, 1) := dk_45 (dk_at dksL_law_92 22 rfl rfl)
theorem dL_law_2388 : decode cL_law 2388 = .ok (.invokestatic 292, 3) := dk_184 1 36 (dk_at dksL_law_93 0 rfl rfl)
theorem dL_law_2391 : decode cL_law 2391 = .ok (.istore 5, 2) := dk_54 5 (dk_at dksL_law_93 3 rfl rfl)
theorem dL_law_2393 : decode cL_law 2393 = .ok (.aload_n 2, 1) := dk_44 (dk_at dksL_law_93 5 rfl rfl)
theorem dL_law_2394 : decode cL_law 2394 = .ok (.invokevirtual 294, 3) := dk_182 1 38 (dk_at dksL_law_93 6 rfl rfl)
theorem dL_law_2397 : decode cL_law 2397 = .ok (.istore 6, 2) := dk_54 6 (dk_at dksL_law_93 9 rfl rfl)
theorem dL_law_2399 : decode cL_law 2399 = .ok (.aload_n 2, 1) := dk_44 (dk_at dksL_law_93 11 rfl rfl)
theorem dL_law_2400 : decode cL_law 2400 = .ok (.invokevirtual 166, 3) := dk_182 0 166 (dk_at dksL_law_93 12 rfl rfl)
theorem dL_law_2403 : decode cL_law 2403 = .ok (.iload 5, 2) := dk_21 5 (dk_at dksL_law_93 15 rfl rfl)
theorem dL_law_2405 : decode cL_law 2405 = .ok (.if_icmp .eq 5, 3) := dk_159 0 5 (dk_at dksL_law_93 17 rfl rfl)
theorem dL_law_2408 : decode cL_law 2408 = .ok (.iconst 0, 1) := dk_3 (dk_at dksL_law_93 20 rfl rfl)
theorem dL_law_2409 : decode cL_law 2409 = .ok (.ireturn, 1) := dk_172 (dk_at dksL_law_93 21 rfl rfl)
theorem dL_law_2410 : decode cL_law 2410 = .ok (.iload 5, 2) := dk_21 5 (dk_at dksL_law_93 22 rfl rfl)
theorem dL_law_2412 : decode cL_law 2412 = .ok (.ifCond .ne 15, 3) := dk_154 0 15 (dk_at dksL_law_94 0 rfl rfl)
theorem dL_law_2415 : decode cL_law 2415 = .ok (.aload_n 3, 1) := dk_45 (dk_at dksL_law_94 3 rfl rfl)
theorem dL_law_2416 : decode cL_law 2416 = .ok (.iconst 0, 1) := dk_3 (dk_at dksL_law_94 4 rfl rfl)
theorem dL_law_2417 : decode cL_law 2417 = .ok (.laload, 1) := dk_47 (dk_at dksL_law_94 5 rfl rfl)
theorem dL_law_2418 : decode cL_law 2418 = .ok (.iload 6, 2) := dk_21 6 (dk_at dksL_law_94 6 rfl rfl)
theorem dL_law_2420 : decode cL_law 2420 = .ok (.i2l, 1) := dk_133 (dk_at dksL_law_94 8 rfl rfl)
theorem dL_law_2421 : decode cL_law 2421 = .ok (.lcmp, 1) := dk_148 (dk_at dksL_law_94 9 rfl rfl)
theorem dL_law_2422 : decode cL_law 2422 = .ok (.ifCond .eq 5, 3) := dk_153 0 5 (dk_at dksL_law_94 10 rfl rfl)
theorem dL_law_2425 : decode cL_law 2425 = .ok (.iconst 0, 1) := dk_3 (dk_at dksL_law_94 13 rfl rfl)
theorem dL_law_2426 : decode cL_law 2426 = .ok (.ireturn, 1) := dk_172 (dk_at dksL_law_94 14 rfl rfl)
theorem dL_law_2427 : decode cL_law 2427 = .ok (.goto 735, 3) := dk_167 2 223 (dk_at dksL_law_94 15 rfl rfl)
theorem dL_law_2430 : decode cL_law 2430 = .ok (.aload_n 1, 1) := dk_43 (dk_at dksL_law_94 18 rfl rfl)
theorem dL_law_2431 : decode cL_law 2431 = .ok (.invokevirtual 295, 3) := dk_182 1 39 (dk_at dksL_law_94 19 rfl rfl)
theorem dL_law_2434 : decode cL_law 2434 = .ok (.aload_n 2, 1) := dk_44 (dk_at dksL_law_94 22 rfl rfl)
theorem dL_law_2435 : decode cL_law 2435 = .ok (.invokevirtual 298, 3) := dk_182 1 42 (dk_at dksL_law_95 0 rfl rfl)
theorem dL_law_2438 : decode cL_law 2438 = .ok (.if_icmp .eq 724, 3) := dk_159 2 212 (dk_at dksL_law_95 3 rfl rfl)
theorem dL_law_2441 : decode cL_law 2441 = .ok (.iconst 0, 1) := dk_3 (dk_at dksL_law_95 6 rfl rfl)
theorem dL_law_2442 : decode cL_law 2442 = .ok (.ireturn, 1) := dk_172 (dk_at dksL_law_95 7 rfl rfl)
theorem dL_law_2443 : decode cL_law 2443 = .ok (.aload_n 1, 1) := dk_43 (dk_at dksL_law_95 8 rfl rfl)
theorem dL_law_2444 : decode cL_law 2444 = .ok (.aload_n 3, 1) := dk_45 (dk_at dksL_law_95 9 rfl rfl)
theorem dL_law_2445 : decode cL_law 2445 = .ok (.invokestatic 299, 3) := dk_184 1 43 (dk_at dksL_law_95 10 rfl rfl)
theorem dL_law_2448 : decode cL_law 2448 = .ok (.istore 5, 2) := dk_54 5 (dk_at dksL_law_95 13 rfl rfl)
theorem dL_law_2450 : decode cL_law 2450 = .ok (.aload_n 2, 1) := dk_44 (dk_at dksL_law_95 15 rfl rfl)
theorem dL_law_2451 : decode cL_law 2451 = .ok (.invokevirtual 301, 3) := dk_182 1 45 (dk_at dksL_law_95 16 rfl rfl)
theorem dL_law_2454 : decode cL_law 2454 = .ok (.istore 6, 2) := dk_54 6 (dk_at dksL_law_95 19 rfl rfl)
theorem dL_law_2456 : decode cL_law 2456 = .ok (.aload_n 2, 1) := dk_44 (dk_at dksL_law_95 21 rfl rfl)
theorem dL_law_2457 : decode cL_law 2457 = .ok (.invokevirtual 166, 3) := dk_182 0 166 (dk_at dksL_law_96 0 rfl rfl)
theorem dL_law_2460 : decode cL_law 2460 = .ok (.iload 5, 2) := dk_21 5 (dk_at dksL_law_96 3 rfl rfl)
theorem dL_law_2462 : decode cL_law 2462 = .ok (.if_icmp .eq 5, 3) := dk_159 0 5 (dk_at dksL_law_96 5 rfl rfl)
theorem dL_law_2465 : decode cL_law 2465 = .ok (.iconst 0, 1) := dk_3 (dk_at dksL_law_96 8 rfl rfl)
theorem dL_law_2466 : decode cL_law 2466 = .ok (.ireturn, 1) := dk_172 (dk_at dksL_law_96 9 rfl rfl)
theorem dL_law_2467 : decode cL_law 2467 = .ok (.iload 5, 2) := dk_21 5 (dk_at dksL_law_96 10 rfl rfl)
theorem dL_law_2469 : decode cL_law 2469 = .ok (.ifCond .ne 15, 3) := dk_154 0 15 (dk_at dksL_law_96 12 rfl rfl)
theorem dL_law_2472 : decode cL_law 2472 = .ok (.aload_n 3, 1) := dk_45 (dk_at dksL_law_96 15 rfl rfl)
theorem dL_law_2473 : decode cL_law 2473 = .ok (.iconst 0, 1) := dk_3 (dk_at dksL_law_96 16 rfl rfl)
theorem dL_law_2474 : decode cL_law 2474 = .ok (.laload, 1) := dk_47 (dk_at dksL_law_96 17 rfl rfl)
theorem dL_law_2475 : decode cL_law 2475 = .ok (.iload 6, 2) := dk_21 6 (dk_at dksL_law_96 18 rfl rfl)
theorem dL_law_2477 : decode cL_law 2477 = .ok (.i2l, 1) := dk_133 (dk_at dksL_law_96 20 rfl rfl)
theorem dL_law_2478 : decode cL_law 2478 = .ok (.lcmp, 1) := dk_148 (dk_at dksL_law_96 21 rfl rfl)
theorem dL_law_2479 : decode cL_law 2479 = .ok (.ifCond .eq 5, 3) := dk_153 0 5 (dk_at dksL_law_97 0 rfl rfl)
theorem dL_law_2482 : decode cL_law 2482 = .ok (.iconst 0, 1) := dk_3 (dk_at dksL_law_97 3 rfl rfl)
theorem dL_law_2483 : decode cL_law 2483 = .ok (.ireturn, 1) := dk_172 (dk_at dksL_law_97 4 rfl rfl)
theorem dL_law_2484 : decode cL_law 2484 = .ok (.goto 678, 3) := dk_167 2 166 (dk_at dksL_law_97 5 rfl rfl)
theorem dL_law_2487 : decode cL_law 2487 = .ok (.aload_n 1, 1) := dk_43 (dk_at dksL_law_97 8 rfl rfl)
theorem dL_law_2488 : decode cL_law 2488 = .ok (.aload_n 0, 1) := dk_42 (dk_at dksL_law_97 9 rfl rfl)
theorem dL_law_2489 : decode cL_law 2489 = .ok (.iload 4, 2) := dk_21 4 (dk_at dksL_law_97 10 rfl rfl)
theorem dL_law_2491 : decode cL_law 2491 = .ok (.iconst 1, 1) := dk_4 (dk_at dksL_law_97 12 rfl rfl)
theorem dL_law_2492 : decode cL_law 2492 = .ok (.iadd, 1) := dk_96 (dk_at dksL_law_97 13 rfl rfl)
theorem dL_law_2493 : decode cL_law 2493 = .ok (.iaload, 1) := dk_46 (dk_at dksL_law_97 14 rfl rfl)
theorem dL_law_2494 : decode cL_law 2494 = .ok (.aload_n 3, 1) := dk_45 (dk_at dksL_law_97 15 rfl rfl)
theorem dL_law_2495 : decode cL_law 2495 = .ok (.invokestatic 302, 3) := dk_184 1 46 (dk_at dksL_law_97 16 rfl rfl)
theorem dL_law_2498 : decode cL_law 2498 = .ok (.istore 5, 2) := dk_54 5 (dk_at dksL_law_97 19 rfl rfl)
theorem dL_law_2500 : decode cL_law 2500 = .ok (.aload_n 2, 1) := dk_44 (dk_at dksL_law_97 21 rfl rfl)
theorem dL_law_2501 : decode cL_law 2501 = .ok (.aload_n 0, 1) := dk_42 (dk_at dksL_law_97 22 rfl rfl)
theorem dL_law_2502 : decode cL_law 2502 = .ok (.iload 4, 2) := dk_21 4 (dk_at dksL_law_98 0 rfl rfl)
theorem dL_law_2504 : decode cL_law 2504 = .ok (.iconst 1, 1) := dk_4 (dk_at dksL_law_98 2 rfl rfl)
theorem dL_law_2505 : decode cL_law 2505 = .ok (.iadd, 1) := dk_96 (dk_at dksL_law_98 3 rfl rfl)
theorem dL_law_2506 : decode cL_law 2506 = .ok (.iaload, 1) := dk_46 (dk_at dksL_law_98 4 rfl rfl)
theorem dL_law_2507 : decode cL_law 2507 = .ok (.invokevirtual 304, 3) := dk_182 1 48 (dk_at dksL_law_98 5 rfl rfl)
theorem dL_law_2510 : decode cL_law 2510 = .ok (.istore 6, 2) := dk_54 6 (dk_at dksL_law_98 8 rfl rfl)
theorem dL_law_2512 : decode cL_law 2512 = .ok (.aload_n 2, 1) := dk_44 (dk_at dksL_law_98 10 rfl rfl)
theorem dL_law_2513 : decode cL_law 2513 = .ok (.invokevirtual 166, 3) := dk_182 0 166 (dk_at dksL_law_98 11 rfl rfl)
theorem dL_law_2516 : decode cL_law 2516 = .ok (.iload 5, 2) := dk_21 5 (dk_at dksL_law_98 14 rfl rfl)
theorem dL_law_2518 : decode cL_law 2518 = .ok (.if_icmp .eq 5, 3) := dk_159 0 5 (dk_at dksL_law_98 16 rfl rfl)
theorem dL_law_2521 : decode cL_law 2521 = .ok (.iconst 0, 1) := dk_3 (dk_at dksL_law_98 19 rfl rfl)
theorem dL_law_2522 : decode cL_law 2522 = .ok (.ireturn, 1) := dk_172 (dk_at dksL_law_98 20 rfl rfl)
theorem dL_law_2523 : decode cL_law 2523 = .ok (.iload 5, 2) := dk_21 5 (dk_at dksL_law_98 21 rfl rfl)
theorem dL_law_2525 : decode cL_law 2525 = .ok (.ifCond .ne 15, 3) := dk_154 0 15 (dk_at dksL_law_99 0 rfl rfl)
theorem dL_law_2528 : decode cL_law 2528 = .ok (.aload_n 3, 1) := dk_45 (dk_at dksL_law_99 3 rfl rfl)
theorem dL_law_2529 : decode cL_law 2529 = .ok (.iconst 0, 1) := dk_3 (dk_at dksL_law_99 4 rfl rfl)
theorem dL_law_2530 : decode cL_law 2530 = .ok (.laload, 1) := dk_47 (dk_at dksL_law_99 5 rfl rfl)
theorem dL_law_2531 : decode cL_law 2531 = .ok (.iload 6, 2) := dk_21 6 (dk_at dksL_law_99 6 rfl rfl)
theorem dL_law_2533 : decode cL_law 2533 = .ok (.i2l, 1) := dk_133 (dk_at dksL_law_99 8 rfl rfl)
theorem dL_law_2534 : decode cL_law 2534 = .ok (.lcmp, 1) := dk_148 (dk_at dksL_law_99 9 rfl rfl)
theorem dL_law_2535 : decode cL_law 2535 = .ok (.ifCond .eq 5, 3) := dk_153 0 5 (dk_at dksL_law_99 10 rfl rfl)
theorem dL_law_2538 : decode cL_law 2538 = .ok (.iconst 0, 1) := dk_3 (dk_at dksL_law_99 13 rfl rfl)
theorem dL_law_2539 : decode cL_law 2539 = .ok (.ireturn, 1) := dk_172 (dk_at dksL_law_99 14 rfl rfl)
theorem dL_law_2540 : decode cL_law 2540 = .ok (.goto 622, 3) := dk_167 2 110 (dk_at dksL_law_99 15 rfl rfl)
theorem dL_law_2543 : decode cL_law 2543 = .ok (.aload_n 1, 1) := dk_43 (dk_at dksL_law_99 18 rfl rfl)
theorem dL_law_2544 : decode cL_law 2544 = .ok (.aload_n 0, 1) := dk_42 (dk_at dksL_law_99 19 rfl rfl)
theorem dL_law_2545 : decode cL_law 2545 = .ok (.iload 4, 2) := dk_21 4 (dk_at dksL_law_99 20 rfl rfl)
theorem dL_law_2547 : decode cL_law 2547 = .ok (.iconst 1, 1) := dk_4 (dk_at dksL_law_99 22 rfl rfl)
theorem dL_law_2548 : decode cL_law 2548 = .ok (.iadd, 1) := dk_96 (dk_at dksL_law_99 23 rfl rfl)
theorem dL_law_2549 : decode cL_law 2549 = .ok (.iaload, 1) := dk_46 (dk_at dksL_law_100 0 rfl rfl)
theorem dL_law_2550 : decode cL_law 2550 = .ok (.aload_n 3, 1) := dk_45 (dk_at dksL_law_100 1 rfl rfl)
theorem dL_law_2551 : decode cL_law 2551 = .ok (.invokestatic 305, 3) := dk_184 1 49 (dk_at dksL_law_100 2 rfl rfl)
theorem dL_law_2554 : decode cL_law 2554 = .ok (.istore 5, 2) := dk_54 5 (dk_at dksL_law_100 5 rfl rfl)
theorem dL_law_2556 : decode cL_law 2556 = .ok (.aload_n 2, 1) := dk_44 (dk_at dksL_law_100 7 rfl rfl)
theorem dL_law_2557 : decode cL_law 2557 = .ok (.aload_n 0, 1) := dk_42 (dk_at dksL_law_100 8 rfl rfl)
theorem dL_law_2558 : decode cL_law 2558 = .ok (.iload 4, 2) := dk_21 4 (dk_at dksL_law_100 9 rfl rfl)
theorem dL_law_2560 : decode cL_law 2560 = .ok (.iconst 1, 1) := dk_4 (dk_at dksL_law_100 11 rfl rfl)
theorem dL_law_2561 : decode cL_law 2561 = .ok (.iadd, 1) := dk_96 (dk_at dksL_law_100 12 rfl rfl)
theorem dL_law_2562 : decode cL_law 2562 = .ok (.iaload, 1) := dk_46 (dk_at dksL_law_100 13 rfl rfl)
theorem dL_law_2563 : decode cL_law 2563 = .ok (.invokevirtual 307, 3) := dk_182 1 51 (dk_at dksL_law_100 14 rfl rfl)
theorem dL_law_2566 : decode cL_law 2566 = .ok (.istore 6, 2) := dk_54 6 (dk_at dksL_law_100 17 rfl rfl)
theorem dL_law_2568 : decode cL_law 2568 = .ok (.aload_n 2, 1) := dk_44 (dk_at dksL_law_100 19 rfl rfl)
theorem dL_law_2569 : decode cL_law 2569 = .ok (.invokevirtual 166, 3) := dk_182 0 166 (dk_at dksL_law_100 20 rfl rfl)
theorem dL_law_2572 : decode cL_law 2572 = .ok (.iload 5, 2) := dk_21 5 (dk_at dksL_law_101 0 rfl rfl)
theorem dL_law_2574 : decode cL_law 2574 = .ok (.if_icmp .eq 5, 3) := dk_159 0 5 (dk_at dksL_law_101 2 rfl rfl)
theorem dL_law_2577 : decode cL_law 2577 = .ok (.iconst 0, 1) := dk_3 (dk_at dksL_law_101 5 rfl rfl)
theorem dL_law_2578 : decode cL_law 2578 = .ok (.ireturn, 1) := dk_172 (dk_at dksL_law_101 6 rfl rfl)
theorem dL_law_2579 : decode cL_law 2579 = .ok (.iload 5, 2) := dk_21 5 (dk_at dksL_law_101 7 rfl rfl)
theorem dL_law_2581 : decode cL_law 2581 = .ok (.ifCond .ne 15, 3) := dk_154 0 15 (dk_at dksL_law_101 9 rfl rfl)
theorem dL_law_2584 : decode cL_law 2584 = .ok (.aload_n 3, 1) := dk_45 (dk_at dksL_law_101 12 rfl rfl)
theorem dL_law_2585 : decode cL_law 2585 = .ok (.iconst 0, 1) := dk_3 (dk_at dksL_law_101 13 rfl rfl)
theorem dL_law_2586 : decode cL_law 2586 = .ok (.laload, 1) := dk_47 (dk_at dksL_law_101 14 rfl rfl)
theorem dL_law_2587 : decode cL_law 2587 = .ok (.iload 6, 2) := dk_21 6 (dk_at dksL_law_101 15 rfl rfl)
theorem dL_law_2589 : decode cL_law 2589 = .ok (.i2l, 1) := dk_133 (dk_at dksL_law_101 17 rfl rfl)
theorem dL_law_2590 : decode cL_law 2590 = .ok (.lcmp, 1) := dk_148 (dk_at dksL_law_101 18 rfl rfl)
theorem dL_law_2591 : decode cL_law 2591 = .ok (.ifCond .eq 5, 3) := dk_153 0 5 (dk_at dksL_law_101 19 rfl rfl)
theorem dL_law_2594 : decode cL_law 2594 = .ok (.iconst 0, 1) := dk_3 (dk_at dksL_law_101 22 rfl rfl)
theorem dL_law_2595 : decode cL_law 2595 = .ok (.ireturn, 1) := dk_172 (dk_at dksL_law_101 23 rfl rfl)
theorem dL_law_2596 : decode cL_law 2596 = .ok (.goto 566, 3) := dk_167 2 54 (dk_at dksL_law_102 0 rfl rfl)
theorem dL_law_2599 : decode cL_law 2599 = .ok (.aload_n 1, 1) := dk_43 (dk_at dksL_law_102 3 rfl rfl)
theorem dL_law_2600 : decode cL_law 2600 = .ok (.aload_n 0, 1) := dk_42 (dk_at dksL_law_102 4 rfl rfl)
theorem dL_law_2601 : decode cL_law 2601 = .ok (.iload 4, 2) := dk_21 4 (dk_at dksL_law_102 5 rfl rfl)
theorem dL_law_2603 : decode cL_law 2603 = .ok (.iconst 1, 1) := dk_4 (dk_at dksL_law_102 7 rfl rfl)
theorem dL_law_2604 : decode cL_law 2604 = .ok (.iadd, 1) := dk_96 (dk_at dksL_law_102 8 rfl rfl)
theorem dL_law_2605 : decode cL_law 2605 = .ok (.iaload, 1) := dk_46 (dk_at dksL_law_102 9 rfl rfl)
theorem dL_law_2606 : decode cL_law 2606 = .ok (.aload_n 3, 1) := dk_45 (dk_at dksL_law_102 10 rfl rfl)
theorem dL_law_2607 : decode cL_law 2607 = .ok (.invokestatic 308, 3) := dk_184 1 52 (dk_at dksL_law_102 11 rfl rfl)
theorem dL_law_2610 : decode cL_law 2610 = .ok (.istore 5, 2) := dk_54 5 (dk_at dksL_law_102 14 rfl rfl)
theorem dL_law_2612 : decode cL_law 2612 = .ok (.aload_n 2, 1) := dk_44 (dk_at dksL_law_102 16 rfl rfl)
theorem dL_law_2613 : decode cL_law 2613 = .ok (.aload_n 0, 1) := dk_42 (dk_at dksL_law_102 17 rfl rfl)
theorem dL_law_2614 : decode cL_law 2614 = .ok (.iload 4, 2) := dk_21 4 (dk_at dksL_law_102 18 rfl rfl)
theorem dL_law_2616 : decode cL_law 2616 = .ok (.iconst 1, 1) := dk_4 (dk_at dksL_law_102 20 rfl rfl)
theorem dL_law_2617 : decode cL_law 2617 = .ok (.iadd, 1) := dk_96 (dk_at dksL_law_102 21 rfl rfl)
theorem dL_law_2618 : decode cL_law 2618 = .ok (.iaload, 1) := dk_46 (dk_at dksL_law_102 22 rfl rfl)
theorem dL_law_2619 : decode cL_law 2619 = .ok (.invokevirtual 310, 3) := dk_182 1 54 (dk_at dksL_law_103 0 rfl rfl)
theorem dL_law_2622 : decode cL_law 2622 = .ok (.istore 6, 2) := dk_54 6 (dk_at dksL_law_103 3 rfl rfl)
theorem dL_law_2624 : decode cL_law 2624 = .ok (.aload_n 2, 1) := dk_44 (dk_at dksL_law_103 5 rfl rfl)
theorem dL_law_2625 : decode cL_law 2625 = .ok (.invokevirtual 166, 3) := dk_182 0 166 (dk_at dksL_law_103 6 rfl rfl)
theorem dL_law_2628 : decode cL_law 2628 = .ok (.iload 5, 2) := dk_21 5 (dk_at dksL_law_103 9 rfl rfl)
theorem dL_law_2630 : decode cL_law 2630 = .ok (.if_icmp .eq 5, 3) := dk_159 0 5 (dk_at dksL_law_103 11 rfl rfl)
theorem dL_law_2633 : decode cL_law 2633 = .ok (.iconst 0, 1) := dk_3 (dk_at dksL_law_103 14 rfl rfl)
theorem dL_law_2634 : decode cL_law 2634 = .ok (.ireturn, 1) := dk_172 (dk_at dksL_law_103 15 rfl rfl)
theorem dL_law_2635 : decode cL_law 2635 = .ok (.iload 5, 2) := dk_21 5 (dk_at dksL_law_103 16 rfl rfl)
theorem dL_law_2637 : decode cL_law 2637 = .ok (.ifCond .ne 15, 3) := dk_154 0 15 (dk_at dksL_law_103 18 rfl rfl)
theorem dL_law_2640 : decode cL_law 2640 = .ok (.aload_n 3, 1) := dk_45 (dk_at dksL_law_103 21 rfl rfl)
theorem dL_law_2641 : decode cL_law 2641 = .ok (.iconst 0, 1) := dk_3 (dk_at dksL_law_103 22 rfl rfl)
theorem dL_law_2642 : decode cL_law 2642 = .ok (.laload, 1) := dk_47 (dk_at dksL_law_103 23 rfl rfl)
theorem dL_law_2643 : decode cL_law 2643 = .ok (.iload 6, 2) := dk_21 6 (dk_at dksL_law_104 0 rfl rfl)
theorem dL_law_2645 : decode cL_law 2645 = .ok (.i2l, 1) := dk_133 (dk_at dksL_law_104 2 rfl rfl)
theorem dL_law_2646 : decode cL_law 2646 = .ok (.lcmp, 1) := dk_148 (dk_at dksL_law_104 3 rfl rfl)
theorem dL_law_2647 : decode cL_law 2647 = .ok (.ifCond .eq 5, 3) := dk_153 0 5 (dk_at dksL_law_104 4 rfl rfl)
theorem dL_law_2650 : decode cL_law 2650 = .ok (.iconst 0, 1) := dk_3 (dk_at dksL_law_104 7 rfl rfl)
theorem dL_law_2651 : decode cL_law 2651 = .ok (.ireturn, 1) := dk_172 (dk_at dksL_law_104 8 rfl rfl)
theorem dL_law_2652 : decode cL_law 2652 = .ok (.goto 510, 3) := dk_167 1 254 (dk_at dksL_law_104 9 rfl rfl)
theorem dL_law_2655 : decode cL_law 2655 = .ok (.aload_n 1, 1) := dk_43 (dk_at dksL_law_104 12 rfl rfl)
theorem dL_law_2656 : decode cL_law 2656 = .ok (.invokevirtual 311, 3) := dk_182 1 55 (dk_at dksL_law_104 13 rfl rfl)
theorem dL_law_2659 : decode cL_law 2659 = .ok (.aload_n 2, 1) := dk_44 (dk_at dksL_law_104 16 rfl rfl)
theorem dL_law_2660 : decode cL_law 2660 = .ok (.invokevirtual 314, 3) := dk_182 1 58 (dk_at dksL_law_104 17 rfl rfl)
theorem dL_law_2663 : decode cL_law 2663 = .ok (.if_icmp .eq 499, 3) := dk_159 1 243 (dk_at dksL_law_104 20 rfl rfl)
theorem dL_law_2666 : decode cL_law 2666 = .ok (.iconst 0, 1) := dk_3 (dk_at dksL_law_104 23 rfl rfl)
theorem dL_law_2667 : decode cL_law 2667 = .ok (.ireturn, 1) := dk_172 (dk_at dksL_law_105 0 rfl rfl)
theorem dL_law_2668 : decode cL_law 2668 = .ok (.aload_n 1, 1) := dk_43 (dk_at dksL_law_105 1 rfl rfl)
theorem dL_law_2669 : decode cL_law 2669 = .ok (.invokevirtual 315, 3) := dk_182 1 59 (dk_at dksL_law_105 2 rfl rfl)
theorem dL_law_2672 : decode cL_law 2672 = .ok (.aload_n 2, 1) := dk_44 (dk_at dksL_law_105 5 rfl rfl)
theorem dL_law_2673 : decode cL_law 2673 = .ok (.invokevirtual 318, 3) := dk_182 1 62 (dk_at dksL_law_105 6 rfl rfl)
theorem dL_law_2676 : decode cL_law 2676 = .ok (.if_icmp .eq 486, 3) := dk_159 1 230 (dk_at dksL_law_105 9 rfl rfl)
theorem dL_law_2679 : decode cL_law 2679 = .ok (.iconst 0, 1) := dk_3 (dk_at dksL_law_105 12 rfl rfl)
theorem dL_law_2680 : decode cL_law 2680 = .ok (.ireturn, 1) := dk_172 (dk_at dksL_law_105 13 rfl rfl)
theorem dL_law_2681 : decode cL_law 2681 = .ok (.aload_n 1, 1) := dk_43 (dk_at dksL_law_105 14 rfl rfl)
theorem dL_law_2682 : decode cL_law 2682 = .ok (.invokevirtual 319, 3) := dk_182 1 63 (dk_at dksL_law_105 15 rfl rfl)
theorem dL_law_2685 : decode cL_law 2685 = .ok (.fstore 5, 2) := dk_56 5 (dk_at dksL_law_105 18 rfl rfl)
theorem dL_law_2687 : decode cL_law 2687 = .ok (.aload_n 2, 1) := dk_44 (dk_at dksL_law_105 20 rfl rfl)
theorem dL_law_2688 : decode cL_law 2688 = .ok (.invokevirtual 323, 3) := dk_182 1 67 (dk_at dksL_law_105 21 rfl rfl)
theorem dL_law_2691 : decode cL_law 2691 = .ok (.fstore 6, 2) := dk_56 6 (dk_at dksL_law_106 0 rfl rfl)
theorem dL_law_2693 : decode cL_law 2693 = .ok (.fload 5, 2) := dk_23 5 (dk_at dksL_law_106 2 rfl rfl)
theorem dL_law_2695 : decode cL_law 2695 = .ok (.fload 6, 2) := dk_23 6 (dk_at dksL_law_106 4 rfl rfl)
theorem dL_law_2697 : decode cL_law 2697 = .ok (.fcmp .l, 1) := dk_149 (dk_at dksL_law_106 6 rfl rfl)
theorem dL_law_2698 : decode cL_law 2698 = .ok (.ifCond .eq 21, 3) := dk_153 0 21 (dk_at dksL_law_106 7 rfl rfl)
theorem dL_law_2701 : decode cL_law 2701 = .ok (.fload 5, 2) := dk_23 5 (dk_at dksL_law_106 10 rfl rfl)
theorem dL_law_2703 : decode cL_law 2703 = .ok (.fload 5, 2) := dk_23 5 (dk_at dksL_law_106 12 rfl rfl)
theorem dL_law_2705 : decode cL_law 2705 = .ok (.fcmp .l, 1) := dk_149 (dk_at dksL_law_106 14 rfl rfl)
theorem dL_law_2706 : decode cL_law 2706 = .ok (.ifCond .eq 11, 3) := dk_153 0 11 (dk_at dksL_law_106 15 rfl rfl)
theorem dL_law_2709 : decode cL_law 2709 = .ok (.fload 6, 2) := dk_23 6 (dk_at dksL_law_106 18 rfl rfl)
theorem dL_law_2711 : decode cL_law 2711 = .ok (.fload 6, 2) := dk_23 6 (dk_at dksL_law_106 20 rfl rfl)
theorem dL_law_2713 : decode cL_law 2713 = .ok (.fcmp .l, 1) := dk_149 (dk_at dksL_law_106 22 rfl rfl)
theorem dL_law_2714 : decode cL_law 2714 = .ok (.ifCond .ne 5, 3) := dk_154 0 5 (dk_at dksL_law_107 0 rfl rfl)
theorem dL_law_2717 : decode cL_law 2717 = .ok (.iconst 0, 1) := dk_3 (dk_at dksL_law_107 3 rfl rfl)
theorem dL_law_2718 : decode cL_law 2718 = .ok (.ireturn, 1) := dk_172 (dk_at dksL_law_107 4 rfl rfl)
theorem dL_law_2719 : decode cL_law 2719 = .ok (.goto 443, 3) := dk_167 1 187 (dk_at dksL_law_107 5 rfl rfl)
theorem dL_law_2722 : decode cL_law 2722 = .ok (.aload_n 1, 1) := dk_43 (dk_at dksL_law_107 8 rfl rfl)
theorem dL_law_2723 : decode cL_law 2723 = .ok (.invokevirtual 324, 3) := dk_182 1 68 (dk_at dksL_law_107 9 rfl rfl)
theorem dL_law_2726 : decode cL_law 2726 = .ok (.aload_n 2, 1) := dk_44 (dk_at dksL_law_107 12 rfl rfl)
theorem dL_law_2727 : decode cL_law 2727 = .ok (.invokevirtual 327, 3) := dk_182 1 71 (dk_at dksL_law_107 13 rfl rfl)
theorem dL_law_2730 : decode cL_law 2730 = .ok (.if_icmp .eq 432, 3) := dk_159 1 176 (dk_at dksL_law_107 16 rfl rfl)
theorem dL_law_2733 : decode cL_law 2733 = .ok (.iconst 0, 1) := dk_3 (dk_at dksL_law_107 19 rfl rfl)
theorem dL_law_2734 : decode cL_law 2734 = .ok (.ireturn, 1) := dk_172 (dk_at dksL_law_107 20 rfl rfl)
theorem dL_law_2735 : decode cL_law 2735 = .ok (.aload_n 1, 1) := dk_43 (dk_at dksL_law_107 21 rfl rfl)
theorem dL_law_2736 : decode cL_law 2736 = .ok (.aload_n 0, 1) := dk_42 (dk_at dksL_law_107 22 rfl rfl)
theorem dL_law_2737 : decode cL_law 2737 = .ok (.iload 4, 2) := dk_21 4 (dk_at dksL_law_108 0 rfl rfl)
theorem dL_law_2739 : decode cL_law 2739 = .ok (.iconst 1, 1) := dk_4 (dk_at dksL_law_108 2 rfl rfl)
theorem dL_law_2740 : decode cL_law 2740 = .ok (.iadd, 1) := dk_96 (dk_at dksL_law_108 3 rfl rfl)
theorem dL_law_2741 : decode cL_law 2741 = .ok (.iaload, 1) := dk_46 (dk_at dksL_law_108 4 rfl rfl)
theorem dL_law_2742 : decode cL_law 2742 = .ok (.aload_n 3, 1) := dk_45 (dk_at dksL_law_108 5 rfl rfl)
theorem dL_law_2743 : decode cL_law 2743 = .ok (.invokestatic 328, 3) := dk_184 1 72 (dk_at dksL_law_108 6 rfl rfl)
theorem dL_law_2746 : decode cL_law 2746 = .ok (.istore 5, 2) := dk_54 5 (dk_at dksL_law_108 9 rfl rfl)
theorem dL_law_2748 : decode cL_law 2748 = .ok (.aload_n 2, 1) := dk_44 (dk_at dksL_law_108 11 rfl rfl)
theorem dL_law_2749 : decode cL_law 2749 = .ok (.aload_n 0, 1) := dk_42 (dk_at dksL_law_108 12 rfl rfl)
theorem dL_law_2750 : decode cL_law 2750 = .ok (.iload 4, 2) := dk_21 4 (dk_at dksL_law_108 13 rfl rfl)
theorem dL_law_2752 : decode cL_law 2752 = .ok (.iconst 1, 1) := dk_4 (dk_at dksL_law_108 15 rfl rfl)
theorem dL_law_2753 : decode cL_law 2753 = .ok (.iadd, 1) := dk_96 (dk_at dksL_law_108 16 rfl rfl)
theorem dL_law_2754 : decode cL_law 2754 = .ok (.iaload, 1) := dk_46 (dk_at dksL_law_108 17 rfl rfl)
theorem dL_law_2755 : decode cL_law 2755 = .ok (.invokevirtual 330, 3) := dk_182 1 74 (dk_at dksL_law_108 18 rfl rfl)
theorem dL_law_2758 : decode cL_law 2758 = .ok (.lstore 6, 2) := dk_55 6 (dk_at dksL_law_108 21 rfl rfl)
theorem dL_law_2760 : decode cL_law 2760 = .ok (.aload_n 2, 1) := dk_44 (dk_at dksL_law_108 23 rfl rfl)
theorem dL_law_2761 : decode cL_law 2761 = .ok (.invokevirtual 166, 3) := dk_182 0 166 (dk_at dksL_law_109 0 rfl rfl)
theorem dL_law_2764 : decode cL_law 2764 = .ok (.iload 5, 2) := dk_21 5 (dk_at dksL_law_109 3 rfl rfl)
theorem dL_law_2766 : decode cL_law 2766 = .ok (.if_icmp .eq 5, 3) := dk_159 0 5 (dk_at dksL_law_109 5 rfl rfl)
theorem dL_law_2769 : decode cL_law 2769 = .ok (.iconst 0, 1) := dk_3 (dk_at dksL_law_109 8 rfl rfl)
theorem dL_law_2770 : decode cL_law 2770 = .ok (.ireturn, 1) := dk_172 (dk_at dksL_law_109 9 rfl rfl)
theorem dL_law_2771 : decode cL_law 2771 = .ok (.iload 5, 2) := dk_21 5 (dk_at dksL_law_109 10 rfl rfl)
theorem dL_law_2773 : decode cL_law 2773 = .ok (.ifCond .ne 14, 3) := dk_154 0 14 (dk_at dksL_law_109 12 rfl rfl)
theorem dL_law_2776 : decode cL_law 2776 = .ok (.aload_n 3, 1) := dk_45 (dk_at dksL_law_109 15 rfl rfl)
theorem dL_law_2777 : decode cL_law 2777 = .ok (.iconst 0, 1) := dk_3 (dk_at dksL_law_109 16 rfl rfl)
theorem dL_law_2778 : decode cL_law 2778 = .ok (.laload, 1) := dk_47 (dk_at dksL_law_109 17 rfl rfl)
theorem dL_law_2779 : decode cL_law 2779 = .ok (.lload 6, 2) := dk_22 6 (dk_at dksL_law_109 18 rfl rfl)
theorem dL_law_2781 : decode cL_law 2781 = .ok (.lcmp, 1) := dk_148 (dk_at dksL_law_109 20 rfl rfl)
theorem dL_law_2782 : decode cL_law 2782 = .ok (.ifCond .eq 5, 3) := dk_153 0 5 (dk_at dksL_law_109 21 rfl rfl)
theorem dL_law_2785 : decode cL_law 2785 = .ok (.iconst 0, 1) := dk_3 (dk_at dksL_law_110 0 rfl rfl)
theorem dL_law_2786 : decode cL_law 2786 = .ok (.ireturn, 1) := dk_172 (dk_at dksL_law_110 1 rfl rfl)
theorem dL_law_2787 : decode cL_law 2787 = .ok (.goto 375, 3) := dk_167 1 119 (dk_at dksL_law_110 2 rfl rfl)
theorem dL_law_2790 : decode cL_law 2790 = .ok (.aload_n 1, 1) := dk_43 (dk_at dksL_law_110 5 rfl rfl)
theorem dL_law_2791 : decode cL_law 2791 = .ok (.invokevirtual 331, 3) := dk_182 1 75 (dk_at dksL_law_110 6 rfl rfl)
theorem dL_law_2794 : decode cL_law 2794 = .ok (.aload_n 2, 1) := dk_44 (dk_at dksL_law_110 9 rfl rfl)
theorem dL_law_2795 : decode cL_law 2795 = .ok (.invokevirtual 334, 3) := dk_182 1 78 (dk_at dksL_law_110 10 rfl rfl)
theorem dL_law_2798 : decode cL_law 2798 = .ok (.if_icmp .eq 364, 3) := dk_159 1 108 (dk_at dksL_law_110 13 rfl rfl)
theorem dL_law_2801 : decode cL_law 2801 = .ok (.iconst 0, 1) := dk_3 (dk_at dksL_law_110 16 rfl rfl)
theorem dL_law_2802 : decode cL_law 2802 = .ok (.ireturn, 1) := dk_172 (dk_at dksL_law_110 17 rfl rfl)
theorem dL_law_2803 : decode cL_law 2803 = .ok (.aload_n 1, 1) := dk_43 (dk_at dksL_law_110 18 rfl rfl)
theorem dL_law_2804 : decode cL_law 2804 = .ok (.invokevirtual 335, 3) := dk_182 1 79 (dk_at dksL_law_110 19 rfl rfl)
theorem dL_law_2807 : decode cL_law 2807 = .ok (.aload_n 2, 1) := dk_44 (dk_at dksL_law_110 22 rfl rfl)
theorem dL_law_2808 : decode cL_law 2808 = .ok (.invokevirtual 338, 3) := dk_182 1 82 (dk_at dksL_law_111 0 rfl rfl)
theorem dL_law_2811 : decode cL_law 2811 = .ok (.if_icmp .eq 351, 3) := dk_159 1 95 (dk_at dksL_law_111 3 rfl rfl)
theorem dL_law_2814 : decode cL_law 2814 = .ok (.iconst 0, 1) := dk_3 (dk_at dksL_law_111 6 rfl rfl)
theorem dL_law_2815 : decode cL_law 2815 = .ok (.ireturn, 1) := dk_172 (dk_at dksL_law_111 7 rfl rfl)
theorem dL_law_2816 : decode cL_law 2816 = .ok (.aload_n 1, 1) := dk_43 (dk_at dksL_law_111 8 rfl rfl)
theorem dL_law_2817 : decode cL_law 2817 = .ok (.aload_n 3, 1) := dk_45 (dk_at dksL_law_111 9 rfl rfl)
theorem dL_law_2818 : decode cL_law 2818 = .ok (.invokestatic 339, 3) := dk_184 1 83 (dk_at dksL_law_111 10 rfl rfl)
theorem dL_law_2821 : decode cL_law 2821 = .ok (.istore 5, 2) := dk_54 5 (dk_at dksL_law_111 13 rfl rfl)
theorem dL_law_2823 : decode cL_law 2823 = .ok (.aload_n 2, 1) := dk_44 (dk_at dksL_law_111 15 rfl rfl)
theorem dL_law_2824 : decode cL_law 2824 = .ok (.invokevirtual 341, 3) := dk_182 1 85 (dk_at dksL_law_111 16 rfl rfl)
theorem dL_law_2827 : decode cL_law 2827 = .ok (.istore 6, 2) := dk_54 6 (dk_at dksL_law_111 19 rfl rfl)
theorem dL_law_2829 : decode cL_law 2829 = .ok (.aload_n 2, 1) := dk_44 (dk_at dksL_law_111 21 rfl rfl)
theorem dL_law_2830 : decode cL_law 2830 = .ok (.invokevirtual 166, 3) := dk_182 0 166 (dk_at dksL_law_112 0 rfl rfl)
theorem dL_law_2833 : decode cL_law 2833 = .ok (.iload 5, 2) := dk_21 5 (dk_at dksL_law_112 3 rfl rfl)
theorem dL_law_2835 : decode cL_law 2835 = .ok (.if_icmp .eq 5, 3) := dk_159 0 5 (dk_at dksL_law_112 5 rfl rfl)
theorem dL_law_2838 : decode cL_law 2838 = .ok (.iconst 0, 1) := dk_3 (dk_at dksL_law_112 8 rfl rfl)
theorem dL_law_2839 : decode cL_law 2839 = .ok (.ireturn, 1) := dk_172 (dk_at dksL_law_112 9 rfl rfl)
theorem dL_law_2840 : decode cL_law 2840 = .ok (.iload 5, 2) := dk_21 5 (dk_at dksL_law_112 10 rfl rfl)
theorem dL_law_2842 : decode cL_law 2842 = .ok (.ifCond .ne 15, 3) := dk_154 0 15 (dk_at dksL_law_112 12 rfl rfl)
theorem dL_law_2845 : decode cL_law 2845 = .ok (.aload_n 3, 1) := dk_45 (dk_at dksL_law_112 15 rfl rfl)
theorem dL_law_2846 : decode cL_law 2846 = .ok (.iconst 0, 1) := dk_3 (dk_at dksL_law_112 16 rfl rfl)
theorem dL_law_2847 : decode cL_law 2847 = .ok (.laload, 1) := dk_47 (dk_at dksL_law_112 17 rfl rfl)
theorem dL_law_2848 : decode cL_law 2848 = .ok (.iload 6, 2) := dk_21 6 (dk_at dksL_law_112 18 rfl rfl)
theorem dL_law_2850 : decode cL_law 2850 = .ok (.i2l, 1) := dk_133 (dk_at dksL_law_112 20 rfl rfl)
theorem dL_law_2851 : decode cL_law 2851 = .ok (.lcmp, 1) := dk_148 (dk_at dksL_law_112 21 rfl rfl)
theorem dL_law_2852 : decode cL_law 2852 = .ok (.ifCond .eq 5, 3) := dk_153 0 5 (dk_at dksL_law_113 0 rfl rfl)
theorem dL_law_2855 : decode cL_law 2855 = .ok (.iconst 0, 1) := dk_3 (dk_at dksL_law_113 3 rfl rfl)
theorem dL_law_2856 : decode cL_law 2856 = .ok (.ireturn, 1) := dk_172 (dk_at dksL_law_113 4 rfl rfl)
theorem dL_law_2857 : decode cL_law 2857 = .ok (.goto 305, 3) := dk_167 1 49 (dk_at dksL_law_113 5 rfl rfl)
theorem dL_law_2860 : decode cL_law 2860 = .ok (.aload_n 1, 1) := dk_43 (dk_at dksL_law_113 8 rfl rfl)
theorem dL_law_2861 : decode cL_law 2861 = .ok (.invokevirtual 342, 3) := dk_182 1 86 (dk_at dksL_law_113 9 rfl rfl)
theorem dL_law_2864 : decode cL_law 2864 = .ok (.aload_n 2, 1) := dk_44 (dk_at dksL_law_113 12 rfl rfl)
theorem dL_law_2865 : decode cL_law 2865 = .ok (.invokevirtual 345, 3) := dk_182 1 89 (dk_at dksL_law_113 13 rfl rfl)
theorem dL_law_2868 : decode cL_law 2868 = .ok (.if_icmp .eq 294, 3) := dk_159 1 38 (dk_at dksL_law_113 16 rfl rfl)
theorem dL_law_2871 : decode cL_law 2871 = .ok (.iconst 0, 1) := dk_3 (dk_at dksL_law_113 19 rfl rfl)
theorem dL_law_2872 : decode cL_law 2872 = .ok (.ireturn, 1) := dk_172 (dk_at dksL_law_113 20 rfl rfl)
theorem dL_law_2873 : decode cL_law 2873 = .ok (.aload_n 1, 1) := dk_43 (dk_at dksL_law_113 21 rfl rfl)
theorem dL_law_2874 : decode cL_law 2874 = .ok (.aload_n 3, 1) := dk_45 (dk_at dksL_law_113 22 rfl rfl)
theorem dL_law_2875 : decode cL_law 2875 = .ok (.invokestatic 346, 3) := dk_184 1 90 (dk_at dksL_law_114 0 rfl rfl)
theorem dL_law_2878 : decode cL_law 2878 = .ok (.istore 5, 2) := dk_54 5 (dk_at dksL_law_114 3 rfl rfl)
theorem dL_law_2880 : decode cL_law 2880 = .ok (.aload_n 2, 1) := dk_44 (dk_at dksL_law_114 5 rfl rfl)
theorem dL_law_2881 : decode cL_law 2881 = .ok (.invokevirtual 348, 3) := dk_182 1 92 (dk_at dksL_law_114 6 rfl rfl)
theorem dL_law_2884 : decode cL_law 2884 = .ok (.istore 6, 2) := dk_54 6 (dk_at dksL_law_114 9 rfl rfl)
theorem dL_law_2886 : decode cL_law 2886 = .ok (.aload_n 2, 1) := dk_44 (dk_at dksL_law_114 11 rfl rfl)
theorem dL_law_2887 : decode cL_law 2887 = .ok (.invokevirtual 166, 3) := dk_182 0 166 (dk_at dksL_law_114 12 rfl rfl)
theorem dL_law_2890 : decode cL_law 2890 = .ok (.iload 5, 2) := dk_21 5 (dk_at dksL_law_114 15 rfl rfl)
theorem dL_law_2892 : decode cL_law 2892 = .ok (.if_icmp .eq 5, 3) := dk_159 0 5 (dk_at dksL_law_114 17 rfl rfl)
theorem dL_law_2895 : decode cL_law 2895 = .ok (.iconst 0, 1) := dk_3 (dk_at dksL_law_114 20 rfl rfl)
theorem dL_law_2896 : decode cL_law 2896 = .ok (.ireturn, 1) := dk_172 (dk_at dksL_law_114 21 rfl rfl)
theorem dL_law_2897 : decode cL_law 2897 = .ok (.iload 5, 2) := dk_21 5 (dk_at dksL_law_114 22 rfl rfl)
theorem dL_law_2899 : decode cL_law 2899 = .ok (.ifCond .ne 15, 3) := dk_154 0 15 (dk_at dksL_law_115 0 rfl rfl)
theorem dL_law_2902 : decode cL_law 2902 = .ok (.aload_n 3, 1) := dk_45 (dk_at dksL_law_115 3 rfl rfl)
theorem dL_law_2903 : decode cL_law 2903 = .ok (.iconst 0, 1) := dk_3 (dk_at dksL_law_115 4 rfl rfl)
theorem dL_law_2904 : decode cL_law 2904 = .ok (.laload, 1) := dk_47 (dk_at dksL_law_115 5 rfl rfl)
theorem dL_law_2905 : decode cL_law 2905 = .ok (.iload 6, 2) := dk_21 6 (dk_at dksL_law_115 6 rfl rfl)
theorem dL_law_2907 : decode cL_law 2907 = .ok (.i2l, 1) := dk_133 (dk_at dksL_law_115 8 rfl rfl)
theorem dL_law_2908 : decode cL_law 2908 = .ok (.lcmp, 1) := dk_148 (dk_at dksL_law_115 9 rfl rfl)
theorem dL_law_2909 : decode cL_law 2909 = .ok (.ifCond .eq 5, 3) := dk_153 0 5 (dk_at dksL_law_115 10 rfl rfl)
theorem dL_law_2912 : decode cL_law 2912 = .ok (.iconst 0, 1) := dk_3 (dk_at dksL_law_115 13 rfl rfl)
theorem dL_law_2913 : decode cL_law 2913 = .ok (.ireturn, 1) := dk_172 (dk_at dksL_law_115 14 rfl rfl)
theorem dL_law_2914 : decode cL_law 2914 = .ok (.goto 248, 3) := dk_167 0 248 (dk_at dksL_law_115 15 rfl rfl)
theorem dL_law_2917 : decode cL_law 2917 = .ok (.aload_n 1, 1) := dk_43 (dk_at dksL_law_115 18 rfl rfl)
theorem dL_law_2918 : decode cL_law 2918 = .ok (.aload_n 0, 1) := dk_42 (dk_at dksL_law_115 19 rfl rfl)
theorem dL_law_2919 : decode cL_law 2919 = .ok (.iload 4, 2) := dk_21 4 (dk_at dksL_law_115 20 rfl rfl)
theorem dL_law_2921 : decode cL_law 2921 = .ok (.iconst 1, 1) := dk_4 (dk_at dksL_law_115 22 rfl rfl)
theorem dL_law_2922 : decode cL_law 2922 = .ok (.iadd, 1) := dk_96 (dk_at dksL_law_115 23 rfl rfl)
theorem dL_law_2923 : decode cL_law 2923 = .ok (.iaload, 1) := dk_46 (dk_at dksL_law_116 0 rfl rfl)
theorem dL_law_2924 : decode cL_law 2924 = .ok (.aload_n 3, 1) := dk_45 (dk_at dksL_law_116 1 rfl rfl)
theorem dL_law_2925 : decode cL_law 2925 = .ok (.invokestatic 349, 3) := dk_184 1 93 (dk_at dksL_law_116 2 rfl rfl)
theorem dL_law_2928 : decode cL_law 2928 = .ok (.istore 5, 2) := dk_54 5 (dk_at dksL_law_116 5 rfl rfl)
theorem dL_law_2930 : decode cL_law 2930 = .ok (.aload_n 2, 1) := dk_44 (dk_at dksL_law_116 7 rfl rfl)
theorem dL_law_2931 : decode cL_law 2931 = .ok (.aload_n 0, 1) := dk_42 (dk_at dksL_law_116 8 rfl rfl)
theorem dL_law_2932 : decode cL_law 2932 = .ok (.iload 4, 2) := dk_21 4 (dk_at dksL_law_116 9 rfl rfl)
theorem dL_law_2934 : decode cL_law 2934 = .ok (.iconst 1, 1) := dk_4 (dk_at dksL_law_116 11 rfl rfl)
theorem dL_law_2935 : decode cL_law 2935 = .ok (.iadd, 1) := dk_96 (dk_at dksL_law_116 12 rfl rfl)
theorem dL_law_2936 : decode cL_law 2936 = .ok (.iaload, 1) := dk_46 (dk_at dksL_law_116 13 rfl rfl)
theorem dL_law_2937 : decode cL_law 2937 = .ok (.invokevirtual 351, 3) := dk_182 1 95 (dk_at dksL_law_116 14 rfl rfl)
theorem dL_law_2940 : decode cL_law 2940 = .ok (.istore 6, 2) := dk_54 6 (dk_at dksL_law_116 17 rfl rfl)
theorem dL_law_2942 : decode cL_law 2942 = .ok (.aload_n 2, 1) := dk_44 (dk_at dksL_law_116 19 rfl rfl)
theorem dL_law_2943 : decode cL_law 2943 = .ok (.invokevirtual 166, 3) := dk_182 0 166 (dk_at dksL_law_116 20 rfl rfl)
theorem dL_law_2946 : decode cL_law 2946 = .ok (.iload 5, 2) := dk_21 5 (dk_at dksL_law_117 0 rfl rfl)
theorem dL_law_2948 : decode cL_law 2948 = .ok (.if_icmp .eq 5, 3) := dk_159 0 5 (dk_at dksL_law_117 2 rfl rfl)
theorem dL_law_2951 : decode cL_law 2951 = .ok (.iconst 0, 1) := dk_3 (dk_at dksL_law_117 5 rfl rfl)
theorem dL_law_2952 : decode cL_law 2952 = .ok (.ireturn, 1) := dk_172 (dk_at dksL_law_117 6 rfl rfl)
theorem dL_law_2953 : decode cL_law 2953 = .ok (.iload 5, 2) := dk_21 5 (dk_at dksL_law_117 7 rfl rfl)
theorem dL_law_2955 : decode cL_law 2955 = .ok (.ifCond .ne 15, 3) := dk_154 0 15 (dk_at dksL_law_117 9 rfl rfl)
theorem dL_law_2958 : decode cL_law 2958 = .ok (.aload_n 3, 1) := dk_45 (dk_at dksL_law_117 12 rfl rfl)
theorem dL_law_2959 : decode cL_law 2959 = .ok (.iconst 0, 1) := dk_3 (dk_at dksL_law_117 13 rfl rfl)
theorem dL_law_2960 : decode cL_law 2960 = .ok (.laload, 1) := dk_47 (dk_at dksL_law_117 14 rfl rfl)
theorem dL_law_2961 : decode cL_law 2961 = .ok (.iload 6, 2) := dk_21 6 (dk_at dksL_law_117 15 rfl rfl)
theorem dL_law_2963 : decode cL_law 2963 = .ok (.i2l, 1) := dk_133 (dk_at dksL_law_117 17 rfl rfl)
theorem dL_law_2964 : decode cL_law 2964 = .ok (.lcmp, 1) := dk_148 (dk_at dksL_law_117 18 rfl rfl)
theorem dL_law_2965 : decode cL_law 2965 = .ok (.ifCond .eq 5, 3) := dk_153 0 5 (dk_at dksL_law_117 19 rfl rfl)
theorem dL_law_2968 : decode cL_law 2968 = .ok (.iconst 0, 1) := dk_3 (dk_at dksL_law_117 22 rfl rfl)
theorem dL_law_2969 : decode cL_law 2969 = .ok (.ireturn, 1) := dk_172 (dk_at dksL_law_117 23 rfl rfl)
theorem dL_law_2970 : decode cL_law 2970 = .ok (.goto 192, 3) := dk_167 0 192 (dk_at dksL_law_118 0 rfl rfl)
theorem dL_law_2973 : decode cL_law 2973 = .ok (.aload_n 1, 1) := dk_43 (dk_at dksL_law_118 3 rfl rfl)
theorem dL_law_2974 : decode cL_law 2974 = .ok (.invokevirtual 352, 3) := dk_182 1 96 (dk_at dksL_law_118 4 rfl rfl)
theorem dL_law_2977 : decode cL_law 2977 = .ok (.aload_n 2, 1) := dk_44 (dk_at dksL_law_118 7 rfl rfl)
theorem dL_law_2978 : decode cL_law 2978 = .ok (.invokevirtual 355, 3) := dk_182 1 99 (dk_at dksL_law_118 8 rfl rfl)
theorem dL_law_2981 : decode cL_law 2981 = .ok (.if_icmp .eq 181, 3) := dk_159 0 181 (dk_at dksL_law_118 11 rfl rfl)
theorem dL_law_2984 : decode cL_law 2984 = .ok (.iconst 0, 1) := dk_3 (dk_at dksL_law_118 14 rfl rfl)
theorem dL_law_2985 : decode cL_law 2985 = .ok (.ireturn, 1) := dk_172 (dk_at dksL_law_118 15 rfl rfl)
theorem dL_law_2986 : decode cL_law 2986 = .ok (.aload_n 1, 1) := dk_43 (dk_at dksL_law_118 16 rfl rfl)
theorem dL_law_2987 : decode cL_law 2987 = .ok (.aload_n 3, 1) := dk_45 (dk_at dksL_law_118 17 rfl rfl)
theorem dL_law_2988 : decode cL_law 2988 = .ok (.invokestatic 356, 3) := dk_184 1 100 (dk_at dksL_law_118 18 rfl rfl)
theorem dL_law_2991 : decode cL_law 2991 = .ok (.istore 5, 2) := dk_54 5 (dk_at dksL_law_118 21 rfl rfl)
theorem dL_law_2993 : decode cL_law 2993 = .ok (.aload_n 2, 1) := dk_44 (dk_at dksL_law_118 23 rfl rfl)
theorem dL_law_2994 : decode cL_law 2994 = .ok (.invokevirtual 358, 3) := dk_182 1 102 (dk_at dksL_law_119 0 rfl rfl)
theorem dL_law_2997 : decode cL_law 2997 = .ok (.istore 6, 2) := dk_54 6 (dk_at dksL_law_119 3 rfl rfl)
theorem dL_law_2999 : decode cL_law 2999 = .ok (.aload_n 2, 1) := dk_44 (dk_at dksL_law_119 5 rfl rfl)
theorem dL_law_3000 : decode cL_law 3000 = .ok (.invokevirtual 166, 3) := dk_182 0 166 (dk_at dksL_law_119 6 rfl rfl)
theorem dL_law_3003 : decode cL_law 3003 = .ok (.iload 5, 2) := dk_21 5 (dk_at dksL_law_119 9 rfl rfl)
theorem dL_law_3005 : decode cL_law 3005 = .ok (.if_icmp .eq 5, 3) := dk_159 0 5 (dk_at dksL_law_119 11 rfl rfl)
theorem dL_law_3008 : decode cL_law 3008 = .ok (.iconst 0, 1) := dk_3 (dk_at dksL_law_119 14 rfl rfl)
theorem dL_law_3009 : decode cL_law 3009 = .ok (.ireturn, 1) := dk_172 (dk_at dksL_law_119 15 rfl rfl)
theorem dL_law_3010 : decode cL_law 3010 = .ok (.iload 5, 2) := dk_21 5 (dk_at dksL_law_119 16 rfl rfl)
theorem dL_law_3012 : decode cL_law 3012 = .ok (.ifCond .ne 15, 3) := dk_154 0 15 (dk_at dksL_law_119 18 rfl rfl)
theorem dL_law_3015 : decode cL_law 3015 = .ok (.aload_n 3, 1) := dk_45 (dk_at dksL_law_119 21 rfl rfl)
theorem dL_law_3016 : decode cL_law 3016 = .ok (.iconst 0, 1) := dk_3 (dk_at dksL_law_119 22 rfl rfl)
theorem dL_law_3017 : decode cL_law 3017 = .ok (.laload, 1) := dk_47 (dk_at dksL_law_119 23 rfl rfl)
theorem dL_law_3018 : decode cL_law 3018 = .ok (.iload 6, 2) := dk_21 6 (dk_at dksL_law_120 0 rfl rfl)
theorem dL_law_3020 : decode cL_law 3020 = .ok (.i2l, 1) := dk_133 (dk_at dksL_law_120 2 rfl rfl)
theorem dL_law_3021 : decode cL_law 3021 = .ok (.lcmp, 1) := dk_148 (dk_at dksL_law_120 3 rfl rfl)
theorem dL_law_3022 : decode cL_law 3022 = .ok (.ifCond .eq 5, 3) := dk_153 0 5 (dk_at dksL_law_120 4 rfl rfl)
theorem dL_law_3025 : decode cL_law 3025 = .ok (.iconst 0, 1) := dk_3 (dk_at dksL_law_120 7 rfl rfl)
theorem dL_law_3026 : decode cL_law 3026 = .ok (.ireturn, 1) := dk_172 (dk_at dksL_law_120 8 rfl rfl)
theorem dL_law_3027 : decode cL_law 3027 = .ok (.goto 135, 3) := dk_167 0 135 (dk_at dksL_law_120 9 rfl rfl)
theorem dL_law_3030 : decode cL_law 3030 = .ok (.aload_n 1, 1) := dk_43 (dk_at dksL_law_120 12 rfl rfl)
theorem dL_law_3031 : decode cL_law 3031 = .ok (.aload_n 3, 1) := dk_45 (dk_at dksL_law_120 13 rfl rfl)
theorem dL_law_3032 : decode cL_law 3032 = .ok (.invokestatic 359, 3) := dk_184 1 103 (dk_at dksL_law_120 14 rfl rfl)
theorem dL_law_3035 : decode cL_law 3035 = .ok (.istore 5, 2) := dk_54 5 (dk_at dksL_law_120 17 rfl rfl)
theorem dL_law_3037 : decode cL_law 3037 = .ok (.aload_n 2, 1) := dk_44 (dk_at dksL_law_120 19 rfl rfl)
theorem dL_law_3038 : decode cL_law 3038 = .ok (.invokevirtual 361, 3) := dk_182 1 105 (dk_at dksL_law_120 20 rfl rfl)
theorem dL_law_3041 : decode cL_law 3041 = .ok (.istore 6, 2) := dk_54 6 (dk_at dksL_law_121 0 rfl rfl)
theorem dL_law_3043 : decode cL_law 3043 = .ok (.aload_n 2, 1) := dk_44 (dk_at dksL_law_121 2 rfl rfl)
theorem dL_law_3044 : decode cL_law 3044 = .ok (.invokevirtual 166, 3) := dk_182 0 166 (dk_at dksL_law_121 3 rfl rfl)
theorem dL_law_3047 : decode cL_law 3047 = .ok (.iload 5, 2) := dk_21 5 (dk_at dksL_law_121 6 rfl rfl)
theorem dL_law_3049 : decode cL_law 3049 = .ok (.if_icmp .eq 5, 3) := dk_159 0 5 (dk_at dksL_law_121 8 rfl rfl)
theorem dL_law_3052 : decode cL_law 3052 = .ok (.iconst 0, 1) := dk_3 (dk_at dksL_law_121 11 rfl rfl)
theorem dL_law_3053 : decode cL_law 3053 = .ok (.ireturn, 1) := dk_172 (dk_at dksL_law_121 12 rfl rfl)
theorem dL_law_3054 : decode cL_law 3054 = .ok (.iload 5, 2) := dk_21 5 (dk_at dksL_law_121 13 rfl rfl)
theorem dL_law_3056 : decode cL_law 3056 = .ok (.ifCond .ne 15, 3) := dk_154 0 15 (dk_at dksL_law_121 15 rfl rfl)
theorem dL_law_3059 : decode cL_law 3059 = .ok (.aload_n 3, 1) := dk_45 (dk_at dksL_law_121 18 rfl rfl)
theorem dL_law_3060 : decode cL_law 3060 = .ok (.iconst 0, 1) := dk_3 (dk_at dksL_law_121 19 rfl rfl)
theorem dL_law_3061 : decode cL_law 3061 = .ok (.laload, 1) := dk_47 (dk_at dksL_law_121 20 rfl rfl)
theorem dL_law_3062 : decode cL_law 3062 = .ok (.iload 6, 2) := dk_21 6 (dk_at dksL_law_121 21 rfl rfl)
theorem dL_law_3064 : decode cL_law 3064 = .ok (.i2l, 1) := dk_133 (dk_at dksL_law_121 23 rfl rfl)
theorem dL_law_3065 : decode cL_law 3065 = .ok (.lcmp, 1) := dk_148 (dk_at dksL_law_122 0 rfl rfl)
theorem dL_law_3066 : decode cL_law 3066 = .ok (.ifCond .eq 5, 3) := dk_153 0 5 (dk_at dksL_law_122 1 rfl rfl)
theorem dL_law_3069 : decode cL_law 3069 = .ok (.iconst 0, 1) := dk_3 (dk_at dksL_law_122 4 rfl rfl)
theorem dL_law_3070 : decode cL_law 3070 = .ok (.ireturn, 1) := dk_172 (dk_at dksL_law_122 5 rfl rfl)
theorem dL_law_3071 : decode cL_law 3071 = .ok (.goto 91, 3) := dk_167 0 91 (dk_at dksL_law_122 6 rfl rfl)
theorem dL_law_3074 : decode cL_law 3074 = .ok (.aload_n 1, 1) := dk_43 (dk_at dksL_law_122 9 rfl rfl)
theorem dL_law_3075 : decode cL_law 3075 = .ok (.aload_n 3, 1) := dk_45 (dk_at dksL_law_122 10 rfl rfl)
theorem dL_law_3076 : decode cL_law 3076 = .ok (.invokestatic 362, 3) := dk_184 1 106 (dk_at dksL_law_122 11 rfl rfl)
theorem dL_law_3079 : decode cL_law 3079 = .ok (.istore 5, 2) := dk_54 5 (dk_at dksL_law_122 14 rfl rfl)
theorem dL_law_3081 : decode cL_law 3081 = .ok (.aload_n 2, 1) := dk_44 (dk_at dksL_law_122 16 rfl rfl)
theorem dL_law_3082 : decode cL_law 3082 = .ok (.invokevirtual 364, 3) := dk_182 1 108 (dk_at dksL_law_122 17 rfl rfl)
theorem dL_law_3085 : decode cL_law 3085 = .ok (.istore 6, 2) := dk_54 6 (dk_at dksL_law_122 20 rfl rfl)
theorem dL_law_3087 : decode cL_law 3087 = .ok (.aload_n 2, 1) := dk_44 (dk_at dksL_law_122 22 rfl rfl)
theorem dL_law_3088 : decode cL_law 3088 = .ok (.invokevirtual 166, 3) := dk_182 0 166 (dk_at dksL_law_123 0 rfl rfl)
theorem dL_law_3091 : decode cL_law 3091 = .ok (.iload 5, 2) := dk_21 5 (dk_at dksL_law_123 3 rfl rfl)
theorem dL_law_3093 : decode cL_law 3093 = .ok (.if_icmp .eq 5, 3) := dk_159 0 5 (dk_at dksL_law_123 5 rfl rfl)
theorem dL_law_3096 : decode cL_law 3096 = .ok (.iconst 0, 1) := dk_3 (dk_at dksL_law_123 8 rfl rfl)
theorem dL_law_3097 : decode cL_law 3097 = .ok (.ireturn, 1) := dk_172 (dk_at dksL_law_123 9 rfl rfl)
theorem dL_law_3098 : decode cL_law 3098 = .ok (.iload 5, 2) := dk_21 5 (dk_at dksL_law_123 10 rfl rfl)
theorem dL_law_3100 : decode cL_law 3100 = .ok (.ifCond .ne 15, 3) := dk_154 0 15 (dk_at dksL_law_123 12 rfl rfl)
theorem dL_law_3103 : decode cL_law 3103 = .ok (.aload_n 3, 1) := dk_45 (dk_at dksL_law_123 15 rfl rfl)
theorem dL_law_3104 : decode cL_law 3104 = .ok (.iconst 0, 1) := dk_3 (dk_at dksL_law_123 16 rfl rfl)
theorem dL_law_3105 : decode cL_law 3105 = .ok (.laload, 1) := dk_47 (dk_at dksL_law_123 17 rfl rfl)
theorem dL_law_3106 : decode cL_law 3106 = .ok (.iload 6, 2) := dk_21 6 (dk_at dksL_law_123 18 rfl rfl)
theorem dL_law_3108 : decode cL_law 3108 = .ok (.i2l, 1) := dk_133 (dk_at dksL_law_123 20 rfl rfl)
theorem dL_law_3109 : decode cL_law 3109 = .ok (.lcmp, 1) := dk_148 (dk_at dksL_law_123 21 rfl rfl)
theorem dL_law_3110 : decode cL_law 3110 = .ok (.ifCond .eq 5, 3) := dk_153 0 5 (dk_at dksL_law_124 0 rfl rfl)
theorem dL_law_3113 : decode cL_law 3113 = .ok (.iconst 0, 1) := dk_3 (dk_at dksL_law_124 3 rfl rfl)
theorem dL_law_3114 : decode cL_law 3114 = .ok (.ireturn, 1) := dk_172 (dk_at dksL_law_124 4 rfl rfl)
theorem dL_law_3115 : decode cL_law 3115 = .ok (.goto 47, 3) := dk_167 0 47 (dk_at dksL_law_124 5 rfl rfl)
theorem dL_law_3118 : decode cL_law 3118 = .ok (.aload_n 1, 1) := dk_43 (dk_at dksL_law_124 8 rfl rfl)
theorem dL_law_3119 : decode cL_law 3119 = .ok (.aload_n 3, 1) := dk_45 (dk_at dksL_law_124 9 rfl rfl)
theorem dL_law_3120 : decode cL_law 3120 = .ok (.invokestatic 365, 3) := dk_184 1 109 (dk_at dksL_law_124 10 rfl rfl)
theorem dL_law_3123 : decode cL_law 3123 = .ok (.istore 5, 2) := dk_54 5 (dk_at dksL_law_124 13 rfl rfl)
theorem dL_law_3125 : decode cL_law 3125 = .ok (.aload_n 2, 1) := dk_44 (dk_at dksL_law_124 15 rfl rfl)
theorem dL_law_3126 : decode cL_law 3126 = .ok (.invokevirtual 367, 3) := dk_182 1 111 (dk_at dksL_law_124 16 rfl rfl)
theorem dL_law_3129 : decode cL_law 3129 = .ok (.istore 6, 2) := dk_54 6 (dk_at dksL_law_124 19 rfl rfl)
theorem dL_law_3131 : decode cL_law 3131 = .ok (.aload_n 2, 1) := dk_44 (dk_at dksL_law_124 21 rfl rfl)
theorem dL_law_3132 : decode cL_law 3132 = .ok (.invokevirtual 166, 3) := dk_182 0 166 (dk_at dksL_law_125 0 rfl rfl)
theorem dL_law_3135 : decode cL_law 3135 = .ok (.iload 5, 2) := dk_21 5 (dk_at dksL_law_125 3 rfl rfl)
theorem dL_law_3137 : decode cL_law 3137 = .ok (.if_icmp .eq 5, 3) := dk_159 0 5 (dk_at dksL_law_125 5 rfl rfl)
theorem dL_law_3140 : decode cL_law 3140 = .ok (.iconst 0, 1) := dk_3 (dk_at dksL_law_125 8 rfl rfl)
theorem dL_law_3141 : decode cL_law 3141 = .ok (.ireturn, 1) := dk_172 (dk_at dksL_law_125 9 rfl rfl)
theorem dL_law_3142 : decode cL_law 3142 = .ok (.iload 5, 2) := dk_21 5 (dk_at dksL_law_125 10 rfl rfl)
theorem dL_law_3144 : decode cL_law 3144 = .ok (.ifCond .ne 15, 3) := dk_154 0 15 (dk_at dksL_law_125 12 rfl rfl)
theorem dL_law_3147 : decode cL_law 3147 = .ok (.aload_n 3, 1) := dk_45 (dk_at dksL_law_125 15 rfl rfl)
theorem dL_law_3148 : decode cL_law 3148 = .ok (.iconst 0, 1) := dk_3 (dk_at dksL_law_125 16 rfl rfl)
theorem dL_law_3149 : decode cL_law 3149 = .ok (.laload, 1) := dk_47 (dk_at dksL_law_125 17 rfl rfl)
theorem dL_law_3150 : decode cL_law 3150 = .ok (.iload 6, 2) := dk_21 6 (dk_at dksL_law_125 18 rfl rfl)
theorem dL_law_3152 : decode cL_law 3152 = .ok (.i2l, 1) := dk_133 (dk_at dksL_law_125 20 rfl rfl)
theorem dL_law_3153 : decode cL_law 3153 = .ok (.lcmp, 1) := dk_148 (dk_at dksL_law_125 21 rfl rfl)
theorem dL_law_3154 : decode cL_law 3154 = .ok (.ifCond .eq 5, 3) := dk_153 0 5 (dk_at dksL_law_126 0 rfl rfl)
theorem dL_law_3157 : decode cL_law 3157 = .ok (.iconst 0, 1) := dk_3 (dk_at dksL_law_126 3 rfl rfl)
theorem dL_law_3158 : decode cL_law 3158 = .ok (.ireturn, 1) := dk_172 (dk_at dksL_law_126 4 rfl rfl)
theorem dL_law_3159 : decode cL_law 3159 = .ok (.goto 3, 3) := dk_167 0 3 (dk_at dksL_law_126 5 rfl rfl)
theorem dL_law_3162 : decode cL_law 3162 = .ok (.iinc 4 5, 3) := dk_132 4 5 (dk_at dksL_law_126 8 rfl rfl)
theorem dL_law_3165 : decode cL_law 3165 = .ok (.goto (-3142), 3) := dk_167 243 186 (dk_at dksL_law_126 11 rfl rfl)
theorem dL_law_3168 : decode cL_law 3168 = .ok (.iconst 1, 1) := dk_4 (dk_at dksL_law_126 14 rfl rfl)
theorem dL_law_3169 : decode cL_law 3169 = .ok (.ireturn, 1) := dk_172 (dk_at dksL_law_126 15 rfl rfl)
