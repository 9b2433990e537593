/-! FerryClocks -/
set_option maxRecDepth 100000
def RX1 : String := "FerryClocks"
def TX1 : u_T := fun k => match k with
  | 0 => ("FerryClocks", "desk", "LFerryClocks$Desk;", false)
  | 1 => ("FerryClocks", "kept", "LFerryClocks$Desk;", false)
  | 2 => ("FerryClocks", "history", "Ljava/util/ArrayDeque;", true)
  | _ => ("FerryClocks", "text", "Ljava/lang/StringBuilder;", true)
def tyX1 : Nat → FieldType := fun k => match k with
  | 0 => .object "FerryClocks$Desk"
  | 1 => .object "FerryClocks$Desk"
  | 2 => .object "java/util/ArrayDeque"
  | _ => .object "java/lang/StringBuilder"
abbrev wsX10 : List Cond := u_ws RX1 TX1 4
theorem nmX1 : ∀ a, a < 4 → ∀ b, b < 4 → a ≠ b → (TX1 a).2.1 ≠ (TX1 b).2.1 := by decide +kernel
theorem tyX1_ok : ∀ k, k < 4 → parseFieldDescriptor (TX1 k).2.2.1 = some (tyX1 k) := by decide +kernel
abbrev cX1_init : ByteArray := prog_1_method_10_code
def yX1_init : MethodName := ⟨RX1, "<init>", "()V"⟩
def dkwX1_init_1 : List UInt8 := [181, 0, 36, 42, 187, 0, 40, 89, 183, 0, 42, 181, 0, 43, 177]
abbrev dktX1_init_1 : List UInt8 := dkwX1_init_1 ++ []
def dkwX1_init_0 : List UInt8 := [42, 183, 0, 21, 42, 187, 0, 26, 89, 183, 0, 28, 181, 0, 29, 42, 187, 0, 33, 89, 183, 0, 35]
abbrev dktX1_init_0 : List UInt8 := dkwX1_init_0 ++ dktX1_init_1
theorem dksX1_init_0 : cX1_init.data.toList.drop 0 = dktX1_init_0 := by decide +kernel
theorem dksX1_init_1 : cX1_init.data.toList.drop 23 = dktX1_init_1 := dk_seg dksX1_init_0 23 rfl rfl
theorem dX1_init_0 : decode cX1_init 0 = .ok (.aload_n 0, 1) := dk_42 (dk_at dksX1_init_0 0 rfl rfl)
theorem dX1_init_1 : decode cX1_init 1 = .ok (.invokespecial 21, 3) := dk_183 0 21 (dk_at dksX1_init_0 1 rfl rfl)
theorem dX1_init_4 : decode cX1_init 4 = .ok (.aload_n 0, 1) := dk_42 (dk_at dksX1_init_0 4 rfl rfl)
theorem dX1_init_5 : decode cX1_init 5 = .ok (.new 26, 3) := dk_187 0 26 (dk_at dksX1_init_0 5 rfl rfl)
theorem dX1_init_8 : decode cX1_init 8 = .ok (.dup, 1) := dk_89 (dk_at dksX1_init_0 8 rfl rfl)
theorem dX1_init_9 : decode cX1_init 9 = .ok (.invokespecial 28, 3) := dk_183 0 28 (dk_at dksX1_init_0 9 rfl rfl)
theorem dX1_init_12 : decode cX1_init 12 = .ok (.putfield 29, 3) := dk_181 0 29 (dk_at dksX1_init_0 12 rfl rfl)
theorem dX1_init_15 : decode cX1_init 15 = .ok (.aload_n 0, 1) := dk_42 (dk_at dksX1_init_0 15 rfl rfl)
theorem dX1_init_16 : decode cX1_init 16 = .ok (.new 33, 3) := dk_187 0 33 (dk_at dksX1_init_0 16 rfl rfl)
theorem dX1_init_19 : decode cX1_init 19 = .ok (.dup, 1) := dk_89 (dk_at dksX1_init_0 19 rfl rfl)
theorem dX1_init_20 : decode cX1_init 20 = .ok (.invokespecial 35, 3) := dk_183 0 35 (dk_at dksX1_init_0 20 rfl rfl)
theorem dX1_init_23 : decode cX1_init 23 = .ok (.putfield 36, 3) := dk_181 0 36 (dk_at dksX1_init_1 0 rfl rfl)
theorem dX1_init_26 : decode cX1_init 26 = .ok (.aload_n 0, 1) := dk_42 (dk_at dksX1_init_1 3 rfl rfl)
theorem dX1_init_27 : decode cX1_init 27 = .ok (.new 40, 3) := dk_187 0 40 (dk_at dksX1_init_1 4 rfl rfl)
theorem dX1_init_30 : decode cX1_init 30 = .ok (.dup, 1) := dk_89 (dk_at dksX1_init_1 7 rfl rfl)
theorem dX1_init_31 : decode cX1_init 31 = .ok (.invokespecial 42, 3) := dk_183 0 42 (dk_at dksX1_init_1 8 rfl rfl)
theorem dX1_init_34 : decode cX1_init 34 = .ok (.putfield 43, 3) := dk_181 0 43 (dk_at dksX1_init_1 11 rfl rfl)
theorem dX1_init_37 : decode cX1_init 37 = .ok (.return_, 1) := dk_177 (dk_at dksX1_init_1 14 rfl rfl)
abbrev cX1_forgetAll : ByteArray := prog_1_method_17_code
def yX1_forgetAll : MethodName := ⟨RX1, "forgetAll", "()I"⟩
def dkwX1_forgetAll_0 : List UInt8 := [42, 16, 121, 3, 188, 10, 182, 0, 144, 172]
abbrev dktX1_forgetAll_0 : List UInt8 := dkwX1_forgetAll_0 ++ []
theorem dksX1_forgetAll_0 : cX1_forgetAll.data.toList.drop 0 = dktX1_forgetAll_0 := by decide +kernel
theorem dX1_forgetAll_0 : decode cX1_forgetAll 0 = .ok (.aload_n 0, 1) := dk_42 (dk_at dksX1_forgetAll_0 0 rfl rfl)
theorem dX1_forgetAll_1 : decode cX1_forgetAll 1 = .ok (.bipush 121, 2) := dk_16 121 (dk_at dksX1_forgetAll_0 1 rfl rfl)
theorem dX1_forgetAll_3 : decode cX1_forgetAll 3 = .ok (.iconst 0, 1) := dk_3 (dk_at dksX1_forgetAll_0 3 rfl rfl)
theorem dX1_forgetAll_4 : decode cX1_forgetAll 4 = .ok (.newarray .int, 2) := dk_188_10 (dk_at dksX1_forgetAll_0 4 rfl rfl)
theorem dX1_forgetAll_6 : decode cX1_forgetAll 6 = .ok (.invokevirtual 144, 3) := dk_182 0 144 (dk_at dksX1_forgetAll_0 6 rfl rfl)
theorem dX1_forgetAll_9 : decode cX1_forgetAll 9 = .ok (.ireturn, 1) := dk_172 (dk_at dksX1_forgetAll_0 9 rfl rfl)
abbrev cX1_act : ByteArray := prog_1_method_14_code
def yX1_act : MethodName := ⟨RX1, "act", "(C[I)I"⟩
def dkwX1_act_2 : List UInt8 := [89, 18, 141, 183, 0, 143, 191]
abbrev dktX1_act_2 : List UInt8 := dkwX1_act_2 ++ []
def dkwX1_act_1 : List UInt8 := [58, 4, 25, 4, 180, 0, 128, 4, 160, 0, 13, 187, 0, 132, 89, 18, 134, 183, 0, 136, 191, 187, 0, 139]
abbrev dktX1_act_1 : List UInt8 := dkwX1_act_1 ++ dktX1_act_2
def dkwX1_act_0 : List UInt8 := [187, 0, 26, 89, 42, 180, 0, 29, 183, 0, 118, 78, 42, 45, 45, 27, 44, 184, 0, 121, 182, 0, 124, 172]
abbrev dktX1_act_0 : List UInt8 := dkwX1_act_0 ++ dktX1_act_1
theorem dksX1_act_0 : cX1_act.data.toList.drop 0 = dktX1_act_0 := by decide +kernel
theorem dksX1_act_1 : cX1_act.data.toList.drop 24 = dktX1_act_1 := dk_seg dksX1_act_0 24 rfl rfl
theorem dksX1_act_2 : cX1_act.data.toList.drop 48 = dktX1_act_2 := dk_seg dksX1_act_1 24 rfl rfl
theorem dX1_act_0 : decode cX1_act 0 = .ok (.new 26, 3) := dk_187 0 26 (dk_at dksX1_act_0 0 rfl rfl)
theorem dX1_act_3 : decode cX1_act 3 = .ok (.dup, 1) := dk_89 (dk_at dksX1_act_0 3 rfl rfl)
theorem dX1_act_4 : decode cX1_act 4 = .ok (.aload_n 0, 1) := dk_42 (dk_at dksX1_act_0 4 rfl rfl)
theorem dX1_act_5 : decode cX1_act 5 = .ok (.getfield 29, 3) := dk_180 0 29 (dk_at dksX1_act_0 5 rfl rfl)
theorem dX1_act_8 : decode cX1_act 8 = .ok (.invokespecial 118, 3) := dk_183 0 118 (dk_at dksX1_act_0 8 rfl rfl)
theorem dX1_act_11 : decode cX1_act 11 = .ok (.astore_n 3, 1) := dk_78 (dk_at dksX1_act_0 11 rfl rfl)
theorem dX1_act_12 : decode cX1_act 12 = .ok (.aload_n 0, 1) := dk_42 (dk_at dksX1_act_0 12 rfl rfl)
theorem dX1_act_13 : decode cX1_act 13 = .ok (.aload_n 3, 1) := dk_45 (dk_at dksX1_act_0 13 rfl rfl)
theorem dX1_act_14 : decode cX1_act 14 = .ok (.aload_n 3, 1) := dk_45 (dk_at dksX1_act_0 14 rfl rfl)
theorem dX1_act_15 : decode cX1_act 15 = .ok (.iload_n 1, 1) := dk_27 (dk_at dksX1_act_0 15 rfl rfl)
theorem dX1_act_16 : decode cX1_act 16 = .ok (.aload_n 2, 1) := dk_44 (dk_at dksX1_act_0 16 rfl rfl)
theorem dX1_act_17 : decode cX1_act 17 = .ok (.invokestatic 121, 3) := dk_184 0 121 (dk_at dksX1_act_0 17 rfl rfl)
theorem dX1_act_20 : decode cX1_act 20 = .ok (.invokevirtual 124, 3) := dk_182 0 124 (dk_at dksX1_act_0 20 rfl rfl)
theorem dX1_act_23 : decode cX1_act 23 = .ok (.ireturn, 1) := dk_172 (dk_at dksX1_act_0 23 rfl rfl)
theorem dX1_act_24 : decode cX1_act 24 = .ok (.astore 4, 2) := dk_58 4 (dk_at dksX1_act_1 0 rfl rfl)
theorem dX1_act_26 : decode cX1_act 26 = .ok (.aload 4, 2) := dk_25 4 (dk_at dksX1_act_1 2 rfl rfl)
theorem dX1_act_28 : decode cX1_act 28 = .ok (.getfield 128, 3) := dk_180 0 128 (dk_at dksX1_act_1 4 rfl rfl)
theorem dX1_act_31 : decode cX1_act 31 = .ok (.iconst 1, 1) := dk_4 (dk_at dksX1_act_1 7 rfl rfl)
theorem dX1_act_32 : decode cX1_act 32 = .ok (.if_icmp .ne 13, 3) := dk_160 0 13 (dk_at dksX1_act_1 8 rfl rfl)
theorem dX1_act_35 : decode cX1_act 35 = .ok (.new 132, 3) := dk_187 0 132 (dk_at dksX1_act_1 11 rfl rfl)
theorem dX1_act_38 : decode cX1_act 38 = .ok (.dup, 1) := dk_89 (dk_at dksX1_act_1 14 rfl rfl)
theorem dX1_act_39 : decode cX1_act 39 = .ok (.ldc 134, 2) := dk_18 134 (dk_at dksX1_act_1 15 rfl rfl)
theorem dX1_act_41 : decode cX1_act 41 = .ok (.invokespecial 136, 3) := dk_183 0 136 (dk_at dksX1_act_1 17 rfl rfl)
theorem dX1_act_44 : decode cX1_act 44 = .ok (.athrow, 1) := dk_191 (dk_at dksX1_act_1 20 rfl rfl)
theorem dX1_act_45 : decode cX1_act 45 = .ok (.new 139, 3) := dk_187 0 139 (dk_at dksX1_act_1 21 rfl rfl)
theorem dX1_act_48 : decode cX1_act 48 = .ok (.dup, 1) := dk_89 (dk_at dksX1_act_2 0 rfl rfl)
theorem dX1_act_49 : decode cX1_act 49 = .ok (.ldc 141, 2) := dk_18 141 (dk_at dksX1_act_2 1 rfl rfl)
theorem dX1_act_51 : decode cX1_act 51 = .ok (.invokespecial 143, 3) := dk_183 0 143 (dk_at dksX1_act_2 3 rfl rfl)
theorem dX1_act_54 : decode cX1_act 54 = .ok (.athrow, 1) := dk_191 (dk_at dksX1_act_2 6 rfl rfl)
abbrev cX1_done : ByteArray := prog_1_method_12_code
def yX1_done : MethodName := ⟨RX1, "done", "(LFerryClocks$Desk;C[I)I"⟩
def dkwX1_done_6 : List UInt8 := [4, 46, 182, 0, 86, 172, 42, 44, 3, 46, 44, 4, 46, 182, 0, 89, 172, 42, 27, 44, 184, 0, 92, 172]
abbrev dktX1_done_6 : List UInt8 := dkwX1_done_6 ++ []
def dkwX1_done_5 : List UInt8 := [172, 42, 182, 0, 76, 172, 42, 182, 0, 79, 172, 42, 44, 3, 46, 182, 0, 82, 172, 42, 44, 3, 46, 44]
abbrev dktX1_done_5 : List UInt8 := dkwX1_done_5 ++ dktX1_done_6
def dkwX1_done_4 : List UInt8 := [182, 0, 63, 172, 42, 182, 0, 67, 172, 42, 182, 0, 70, 172, 42, 44, 3, 46, 44, 4, 46, 182, 0, 73]
abbrev dktX1_done_4 : List UInt8 := dkwX1_done_4 ++ dktX1_done_5
def dkwX1_done_3 : List UInt8 := [172, 42, 44, 3, 46, 44, 4, 46, 44, 5, 46, 182, 0, 59, 172, 42, 44, 3, 46, 44, 4, 46]
abbrev dktX1_done_3 : List UInt8 := dkwX1_done_3 ++ dktX1_done_4
def dkwX1_done_2 : List UInt8 := [42, 44, 3, 46, 6, 44, 4, 46, 182, 0, 59, 172, 42, 6, 44, 3, 46, 44, 4, 46, 116, 182, 0, 59]
abbrev dktX1_done_2 : List UInt8 := dkwX1_done_2 ++ dktX1_done_3
def dkwX1_done_1 : List UInt8 := [170, 0, 0, 0, 0, 0, 222, 0, 0, 0, 98, 0, 0, 0, 121, 0, 0, 0, 187, 0, 0, 0, 200, 0, 0, 0, 136, 0, 0, 0, 222, 0, 0, 0, 192, 0, 0, 0, 222, 0, 0, 0, 222, 0, 0, 0, 222, 0, 0, 0, 222, 0, 0, 0, 222, 0, 0, 0, 123, 0, 0, 0, 111, 0, 0, 0, 222, 0, 0, 0, 222, 0, 0, 0, 222, 0, 0, 0, 222, 0, 0, 0, 171, 0, 0, 0, 211, 0, 0, 0, 166, 0, 0, 0, 222, 0, 0, 0, 222, 0, 0, 0, 182, 0, 0, 0, 150, 0, 0, 0, 161]
abbrev dktX1_done_1 : List UInt8 := dkwX1_done_1 ++ dktX1_done_2
def dkwX1_done_0 : List UInt8 := [27]
abbrev dktX1_done_0 : List UInt8 := dkwX1_done_0 ++ dktX1_done_1
theorem dksX1_done_0 : cX1_done.data.toList.drop 0 = dktX1_done_0 := by decide +kernel
theorem dksX1_done_1 : cX1_done.data.toList.drop 1 = dktX1_done_1 := dk_seg dksX1_done_0 1 rfl rfl
theorem dksX1_done_2 : cX1_done.data.toList.drop 112 = dktX1_done_2 := dk_seg dksX1_done_1 111 rfl rfl
theorem dksX1_done_3 : cX1_done.data.toList.drop 136 = dktX1_done_3 := dk_seg dksX1_done_2 24 rfl rfl
theorem dksX1_done_4 : cX1_done.data.toList.drop 158 = dktX1_done_4 := dk_seg dksX1_done_3 22 rfl rfl
theorem dksX1_done_5 : cX1_done.data.toList.drop 182 = dktX1_done_5 := dk_seg dksX1_done_4 24 rfl rfl
theorem dksX1_done_6 : cX1_done.data.toList.drop 206 = dktX1_done_6 := dk_seg dksX1_done_5 24 rfl rfl
theorem dX1_done_0 : decode cX1_done 0 = .ok (.iload_n 1, 1) := dk_27 (dk_at dksX1_done_0 0 rfl rfl)
theorem dX1_done_1 : decode cX1_done 1 = .ok (.tableswitch 222 98 121 #[187, 200, 136, 222, 192, 222, 222, 222, 222, 222, 123, 111, 222, 222, 222, 222, 171, 211, 166, 222, 222, 182, 150, 161], 111) := by decide +kernel
theorem dX1_done_112 : decode cX1_done 112 = .ok (.aload_n 0, 1) := dk_42 (dk_at dksX1_done_2 0 rfl rfl)
theorem dX1_done_113 : decode cX1_done 113 = .ok (.aload_n 2, 1) := dk_44 (dk_at dksX1_done_2 1 rfl rfl)
theorem dX1_done_114 : decode cX1_done 114 = .ok (.iconst 0, 1) := dk_3 (dk_at dksX1_done_2 2 rfl rfl)
theorem dX1_done_115 : decode cX1_done 115 = .ok (.iaload, 1) := dk_46 (dk_at dksX1_done_2 3 rfl rfl)
theorem dX1_done_116 : decode cX1_done 116 = .ok (.iconst 3, 1) := dk_6 (dk_at dksX1_done_2 4 rfl rfl)
theorem dX1_done_117 : decode cX1_done 117 = .ok (.aload_n 2, 1) := dk_44 (dk_at dksX1_done_2 5 rfl rfl)
theorem dX1_done_118 : decode cX1_done 118 = .ok (.iconst 1, 1) := dk_4 (dk_at dksX1_done_2 6 rfl rfl)
theorem dX1_done_119 : decode cX1_done 119 = .ok (.iaload, 1) := dk_46 (dk_at dksX1_done_2 7 rfl rfl)
theorem dX1_done_120 : decode cX1_done 120 = .ok (.invokevirtual 59, 3) := dk_182 0 59 (dk_at dksX1_done_2 8 rfl rfl)
theorem dX1_done_123 : decode cX1_done 123 = .ok (.ireturn, 1) := dk_172 (dk_at dksX1_done_2 11 rfl rfl)
theorem dX1_done_124 : decode cX1_done 124 = .ok (.aload_n 0, 1) := dk_42 (dk_at dksX1_done_2 12 rfl rfl)
theorem dX1_done_125 : decode cX1_done 125 = .ok (.iconst 3, 1) := dk_6 (dk_at dksX1_done_2 13 rfl rfl)
theorem dX1_done_126 : decode cX1_done 126 = .ok (.aload_n 2, 1) := dk_44 (dk_at dksX1_done_2 14 rfl rfl)
theorem dX1_done_127 : decode cX1_done 127 = .ok (.iconst 0, 1) := dk_3 (dk_at dksX1_done_2 15 rfl rfl)
theorem dX1_done_128 : decode cX1_done 128 = .ok (.iaload, 1) := dk_46 (dk_at dksX1_done_2 16 rfl rfl)
theorem dX1_done_129 : decode cX1_done 129 = .ok (.aload_n 2, 1) := dk_44 (dk_at dksX1_done_2 17 rfl rfl)
theorem dX1_done_130 : decode cX1_done 130 = .ok (.iconst 1, 1) := dk_4 (dk_at dksX1_done_2 18 rfl rfl)
theorem dX1_done_131 : decode cX1_done 131 = .ok (.iaload, 1) := dk_46 (dk_at dksX1_done_2 19 rfl rfl)
theorem dX1_done_132 : decode cX1_done 132 = .ok (.ineg, 1) := dk_116 (dk_at dksX1_done_2 20 rfl rfl)
theorem dX1_done_133 : decode cX1_done 133 = .ok (.invokevirtual 59, 3) := dk_182 0 59 (dk_at dksX1_done_2 21 rfl rfl)
theorem dX1_done_136 : decode cX1_done 136 = .ok (.ireturn, 1) := dk_172 (dk_at dksX1_done_3 0 rfl rfl)
theorem dX1_done_137 : decode cX1_done 137 = .ok (.aload_n 0, 1) := dk_42 (dk_at dksX1_done_3 1 rfl rfl)
theorem dX1_done_138 : decode cX1_done 138 = .ok (.aload_n 2, 1) := dk_44 (dk_at dksX1_done_3 2 rfl rfl)
theorem dX1_done_139 : decode cX1_done 139 = .ok (.iconst 0, 1) := dk_3 (dk_at dksX1_done_3 3 rfl rfl)
theorem dX1_done_140 : decode cX1_done 140 = .ok (.iaload, 1) := dk_46 (dk_at dksX1_done_3 4 rfl rfl)
theorem dX1_done_141 : decode cX1_done 141 = .ok (.aload_n 2, 1) := dk_44 (dk_at dksX1_done_3 5 rfl rfl)
theorem dX1_done_142 : decode cX1_done 142 = .ok (.iconst 1, 1) := dk_4 (dk_at dksX1_done_3 6 rfl rfl)
theorem dX1_done_143 : decode cX1_done 143 = .ok (.iaload, 1) := dk_46 (dk_at dksX1_done_3 7 rfl rfl)
theorem dX1_done_144 : decode cX1_done 144 = .ok (.aload_n 2, 1) := dk_44 (dk_at dksX1_done_3 8 rfl rfl)
theorem dX1_done_145 : decode cX1_done 145 = .ok (.iconst 2, 1) := dk_5 (dk_at dksX1_done_3 9 rfl rfl)
theorem dX1_done_146 : decode cX1_done 146 = .ok (.iaload, 1) := dk_46 (dk_at dksX1_done_3 10 rfl rfl)
theorem dX1_done_147 : decode cX1_done 147 = .ok (.invokevirtual 59, 3) := dk_182 0 59 (dk_at dksX1_done_3 11 rfl rfl)
theorem dX1_done_150 : decode cX1_done 150 = .ok (.ireturn, 1) := dk_172 (dk_at dksX1_done_3 14 rfl rfl)
theorem dX1_done_151 : decode cX1_done 151 = .ok (.aload_n 0, 1) := dk_42 (dk_at dksX1_done_3 15 rfl rfl)
theorem dX1_done_152 : decode cX1_done 152 = .ok (.aload_n 2, 1) := dk_44 (dk_at dksX1_done_3 16 rfl rfl)
theorem dX1_done_153 : decode cX1_done 153 = .ok (.iconst 0, 1) := dk_3 (dk_at dksX1_done_3 17 rfl rfl)
theorem dX1_done_154 : decode cX1_done 154 = .ok (.iaload, 1) := dk_46 (dk_at dksX1_done_3 18 rfl rfl)
theorem dX1_done_155 : decode cX1_done 155 = .ok (.aload_n 2, 1) := dk_44 (dk_at dksX1_done_3 19 rfl rfl)
theorem dX1_done_156 : decode cX1_done 156 = .ok (.iconst 1, 1) := dk_4 (dk_at dksX1_done_3 20 rfl rfl)
theorem dX1_done_157 : decode cX1_done 157 = .ok (.iaload, 1) := dk_46 (dk_at dksX1_done_3 21 rfl rfl)
theorem dX1_done_158 : decode cX1_done 158 = .ok (.invokevirtual 63, 3) := dk_182 0 63 (dk_at dksX1_done_4 0 rfl rfl)
theorem dX1_done_161 : decode cX1_done 161 = .ok (.ireturn, 1) := dk_172 (dk_at dksX1_done_4 3 rfl rfl)
theorem dX1_done_162 : decode cX1_done 162 = .ok (.aload_n 0, 1) := dk_42 (dk_at dksX1_done_4 4 rfl rfl)
theorem dX1_done_163 : decode cX1_done 163 = .ok (.invokevirtual 67, 3) := dk_182 0 67 (dk_at dksX1_done_4 5 rfl rfl)
theorem dX1_done_166 : decode cX1_done 166 = .ok (.ireturn, 1) := dk_172 (dk_at dksX1_done_4 8 rfl rfl)
theorem dX1_done_167 : decode cX1_done 167 = .ok (.aload_n 0, 1) := dk_42 (dk_at dksX1_done_4 9 rfl rfl)
theorem dX1_done_168 : decode cX1_done 168 = .ok (.invokevirtual 70, 3) := dk_182 0 70 (dk_at dksX1_done_4 10 rfl rfl)
theorem dX1_done_171 : decode cX1_done 171 = .ok (.ireturn, 1) := dk_172 (dk_at dksX1_done_4 13 rfl rfl)
theorem dX1_done_172 : decode cX1_done 172 = .ok (.aload_n 0, 1) := dk_42 (dk_at dksX1_done_4 14 rfl rfl)
theorem dX1_done_173 : decode cX1_done 173 = .ok (.aload_n 2, 1) := dk_44 (dk_at dksX1_done_4 15 rfl rfl)
theorem dX1_done_174 : decode cX1_done 174 = .ok (.iconst 0, 1) := dk_3 (dk_at dksX1_done_4 16 rfl rfl)
theorem dX1_done_175 : decode cX1_done 175 = .ok (.iaload, 1) := dk_46 (dk_at dksX1_done_4 17 rfl rfl)
theorem dX1_done_176 : decode cX1_done 176 = .ok (.aload_n 2, 1) := dk_44 (dk_at dksX1_done_4 18 rfl rfl)
theorem dX1_done_177 : decode cX1_done 177 = .ok (.iconst 1, 1) := dk_4 (dk_at dksX1_done_4 19 rfl rfl)
theorem dX1_done_178 : decode cX1_done 178 = .ok (.iaload, 1) := dk_46 (dk_at dksX1_done_4 20 rfl rfl)
theorem dX1_done_179 : decode cX1_done 179 = .ok (.invokevirtual 73, 3) := dk_182 0 73 (dk_at dksX1_done_4 21 rfl rfl)
theorem dX1_done_182 : decode cX1_done 182 = .ok (.ireturn, 1) := dk_172 (dk_at dksX1_done_5 0 rfl rfl)
theorem dX1_done_183 : decode cX1_done 183 = .ok (.aload_n 0, 1) := dk_42 (dk_at dksX1_done_5 1 rfl rfl)
theorem dX1_done_184 : decode cX1_done 184 = .ok (.invokevirtual 76, 3) := dk_182 0 76 (dk_at dksX1_done_5 2 rfl rfl)
theorem dX1_done_187 : decode cX1_done 187 = .ok (.ireturn, 1) := dk_172 (dk_at dksX1_done_5 5 rfl rfl)
theorem dX1_done_188 : decode cX1_done 188 = .ok (.aload_n 0, 1) := dk_42 (dk_at dksX1_done_5 6 rfl rfl)
theorem dX1_done_189 : decode cX1_done 189 = .ok (.invokevirtual 79, 3) := dk_182 0 79 (dk_at dksX1_done_5 7 rfl rfl)
theorem dX1_done_192 : decode cX1_done 192 = .ok (.ireturn, 1) := dk_172 (dk_at dksX1_done_5 10 rfl rfl)
theorem dX1_done_193 : decode cX1_done 193 = .ok (.aload_n 0, 1) := dk_42 (dk_at dksX1_done_5 11 rfl rfl)
theorem dX1_done_194 : decode cX1_done 194 = .ok (.aload_n 2, 1) := dk_44 (dk_at dksX1_done_5 12 rfl rfl)
theorem dX1_done_195 : decode cX1_done 195 = .ok (.iconst 0, 1) := dk_3 (dk_at dksX1_done_5 13 rfl rfl)
theorem dX1_done_196 : decode cX1_done 196 = .ok (.iaload, 1) := dk_46 (dk_at dksX1_done_5 14 rfl rfl)
theorem dX1_done_197 : decode cX1_done 197 = .ok (.invokevirtual 82, 3) := dk_182 0 82 (dk_at dksX1_done_5 15 rfl rfl)
theorem dX1_done_200 : decode cX1_done 200 = .ok (.ireturn, 1) := dk_172 (dk_at dksX1_done_5 18 rfl rfl)
theorem dX1_done_201 : decode cX1_done 201 = .ok (.aload_n 0, 1) := dk_42 (dk_at dksX1_done_5 19 rfl rfl)
theorem dX1_done_202 : decode cX1_done 202 = .ok (.aload_n 2, 1) := dk_44 (dk_at dksX1_done_5 20 rfl rfl)
theorem dX1_done_203 : decode cX1_done 203 = .ok (.iconst 0, 1) := dk_3 (dk_at dksX1_done_5 21 rfl rfl)
theorem dX1_done_204 : decode cX1_done 204 = .ok (.iaload, 1) := dk_46 (dk_at dksX1_done_5 22 rfl rfl)
theorem dX1_done_205 : decode cX1_done 205 = .ok (.aload_n 2, 1) := dk_44 (dk_at dksX1_done_5 23 rfl rfl)
theorem dX1_done_206 : decode cX1_done 206 = .ok (.iconst 1, 1) := dk_4 (dk_at dksX1_done_6 0 rfl rfl)
theorem dX1_done_207 : decode cX1_done 207 = .ok (.iaload, 1) := dk_46 (dk_at dksX1_done_6 1 rfl rfl)
theorem dX1_done_208 : decode cX1_done 208 = .ok (.invokevirtual 86, 3) := dk_182 0 86 (dk_at dksX1_done_6 2 rfl rfl)
theorem dX1_done_211 : decode cX1_done 211 = .ok (.ireturn, 1) := dk_172 (dk_at dksX1_done_6 5 rfl rfl)
theorem dX1_done_212 : decode cX1_done 212 = .ok (.aload_n 0, 1) := dk_42 (dk_at dksX1_done_6 6 rfl rfl)
theorem dX1_done_213 : decode cX1_done 213 = .ok (.aload_n 2, 1) := dk_44 (dk_at dksX1_done_6 7 rfl rfl)
theorem dX1_done_214 : decode cX1_done 214 = .ok (.iconst 0, 1) := dk_3 (dk_at dksX1_done_6 8 rfl rfl)
theorem dX1_done_215 : decode cX1_done 215 = .ok (.iaload, 1) := dk_46 (dk_at dksX1_done_6 9 rfl rfl)
theorem dX1_done_216 : decode cX1_done 216 = .ok (.aload_n 2, 1) := dk_44 (dk_at dksX1_done_6 10 rfl rfl)
theorem dX1_done_217 : decode cX1_done 217 = .ok (.iconst 1, 1) := dk_4 (dk_at dksX1_done_6 11 rfl rfl)
theorem dX1_done_218 : decode cX1_done 218 = .ok (.iaload, 1) := dk_46 (dk_at dksX1_done_6 12 rfl rfl)
theorem dX1_done_219 : decode cX1_done 219 = .ok (.invokevirtual 89, 3) := dk_182 0 89 (dk_at dksX1_done_6 13 rfl rfl)
theorem dX1_done_222 : decode cX1_done 222 = .ok (.ireturn, 1) := dk_172 (dk_at dksX1_done_6 16 rfl rfl)
theorem dX1_done_223 : decode cX1_done 223 = .ok (.aload_n 0, 1) := dk_42 (dk_at dksX1_done_6 17 rfl rfl)
theorem dX1_done_224 : decode cX1_done 224 = .ok (.iload_n 1, 1) := dk_27 (dk_at dksX1_done_6 18 rfl rfl)
theorem dX1_done_225 : decode cX1_done 225 = .ok (.aload_n 2, 1) := dk_44 (dk_at dksX1_done_6 19 rfl rfl)
theorem dX1_done_226 : decode cX1_done 226 = .ok (.invokestatic 92, 3) := dk_184 0 92 (dk_at dksX1_done_6 20 rfl rfl)
theorem dX1_done_229 : decode cX1_done 229 = .ok (.ireturn, 1) := dk_172 (dk_at dksX1_done_6 23 rfl rfl)
abbrev cX1_arePair : ByteArray := prog_1_method_3_code
def yX1_arePair : MethodName := ⟨RX1, "arePair", "(II)Z"⟩
def dkwX1_arePair_1 : List UInt8 := [26, 27, 159, 0, 7, 4, 167, 0, 4, 3, 172]
abbrev dktX1_arePair_1 : List UInt8 := dkwX1_arePair_1 ++ []
def dkwX1_arePair_0 : List UInt8 := [26, 133, 9, 20, 0, 9, 184, 0, 5, 153, 0, 24, 27, 133, 9, 20, 0, 9, 184, 0, 5, 153, 0, 12]
abbrev dktX1_arePair_0 : List UInt8 := dkwX1_arePair_0 ++ dktX1_arePair_1
theorem dksX1_arePair_0 : cX1_arePair.data.toList.drop 0 = dktX1_arePair_0 := by decide +kernel
theorem dksX1_arePair_1 : cX1_arePair.data.toList.drop 24 = dktX1_arePair_1 := dk_seg dksX1_arePair_0 24 rfl rfl
theorem dX1_arePair_0 : decode cX1_arePair 0 = .ok (.iload_n 0, 1) := dk_26 (dk_at dksX1_arePair_0 0 rfl rfl)
theorem dX1_arePair_1 : decode cX1_arePair 1 = .ok (.i2l, 1) := dk_133 (dk_at dksX1_arePair_0 1 rfl rfl)
theorem dX1_arePair_2 : decode cX1_arePair 2 = .ok (.lconst 0, 1) := dk_9 (dk_at dksX1_arePair_0 2 rfl rfl)
theorem dX1_arePair_3 : decode cX1_arePair 3 = .ok (.ldc2_w 9, 3) := dk_20 0 9 (dk_at dksX1_arePair_0 3 rfl rfl)
theorem dX1_arePair_6 : decode cX1_arePair 6 = .ok (.invokestatic 5, 3) := dk_184 0 5 (dk_at dksX1_arePair_0 6 rfl rfl)
theorem dX1_arePair_9 : decode cX1_arePair 9 = .ok (.ifCond .eq 24, 3) := dk_153 0 24 (dk_at dksX1_arePair_0 9 rfl rfl)
theorem dX1_arePair_12 : decode cX1_arePair 12 = .ok (.iload_n 1, 1) := dk_27 (dk_at dksX1_arePair_0 12 rfl rfl)
theorem dX1_arePair_13 : decode cX1_arePair 13 = .ok (.i2l, 1) := dk_133 (dk_at dksX1_arePair_0 13 rfl rfl)
theorem dX1_arePair_14 : decode cX1_arePair 14 = .ok (.lconst 0, 1) := dk_9 (dk_at dksX1_arePair_0 14 rfl rfl)
theorem dX1_arePair_15 : decode cX1_arePair 15 = .ok (.ldc2_w 9, 3) := dk_20 0 9 (dk_at dksX1_arePair_0 15 rfl rfl)
theorem dX1_arePair_18 : decode cX1_arePair 18 = .ok (.invokestatic 5, 3) := dk_184 0 5 (dk_at dksX1_arePair_0 18 rfl rfl)
theorem dX1_arePair_21 : decode cX1_arePair 21 = .ok (.ifCond .eq 12, 3) := dk_153 0 12 (dk_at dksX1_arePair_0 21 rfl rfl)
theorem dX1_arePair_24 : decode cX1_arePair 24 = .ok (.iload_n 0, 1) := dk_26 (dk_at dksX1_arePair_1 0 rfl rfl)
theorem dX1_arePair_25 : decode cX1_arePair 25 = .ok (.iload_n 1, 1) := dk_27 (dk_at dksX1_arePair_1 1 rfl rfl)
theorem dX1_arePair_26 : decode cX1_arePair 26 = .ok (.if_icmp .eq 7, 3) := dk_159 0 7 (dk_at dksX1_arePair_1 2 rfl rfl)
theorem dX1_arePair_29 : decode cX1_arePair 29 = .ok (.iconst 1, 1) := dk_4 (dk_at dksX1_arePair_1 5 rfl rfl)
theorem dX1_arePair_30 : decode cX1_arePair 30 = .ok (.goto 4, 3) := dk_167 0 4 (dk_at dksX1_arePair_1 6 rfl rfl)
theorem dX1_arePair_33 : decode cX1_arePair 33 = .ok (.iconst 0, 1) := dk_3 (dk_at dksX1_arePair_1 9 rfl rfl)
theorem dX1_arePair_34 : decode cX1_arePair 34 = .ok (.ireturn, 1) := dk_172 (dk_at dksX1_arePair_1 10 rfl rfl)
abbrev cX1_isBetween : ByteArray := prog_1_method_1_code
def yX1_isBetween : MethodName := ⟨RX1, "isBetween", "(JJJ)Z"⟩
def dkwX1_isBetween_0 : List UInt8 := [30, 32, 148, 155, 0, 14, 30, 22, 4, 148, 157, 0, 7, 4, 167, 0, 4, 3, 172]
abbrev dktX1_isBetween_0 : List UInt8 := dkwX1_isBetween_0 ++ []
theorem dksX1_isBetween_0 : cX1_isBetween.data.toList.drop 0 = dktX1_isBetween_0 := by decide +kernel
theorem dX1_isBetween_0 : decode cX1_isBetween 0 = .ok (.lload_n 0, 1) := dk_30 (dk_at dksX1_isBetween_0 0 rfl rfl)
theorem dX1_isBetween_1 : decode cX1_isBetween 1 = .ok (.lload_n 2, 1) := dk_32 (dk_at dksX1_isBetween_0 1 rfl rfl)
theorem dX1_isBetween_2 : decode cX1_isBetween 2 = .ok (.lcmp, 1) := dk_148 (dk_at dksX1_isBetween_0 2 rfl rfl)
theorem dX1_isBetween_3 : decode cX1_isBetween 3 = .ok (.ifCond .lt 14, 3) := dk_155 0 14 (dk_at dksX1_isBetween_0 3 rfl rfl)
theorem dX1_isBetween_6 : decode cX1_isBetween 6 = .ok (.lload_n 0, 1) := dk_30 (dk_at dksX1_isBetween_0 6 rfl rfl)
theorem dX1_isBetween_7 : decode cX1_isBetween 7 = .ok (.lload 4, 2) := dk_22 4 (dk_at dksX1_isBetween_0 7 rfl rfl)
theorem dX1_isBetween_9 : decode cX1_isBetween 9 = .ok (.lcmp, 1) := dk_148 (dk_at dksX1_isBetween_0 9 rfl rfl)
theorem dX1_isBetween_10 : decode cX1_isBetween 10 = .ok (.ifCond .gt 7, 3) := dk_157 0 7 (dk_at dksX1_isBetween_0 10 rfl rfl)
theorem dX1_isBetween_13 : decode cX1_isBetween 13 = .ok (.iconst 1, 1) := dk_4 (dk_at dksX1_isBetween_0 13 rfl rfl)
theorem dX1_isBetween_14 : decode cX1_isBetween 14 = .ok (.goto 4, 3) := dk_167 0 4 (dk_at dksX1_isBetween_0 14 rfl rfl)
theorem dX1_isBetween_17 : decode cX1_isBetween 17 = .ok (.iconst 0, 1) := dk_3 (dk_at dksX1_isBetween_0 17 rfl rfl)
theorem dX1_isBetween_18 : decode cX1_isBetween 18 = .ok (.ireturn, 1) := dk_172 (dk_at dksX1_isBetween_0 18 rfl rfl)
abbrev cX1_need : ByteArray := prog_1_method_7_code
def yX1_need : MethodName := ⟨RX1, "need", "(ZI)V"⟩
def dkwX1_need_0 : List UInt8 := [26, 154, 0, 12, 187, 0, 15, 89, 27, 183, 0, 17, 191, 177]
abbrev dktX1_need_0 : List UInt8 := dkwX1_need_0 ++ []
theorem dksX1_need_0 : cX1_need.data.toList.drop 0 = dktX1_need_0 := by decide +kernel
theorem dX1_need_0 : decode cX1_need 0 = .ok (.iload_n 0, 1) := dk_26 (dk_at dksX1_need_0 0 rfl rfl)
theorem dX1_need_1 : decode cX1_need 1 = .ok (.ifCond .ne 12, 3) := dk_154 0 12 (dk_at dksX1_need_0 1 rfl rfl)
theorem dX1_need_4 : decode cX1_need 4 = .ok (.new 15, 3) := dk_187 0 15 (dk_at dksX1_need_0 4 rfl rfl)
theorem dX1_need_7 : decode cX1_need 7 = .ok (.dup, 1) := dk_89 (dk_at dksX1_need_0 7 rfl rfl)
theorem dX1_need_8 : decode cX1_need 8 = .ok (.iload_n 1, 1) := dk_27 (dk_at dksX1_need_0 8 rfl rfl)
theorem dX1_need_9 : decode cX1_need 9 = .ok (.invokespecial 17, 3) := dk_183 0 17 (dk_at dksX1_need_0 9 rfl rfl)
theorem dX1_need_12 : decode cX1_need 12 = .ok (.athrow, 1) := dk_191 (dk_at dksX1_need_0 12 rfl rfl)
theorem dX1_need_13 : decode cX1_need 13 = .ok (.return_, 1) := dk_177 (dk_at dksX1_need_0 13 rfl rfl)
abbrev cX1_isClock : ByteArray := prog_1_method_2_code
def yX1_isClock : MethodName := ⟨RX1, "isClock", "(I)Z"⟩
def dkwX1_isClock_0 : List UInt8 := [26, 133, 9, 20, 0, 3, 184, 0, 5, 172]
abbrev dktX1_isClock_0 : List UInt8 := dkwX1_isClock_0 ++ []
theorem dksX1_isClock_0 : cX1_isClock.data.toList.drop 0 = dktX1_isClock_0 := by decide +kernel
theorem dX1_isClock_0 : decode cX1_isClock 0 = .ok (.iload_n 0, 1) := dk_26 (dk_at dksX1_isClock_0 0 rfl rfl)
theorem dX1_isClock_1 : decode cX1_isClock 1 = .ok (.i2l, 1) := dk_133 (dk_at dksX1_isClock_0 1 rfl rfl)
theorem dX1_isClock_2 : decode cX1_isClock 2 = .ok (.lconst 0, 1) := dk_9 (dk_at dksX1_isClock_0 2 rfl rfl)
theorem dX1_isClock_3 : decode cX1_isClock 3 = .ok (.ldc2_w 3, 3) := dk_20 0 3 (dk_at dksX1_isClock_0 3 rfl rfl)
theorem dX1_isClock_6 : decode cX1_isClock 6 = .ok (.invokestatic 5, 3) := dk_184 0 5 (dk_at dksX1_isClock_0 6 rfl rfl)
theorem dX1_isClock_9 : decode cX1_isClock 9 = .ok (.ireturn, 1) := dk_172 (dk_at dksX1_isClock_0 9 rfl rfl)
abbrev cX1_doneBeside : ByteArray := prog_1_method_13_code
def yX1_doneBeside : MethodName := ⟨RX1, "doneBeside", "(LFerryClocks$Desk;C[I)I"⟩
def dkwX1_doneBeside_5 : List UInt8 := [46, 182, 0, 115, 172]
abbrev dktX1_doneBeside_5 : List UInt8 := dkwX1_doneBeside_5 ++ []
def dkwX1_doneBeside_4 : List UInt8 := [172, 42, 44, 3, 46, 44, 4, 46, 44, 5, 46, 44, 6, 46, 182, 0, 111, 172, 42, 44, 3, 46, 44, 4]
abbrev dktX1_doneBeside_4 : List UInt8 := dkwX1_doneBeside_4 ++ dktX1_doneBeside_5
def dkwX1_doneBeside_3 : List UInt8 := [42, 44, 3, 46, 44, 4, 46, 44, 5, 46, 182, 0, 105, 172, 42, 44, 3, 46, 44, 4, 46, 182, 0, 108]
abbrev dktX1_doneBeside_3 : List UInt8 := dkwX1_doneBeside_3 ++ dktX1_doneBeside_4
def dkwX1_doneBeside_2 : List UInt8 := [42, 44, 3, 46, 182, 0, 96, 172, 42, 44, 3, 46, 182, 0, 99, 172, 42, 44, 3, 46, 182, 0, 102, 172]
abbrev dktX1_doneBeside_2 : List UInt8 := dkwX1_doneBeside_2 ++ dktX1_doneBeside_3
def dkwX1_doneBeside_1 : List UInt8 := [170, 0, 0, 0, 0, 0, 145, 0, 0, 0, 72, 0, 0, 0, 87, 0, 0, 0, 103, 0, 0, 0, 145, 0, 0, 0, 145, 0, 0, 0, 145, 0, 0, 0, 117, 0, 0, 0, 87, 0, 0, 0, 128, 0, 0, 0, 145, 0, 0, 0, 79, 0, 0, 0, 145, 0, 0, 0, 145, 0, 0, 0, 145, 0, 0, 0, 145, 0, 0, 0, 145, 0, 0, 0, 145, 0, 0, 0, 95]
abbrev dktX1_doneBeside_1 : List UInt8 := dkwX1_doneBeside_1 ++ dktX1_doneBeside_2
def dkwX1_doneBeside_0 : List UInt8 := [27]
abbrev dktX1_doneBeside_0 : List UInt8 := dkwX1_doneBeside_0 ++ dktX1_doneBeside_1
theorem dksX1_doneBeside_0 : cX1_doneBeside.data.toList.drop 0 = dktX1_doneBeside_0 := by decide +kernel
theorem dksX1_doneBeside_1 : cX1_doneBeside.data.toList.drop 1 = dktX1_doneBeside_1 := dk_seg dksX1_doneBeside_0 1 rfl rfl
theorem dksX1_doneBeside_2 : cX1_doneBeside.data.toList.drop 80 = dktX1_doneBeside_2 := dk_seg dksX1_doneBeside_1 79 rfl rfl
theorem dksX1_doneBeside_3 : cX1_doneBeside.data.toList.drop 104 = dktX1_doneBeside_3 := dk_seg dksX1_doneBeside_2 24 rfl rfl
theorem dksX1_doneBeside_4 : cX1_doneBeside.data.toList.drop 128 = dktX1_doneBeside_4 := dk_seg dksX1_doneBeside_3 24 rfl rfl
theorem dksX1_doneBeside_5 : cX1_doneBeside.data.toList.drop 152 = dktX1_doneBeside_5 := dk_seg dksX1_doneBeside_4 24 rfl rfl
theorem dX1_doneBeside_0 : decode cX1_doneBeside 0 = .ok (.iload_n 1, 1) := dk_27 (dk_at dksX1_doneBeside_0 0 rfl rfl)
theorem dX1_doneBeside_1 : decode cX1_doneBeside 1 = .ok (.tableswitch 145 72 87 #[103, 145, 145, 145, 117, 87, 128, 145, 79, 145, 145, 145, 145, 145, 145, 95], 79) := by decide +kernel
theorem dX1_doneBeside_80 : decode cX1_doneBeside 80 = .ok (.aload_n 0, 1) := dk_42 (dk_at dksX1_doneBeside_2 0 rfl rfl)
theorem dX1_doneBeside_81 : decode cX1_doneBeside 81 = .ok (.aload_n 2, 1) := dk_44 (dk_at dksX1_doneBeside_2 1 rfl rfl)
theorem dX1_doneBeside_82 : decode cX1_doneBeside 82 = .ok (.iconst 0, 1) := dk_3 (dk_at dksX1_doneBeside_2 2 rfl rfl)
theorem dX1_doneBeside_83 : decode cX1_doneBeside 83 = .ok (.iaload, 1) := dk_46 (dk_at dksX1_doneBeside_2 3 rfl rfl)
theorem dX1_doneBeside_84 : decode cX1_doneBeside 84 = .ok (.invokevirtual 96, 3) := dk_182 0 96 (dk_at dksX1_doneBeside_2 4 rfl rfl)
theorem dX1_doneBeside_87 : decode cX1_doneBeside 87 = .ok (.ireturn, 1) := dk_172 (dk_at dksX1_doneBeside_2 7 rfl rfl)
theorem dX1_doneBeside_88 : decode cX1_doneBeside 88 = .ok (.aload_n 0, 1) := dk_42 (dk_at dksX1_doneBeside_2 8 rfl rfl)
theorem dX1_doneBeside_89 : decode cX1_doneBeside 89 = .ok (.aload_n 2, 1) := dk_44 (dk_at dksX1_doneBeside_2 9 rfl rfl)
theorem dX1_doneBeside_90 : decode cX1_doneBeside 90 = .ok (.iconst 0, 1) := dk_3 (dk_at dksX1_doneBeside_2 10 rfl rfl)
theorem dX1_doneBeside_91 : decode cX1_doneBeside 91 = .ok (.iaload, 1) := dk_46 (dk_at dksX1_doneBeside_2 11 rfl rfl)
theorem dX1_doneBeside_92 : decode cX1_doneBeside 92 = .ok (.invokevirtual 99, 3) := dk_182 0 99 (dk_at dksX1_doneBeside_2 12 rfl rfl)
theorem dX1_doneBeside_95 : decode cX1_doneBeside 95 = .ok (.ireturn, 1) := dk_172 (dk_at dksX1_doneBeside_2 15 rfl rfl)
theorem dX1_doneBeside_96 : decode cX1_doneBeside 96 = .ok (.aload_n 0, 1) := dk_42 (dk_at dksX1_doneBeside_2 16 rfl rfl)
theorem dX1_doneBeside_97 : decode cX1_doneBeside 97 = .ok (.aload_n 2, 1) := dk_44 (dk_at dksX1_doneBeside_2 17 rfl rfl)
theorem dX1_doneBeside_98 : decode cX1_doneBeside 98 = .ok (.iconst 0, 1) := dk_3 (dk_at dksX1_doneBeside_2 18 rfl rfl)
theorem dX1_doneBeside_99 : decode cX1_doneBeside 99 = .ok (.iaload, 1) := dk_46 (dk_at dksX1_doneBeside_2 19 rfl rfl)
theorem dX1_doneBeside_100 : decode cX1_doneBeside 100 = .ok (.invokevirtual 102, 3) := dk_182 0 102 (dk_at dksX1_doneBeside_2 20 rfl rfl)
theorem dX1_doneBeside_103 : decode cX1_doneBeside 103 = .ok (.ireturn, 1) := dk_172 (dk_at dksX1_doneBeside_2 23 rfl rfl)
theorem dX1_doneBeside_104 : decode cX1_doneBeside 104 = .ok (.aload_n 0, 1) := dk_42 (dk_at dksX1_doneBeside_3 0 rfl rfl)
theorem dX1_doneBeside_105 : decode cX1_doneBeside 105 = .ok (.aload_n 2, 1) := dk_44 (dk_at dksX1_doneBeside_3 1 rfl rfl)
theorem dX1_doneBeside_106 : decode cX1_doneBeside 106 = .ok (.iconst 0, 1) := dk_3 (dk_at dksX1_doneBeside_3 2 rfl rfl)
theorem dX1_doneBeside_107 : decode cX1_doneBeside 107 = .ok (.iaload, 1) := dk_46 (dk_at dksX1_doneBeside_3 3 rfl rfl)
theorem dX1_doneBeside_108 : decode cX1_doneBeside 108 = .ok (.aload_n 2, 1) := dk_44 (dk_at dksX1_doneBeside_3 4 rfl rfl)
theorem dX1_doneBeside_109 : decode cX1_doneBeside 109 = .ok (.iconst 1, 1) := dk_4 (dk_at dksX1_doneBeside_3 5 rfl rfl)
theorem dX1_doneBeside_110 : decode cX1_doneBeside 110 = .ok (.iaload, 1) := dk_46 (dk_at dksX1_doneBeside_3 6 rfl rfl)
theorem dX1_doneBeside_111 : decode cX1_doneBeside 111 = .ok (.aload_n 2, 1) := dk_44 (dk_at dksX1_doneBeside_3 7 rfl rfl)
theorem dX1_doneBeside_112 : decode cX1_doneBeside 112 = .ok (.iconst 2, 1) := dk_5 (dk_at dksX1_doneBeside_3 8 rfl rfl)
theorem dX1_doneBeside_113 : decode cX1_doneBeside 113 = .ok (.iaload, 1) := dk_46 (dk_at dksX1_doneBeside_3 9 rfl rfl)
theorem dX1_doneBeside_114 : decode cX1_doneBeside 114 = .ok (.invokevirtual 105, 3) := dk_182 0 105 (dk_at dksX1_doneBeside_3 10 rfl rfl)
theorem dX1_doneBeside_117 : decode cX1_doneBeside 117 = .ok (.ireturn, 1) := dk_172 (dk_at dksX1_doneBeside_3 13 rfl rfl)
theorem dX1_doneBeside_118 : decode cX1_doneBeside 118 = .ok (.aload_n 0, 1) := dk_42 (dk_at dksX1_doneBeside_3 14 rfl rfl)
theorem dX1_doneBeside_119 : decode cX1_doneBeside 119 = .ok (.aload_n 2, 1) := dk_44 (dk_at dksX1_doneBeside_3 15 rfl rfl)
theorem dX1_doneBeside_120 : decode cX1_doneBeside 120 = .ok (.iconst 0, 1) := dk_3 (dk_at dksX1_doneBeside_3 16 rfl rfl)
theorem dX1_doneBeside_121 : decode cX1_doneBeside 121 = .ok (.iaload, 1) := dk_46 (dk_at dksX1_doneBeside_3 17 rfl rfl)
theorem dX1_doneBeside_122 : decode cX1_doneBeside 122 = .ok (.aload_n 2, 1) := dk_44 (dk_at dksX1_doneBeside_3 18 rfl rfl)
theorem dX1_doneBeside_123 : decode cX1_doneBeside 123 = .ok (.iconst 1, 1) := dk_4 (dk_at dksX1_doneBeside_3 19 rfl rfl)
theorem dX1_doneBeside_124 : decode cX1_doneBeside 124 = .ok (.iaload, 1) := dk_46 (dk_at dksX1_doneBeside_3 20 rfl rfl)
theorem dX1_doneBeside_125 : decode cX1_doneBeside 125 = .ok (.invokevirtual 108, 3) := dk_182 0 108 (dk_at dksX1_doneBeside_3 21 rfl rfl)
theorem dX1_doneBeside_128 : decode cX1_doneBeside 128 = .ok (.ireturn, 1) := dk_172 (dk_at dksX1_doneBeside_4 0 rfl rfl)
theorem dX1_doneBeside_129 : decode cX1_doneBeside 129 = .ok (.aload_n 0, 1) := dk_42 (dk_at dksX1_doneBeside_4 1 rfl rfl)
theorem dX1_doneBeside_130 : decode cX1_doneBeside 130 = .ok (.aload_n 2, 1) := dk_44 (dk_at dksX1_doneBeside_4 2 rfl rfl)
theorem dX1_doneBeside_131 : decode cX1_doneBeside 131 = .ok (.iconst 0, 1) := dk_3 (dk_at dksX1_doneBeside_4 3 rfl rfl)
theorem dX1_doneBeside_132 : decode cX1_doneBeside 132 = .ok (.iaload, 1) := dk_46 (dk_at dksX1_doneBeside_4 4 rfl rfl)
theorem dX1_doneBeside_133 : decode cX1_doneBeside 133 = .ok (.aload_n 2, 1) := dk_44 (dk_at dksX1_doneBeside_4 5 rfl rfl)
theorem dX1_doneBeside_134 : decode cX1_doneBeside 134 = .ok (.iconst 1, 1) := dk_4 (dk_at dksX1_doneBeside_4 6 rfl rfl)
theorem dX1_doneBeside_135 : decode cX1_doneBeside 135 = .ok (.iaload, 1) := dk_46 (dk_at dksX1_doneBeside_4 7 rfl rfl)
theorem dX1_doneBeside_136 : decode cX1_doneBeside 136 = .ok (.aload_n 2, 1) := dk_44 (dk_at dksX1_doneBeside_4 8 rfl rfl)
theorem dX1_doneBeside_137 : decode cX1_doneBeside 137 = .ok (.iconst 2, 1) := dk_5 (dk_at dksX1_doneBeside_4 9 rfl rfl)
theorem dX1_doneBeside_138 : decode cX1_doneBeside 138 = .ok (.iaload, 1) := dk_46 (dk_at dksX1_doneBeside_4 10 rfl rfl)
theorem dX1_doneBeside_139 : decode cX1_doneBeside 139 = .ok (.aload_n 2, 1) := dk_44 (dk_at dksX1_doneBeside_4 11 rfl rfl)
theorem dX1_doneBeside_140 : decode cX1_doneBeside 140 = .ok (.iconst 3, 1) := dk_6 (dk_at dksX1_doneBeside_4 12 rfl rfl)
theorem dX1_doneBeside_141 : decode cX1_doneBeside 141 = .ok (.iaload, 1) := dk_46 (dk_at dksX1_doneBeside_4 13 rfl rfl)
theorem dX1_doneBeside_142 : decode cX1_doneBeside 142 = .ok (.invokevirtual 111, 3) := dk_182 0 111 (dk_at dksX1_doneBeside_4 14 rfl rfl)
theorem dX1_doneBeside_145 : decode cX1_doneBeside 145 = .ok (.ireturn, 1) := dk_172 (dk_at dksX1_doneBeside_4 17 rfl rfl)
theorem dX1_doneBeside_146 : decode cX1_doneBeside 146 = .ok (.aload_n 0, 1) := dk_42 (dk_at dksX1_doneBeside_4 18 rfl rfl)
theorem dX1_doneBeside_147 : decode cX1_doneBeside 147 = .ok (.aload_n 2, 1) := dk_44 (dk_at dksX1_doneBeside_4 19 rfl rfl)
theorem dX1_doneBeside_148 : decode cX1_doneBeside 148 = .ok (.iconst 0, 1) := dk_3 (dk_at dksX1_doneBeside_4 20 rfl rfl)
theorem dX1_doneBeside_149 : decode cX1_doneBeside 149 = .ok (.iaload, 1) := dk_46 (dk_at dksX1_doneBeside_4 21 rfl rfl)
theorem dX1_doneBeside_150 : decode cX1_doneBeside 150 = .ok (.aload_n 2, 1) := dk_44 (dk_at dksX1_doneBeside_4 22 rfl rfl)
theorem dX1_doneBeside_151 : decode cX1_doneBeside 151 = .ok (.iconst 1, 1) := dk_4 (dk_at dksX1_doneBeside_4 23 rfl rfl)
theorem dX1_doneBeside_152 : decode cX1_doneBeside 152 = .ok (.iaload, 1) := dk_46 (dk_at dksX1_doneBeside_5 0 rfl rfl)
theorem dX1_doneBeside_153 : decode cX1_doneBeside 153 = .ok (.invokevirtual 115, 3) := dk_182 0 115 (dk_at dksX1_doneBeside_5 1 rfl rfl)
theorem dX1_doneBeside_156 : decode cX1_doneBeside 156 = .ok (.ireturn, 1) := dk_172 (dk_at dksX1_doneBeside_5 4 rfl rfl)
abbrev cX1_isShelf : ByteArray := prog_1_method_4_code
def yX1_isShelf : MethodName := ⟨RX1, "isShelf", "(I)Z"⟩
def dkwX1_isShelf_0 : List UInt8 := [26, 133, 9, 20, 0, 9, 184, 0, 5, 172]
abbrev dktX1_isShelf_0 : List UInt8 := dkwX1_isShelf_0 ++ []
theorem dksX1_isShelf_0 : cX1_isShelf.data.toList.drop 0 = dktX1_isShelf_0 := by decide +kernel
theorem dX1_isShelf_0 : decode cX1_isShelf 0 = .ok (.iload_n 0, 1) := dk_26 (dk_at dksX1_isShelf_0 0 rfl rfl)
theorem dX1_isShelf_1 : decode cX1_isShelf 1 = .ok (.i2l, 1) := dk_133 (dk_at dksX1_isShelf_0 1 rfl rfl)
theorem dX1_isShelf_2 : decode cX1_isShelf 2 = .ok (.lconst 0, 1) := dk_9 (dk_at dksX1_isShelf_0 2 rfl rfl)
theorem dX1_isShelf_3 : decode cX1_isShelf 3 = .ok (.ldc2_w 9, 3) := dk_20 0 9 (dk_at dksX1_isShelf_0 3 rfl rfl)
theorem dX1_isShelf_6 : decode cX1_isShelf 6 = .ok (.invokestatic 5, 3) := dk_184 0 5 (dk_at dksX1_isShelf_0 6 rfl rfl)
theorem dX1_isShelf_9 : decode cX1_isShelf 9 = .ok (.ireturn, 1) := dk_172 (dk_at dksX1_isShelf_0 9 rfl rfl)
abbrev cX1_isHarbour : ByteArray := prog_1_method_5_code
def yX1_isHarbour : MethodName := ⟨RX1, "isHarbour", "(I)Z"⟩
def dkwX1_isHarbour_0 : List UInt8 := [26, 133, 9, 20, 0, 11, 184, 0, 5, 172]
abbrev dktX1_isHarbour_0 : List UInt8 := dkwX1_isHarbour_0 ++ []
theorem dksX1_isHarbour_0 : cX1_isHarbour.data.toList.drop 0 = dktX1_isHarbour_0 := by decide +kernel
theorem dX1_isHarbour_0 : decode cX1_isHarbour 0 = .ok (.iload_n 0, 1) := dk_26 (dk_at dksX1_isHarbour_0 0 rfl rfl)
theorem dX1_isHarbour_1 : decode cX1_isHarbour 1 = .ok (.i2l, 1) := dk_133 (dk_at dksX1_isHarbour_0 1 rfl rfl)
theorem dX1_isHarbour_2 : decode cX1_isHarbour 2 = .ok (.lconst 0, 1) := dk_9 (dk_at dksX1_isHarbour_0 2 rfl rfl)
theorem dX1_isHarbour_3 : decode cX1_isHarbour 3 = .ok (.ldc2_w 11, 3) := dk_20 0 11 (dk_at dksX1_isHarbour_0 3 rfl rfl)
theorem dX1_isHarbour_6 : decode cX1_isHarbour 6 = .ok (.invokestatic 5, 3) := dk_184 0 5 (dk_at dksX1_isHarbour_0 6 rfl rfl)
theorem dX1_isHarbour_9 : decode cX1_isHarbour 9 = .ok (.ireturn, 1) := dk_172 (dk_at dksX1_isHarbour_0 9 rfl rfl)
abbrev cX1_changed : ByteArray := prog_1_method_11_code
def yX1_changed : MethodName := ⟨RX1, "changed", "(LFerryClocks$Desk;I)I"⟩
def dkwX1_changed_1 : List UInt8 := [180, 0, 36, 182, 0, 55, 87, 42, 43, 181, 0, 29, 28, 172]
abbrev dktX1_changed_1 : List UInt8 := dkwX1_changed_1 ++ []
def dkwX1_changed_0 : List UInt8 := [42, 180, 0, 36, 42, 180, 0, 29, 182, 0, 47, 42, 180, 0, 36, 182, 0, 51, 7, 164, 0, 11, 42]
abbrev dktX1_changed_0 : List UInt8 := dkwX1_changed_0 ++ dktX1_changed_1
theorem dksX1_changed_0 : cX1_changed.data.toList.drop 0 = dktX1_changed_0 := by decide +kernel
theorem dksX1_changed_1 : cX1_changed.data.toList.drop 23 = dktX1_changed_1 := dk_seg dksX1_changed_0 23 rfl rfl
theorem dX1_changed_0 : decode cX1_changed 0 = .ok (.aload_n 0, 1) := dk_42 (dk_at dksX1_changed_0 0 rfl rfl)
theorem dX1_changed_1 : decode cX1_changed 1 = .ok (.getfield 36, 3) := dk_180 0 36 (dk_at dksX1_changed_0 1 rfl rfl)
theorem dX1_changed_4 : decode cX1_changed 4 = .ok (.aload_n 0, 1) := dk_42 (dk_at dksX1_changed_0 4 rfl rfl)
theorem dX1_changed_5 : decode cX1_changed 5 = .ok (.getfield 29, 3) := dk_180 0 29 (dk_at dksX1_changed_0 5 rfl rfl)
theorem dX1_changed_8 : decode cX1_changed 8 = .ok (.invokevirtual 47, 3) := dk_182 0 47 (dk_at dksX1_changed_0 8 rfl rfl)
theorem dX1_changed_11 : decode cX1_changed 11 = .ok (.aload_n 0, 1) := dk_42 (dk_at dksX1_changed_0 11 rfl rfl)
theorem dX1_changed_12 : decode cX1_changed 12 = .ok (.getfield 36, 3) := dk_180 0 36 (dk_at dksX1_changed_0 12 rfl rfl)
theorem dX1_changed_15 : decode cX1_changed 15 = .ok (.invokevirtual 51, 3) := dk_182 0 51 (dk_at dksX1_changed_0 15 rfl rfl)
theorem dX1_changed_18 : decode cX1_changed 18 = .ok (.iconst 4, 1) := dk_7 (dk_at dksX1_changed_0 18 rfl rfl)
theorem dX1_changed_19 : decode cX1_changed 19 = .ok (.if_icmp .le 11, 3) := dk_164 0 11 (dk_at dksX1_changed_0 19 rfl rfl)
theorem dX1_changed_22 : decode cX1_changed 22 = .ok (.aload_n 0, 1) := dk_42 (dk_at dksX1_changed_0 22 rfl rfl)
theorem dX1_changed_23 : decode cX1_changed 23 = .ok (.getfield 36, 3) := dk_180 0 36 (dk_at dksX1_changed_1 0 rfl rfl)
theorem dX1_changed_26 : decode cX1_changed 26 = .ok (.invokevirtual 55, 3) := dk_182 0 55 (dk_at dksX1_changed_1 3 rfl rfl)
theorem dX1_changed_29 : decode cX1_changed 29 = .ok (.pop, 1) := dk_87 (dk_at dksX1_changed_1 6 rfl rfl)
theorem dX1_changed_30 : decode cX1_changed 30 = .ok (.aload_n 0, 1) := dk_42 (dk_at dksX1_changed_1 7 rfl rfl)
theorem dX1_changed_31 : decode cX1_changed 31 = .ok (.aload_n 1, 1) := dk_43 (dk_at dksX1_changed_1 8 rfl rfl)
theorem dX1_changed_32 : decode cX1_changed 32 = .ok (.putfield 29, 3) := dk_181 0 29 (dk_at dksX1_changed_1 9 rfl rfl)
theorem dX1_changed_35 : decode cX1_changed 35 = .ok (.iload_n 2, 1) := dk_28 (dk_at dksX1_changed_1 12 rfl rfl)
theorem dX1_changed_36 : decode cX1_changed 36 = .ok (.ireturn, 1) := dk_172 (dk_at dksX1_changed_1 13 rfl rfl)
abbrev cX1_isTight : ByteArray := prog_1_method_39_code
def yX1_isTight : MethodName := ⟨RX1, "isTight", "()Z"⟩
def dkwX1_isTight_1 : List UInt8 := [180, 0, 153, 182, 0, 187, 154, 0, 7, 4, 167, 0, 4, 3, 172]
abbrev dktX1_isTight_1 : List UInt8 := dkwX1_isTight_1 ++ []
def dkwX1_isTight_0 : List UInt8 := [42, 180, 0, 29, 180, 0, 153, 182, 0, 157, 76, 43, 182, 0, 163, 154, 0, 21, 43, 42, 180, 0, 29]
abbrev dktX1_isTight_0 : List UInt8 := dkwX1_isTight_0 ++ dktX1_isTight_1
theorem dksX1_isTight_0 : cX1_isTight.data.toList.drop 0 = dktX1_isTight_0 := by decide +kernel
theorem dksX1_isTight_1 : cX1_isTight.data.toList.drop 23 = dktX1_isTight_1 := dk_seg dksX1_isTight_0 23 rfl rfl
theorem dX1_isTight_0 : decode cX1_isTight 0 = .ok (.aload_n 0, 1) := dk_42 (dk_at dksX1_isTight_0 0 rfl rfl)
theorem dX1_isTight_1 : decode cX1_isTight 1 = .ok (.getfield 29, 3) := dk_180 0 29 (dk_at dksX1_isTight_0 1 rfl rfl)
theorem dX1_isTight_4 : decode cX1_isTight 4 = .ok (.getfield 153, 3) := dk_180 0 153 (dk_at dksX1_isTight_0 4 rfl rfl)
theorem dX1_isTight_7 : decode cX1_isTight 7 = .ok (.invokevirtual 157, 3) := dk_182 0 157 (dk_at dksX1_isTight_0 7 rfl rfl)
theorem dX1_isTight_10 : decode cX1_isTight 10 = .ok (.astore_n 1, 1) := dk_76 (dk_at dksX1_isTight_0 10 rfl rfl)
theorem dX1_isTight_11 : decode cX1_isTight 11 = .ok (.aload_n 1, 1) := dk_43 (dk_at dksX1_isTight_0 11 rfl rfl)
theorem dX1_isTight_12 : decode cX1_isTight 12 = .ok (.invokevirtual 163, 3) := dk_182 0 163 (dk_at dksX1_isTight_0 12 rfl rfl)
theorem dX1_isTight_15 : decode cX1_isTight 15 = .ok (.ifCond .ne 21, 3) := dk_154 0 21 (dk_at dksX1_isTight_0 15 rfl rfl)
theorem dX1_isTight_18 : decode cX1_isTight 18 = .ok (.aload_n 1, 1) := dk_43 (dk_at dksX1_isTight_0 18 rfl rfl)
theorem dX1_isTight_19 : decode cX1_isTight 19 = .ok (.aload_n 0, 1) := dk_42 (dk_at dksX1_isTight_0 19 rfl rfl)
theorem dX1_isTight_20 : decode cX1_isTight 20 = .ok (.getfield 29, 3) := dk_180 0 29 (dk_at dksX1_isTight_0 20 rfl rfl)
theorem dX1_isTight_23 : decode cX1_isTight 23 = .ok (.getfield 153, 3) := dk_180 0 153 (dk_at dksX1_isTight_1 0 rfl rfl)
theorem dX1_isTight_26 : decode cX1_isTight 26 = .ok (.invokevirtual 187, 3) := dk_182 0 187 (dk_at dksX1_isTight_1 3 rfl rfl)
theorem dX1_isTight_29 : decode cX1_isTight 29 = .ok (.ifCond .ne 7, 3) := dk_154 0 7 (dk_at dksX1_isTight_1 6 rfl rfl)
theorem dX1_isTight_32 : decode cX1_isTight 32 = .ok (.iconst 1, 1) := dk_4 (dk_at dksX1_isTight_1 9 rfl rfl)
theorem dX1_isTight_33 : decode cX1_isTight 33 = .ok (.goto 4, 3) := dk_167 0 4 (dk_at dksX1_isTight_1 10 rfl rfl)
theorem dX1_isTight_36 : decode cX1_isTight 36 = .ok (.iconst 0, 1) := dk_3 (dk_at dksX1_isTight_1 13 rfl rfl)
theorem dX1_isTight_37 : decode cX1_isTight 37 = .ok (.ireturn, 1) := dk_172 (dk_at dksX1_isTight_1 14 rfl rfl)
abbrev cX1_isEmpty : ByteArray := prog_1_method_40_code
def yX1_isEmpty : MethodName := ⟨RX1, "isEmpty", "()Z"⟩
def dkwX1_isEmpty_0 : List UInt8 := [42, 180, 0, 29, 180, 0, 153, 182, 0, 191, 172]
abbrev dktX1_isEmpty_0 : List UInt8 := dkwX1_isEmpty_0 ++ []
theorem dksX1_isEmpty_0 : cX1_isEmpty.data.toList.drop 0 = dktX1_isEmpty_0 := by decide +kernel
theorem dX1_isEmpty_0 : decode cX1_isEmpty 0 = .ok (.aload_n 0, 1) := dk_42 (dk_at dksX1_isEmpty_0 0 rfl rfl)
theorem dX1_isEmpty_1 : decode cX1_isEmpty 1 = .ok (.getfield 29, 3) := dk_180 0 29 (dk_at dksX1_isEmpty_0 1 rfl rfl)
theorem dX1_isEmpty_4 : decode cX1_isEmpty 4 = .ok (.getfield 153, 3) := dk_180 0 153 (dk_at dksX1_isEmpty_0 4 rfl rfl)
theorem dX1_isEmpty_7 : decode cX1_isEmpty 7 = .ok (.invokevirtual 191, 3) := dk_182 0 191 (dk_at dksX1_isEmpty_0 7 rfl rfl)
theorem dX1_isEmpty_10 : decode cX1_isEmpty 10 = .ok (.ireturn, 1) := dk_172 (dk_at dksX1_isEmpty_0 10 rfl rfl)
abbrev cX1_isEmptyByMoments : ByteArray := prog_1_method_41_code
def yX1_isEmptyByMoments : MethodName := ⟨RX1, "isEmptyByMoments", "()Z"⟩
def dkwX1_isEmptyByMoments_0 : List UInt8 := [42, 180, 0, 29, 180, 0, 153, 1, 182, 0, 194, 154, 0, 7, 4, 167, 0, 4, 3, 172]
abbrev dktX1_isEmptyByMoments_0 : List UInt8 := dkwX1_isEmptyByMoments_0 ++ []
theorem dksX1_isEmptyByMoments_0 : cX1_isEmptyByMoments.data.toList.drop 0 = dktX1_isEmptyByMoments_0 := by decide +kernel
theorem dX1_isEmptyByMoments_0 : decode cX1_isEmptyByMoments 0 = .ok (.aload_n 0, 1) := dk_42 (dk_at dksX1_isEmptyByMoments_0 0 rfl rfl)
theorem dX1_isEmptyByMoments_1 : decode cX1_isEmptyByMoments 1 = .ok (.getfield 29, 3) := dk_180 0 29 (dk_at dksX1_isEmptyByMoments_0 1 rfl rfl)
theorem dX1_isEmptyByMoments_4 : decode cX1_isEmptyByMoments 4 = .ok (.getfield 153, 3) := dk_180 0 153 (dk_at dksX1_isEmptyByMoments_0 4 rfl rfl)
theorem dX1_isEmptyByMoments_7 : decode cX1_isEmptyByMoments 7 = .ok (.aconst_null, 1) := dk_1 (dk_at dksX1_isEmptyByMoments_0 7 rfl rfl)
theorem dX1_isEmptyByMoments_8 : decode cX1_isEmptyByMoments 8 = .ok (.invokevirtual 194, 3) := dk_182 0 194 (dk_at dksX1_isEmptyByMoments_0 8 rfl rfl)
theorem dX1_isEmptyByMoments_11 : decode cX1_isEmptyByMoments 11 = .ok (.ifCond .ne 7, 3) := dk_154 0 7 (dk_at dksX1_isEmptyByMoments_0 11 rfl rfl)
theorem dX1_isEmptyByMoments_14 : decode cX1_isEmptyByMoments 14 = .ok (.iconst 1, 1) := dk_4 (dk_at dksX1_isEmptyByMoments_0 14 rfl rfl)
theorem dX1_isEmptyByMoments_15 : decode cX1_isEmptyByMoments 15 = .ok (.goto 4, 3) := dk_167 0 4 (dk_at dksX1_isEmptyByMoments_0 15 rfl rfl)
theorem dX1_isEmptyByMoments_18 : decode cX1_isEmptyByMoments 18 = .ok (.iconst 0, 1) := dk_3 (dk_at dksX1_isEmptyByMoments_0 18 rfl rfl)
theorem dX1_isEmptyByMoments_19 : decode cX1_isEmptyByMoments 19 = .ok (.ireturn, 1) := dk_172 (dk_at dksX1_isEmptyByMoments_0 19 rfl rfl)
abbrev cX1_moments : ByteArray := prog_1_method_43_code
def yX1_moments : MethodName := ⟨RX1, "moments", "()I"⟩
def dkwX1_moments_0 : List UInt8 := [42, 180, 0, 29, 180, 0, 153, 1, 182, 0, 194, 172]
abbrev dktX1_moments_0 : List UInt8 := dkwX1_moments_0 ++ []
theorem dksX1_moments_0 : cX1_moments.data.toList.drop 0 = dktX1_moments_0 := by decide +kernel
theorem dX1_moments_0 : decode cX1_moments 0 = .ok (.aload_n 0, 1) := dk_42 (dk_at dksX1_moments_0 0 rfl rfl)
theorem dX1_moments_1 : decode cX1_moments 1 = .ok (.getfield 29, 3) := dk_180 0 29 (dk_at dksX1_moments_0 1 rfl rfl)
theorem dX1_moments_4 : decode cX1_moments 4 = .ok (.getfield 153, 3) := dk_180 0 153 (dk_at dksX1_moments_0 4 rfl rfl)
theorem dX1_moments_7 : decode cX1_moments 7 = .ok (.aconst_null, 1) := dk_1 (dk_at dksX1_moments_0 7 rfl rfl)
theorem dX1_moments_8 : decode cX1_moments 8 = .ok (.invokevirtual 194, 3) := dk_182 0 194 (dk_at dksX1_moments_0 8 rfl rfl)
theorem dX1_moments_11 : decode cX1_moments 11 = .ok (.ireturn, 1) := dk_172 (dk_at dksX1_moments_0 11 rfl rfl)
abbrev cX1_momentsTightened : ByteArray := prog_1_method_44_code
def yX1_momentsTightened : MethodName := ⟨RX1, "momentsTightened", "()I"⟩
def dkwX1_momentsTightened_1 : List UInt8 := [182, 0, 194, 172]
abbrev dktX1_momentsTightened_1 : List UInt8 := dkwX1_momentsTightened_1 ++ []
def dkwX1_momentsTightened_0 : List UInt8 := [42, 180, 0, 29, 180, 0, 153, 182, 0, 157, 76, 43, 182, 0, 163, 153, 0, 7, 3, 167, 0, 8, 43, 1]
abbrev dktX1_momentsTightened_0 : List UInt8 := dkwX1_momentsTightened_0 ++ dktX1_momentsTightened_1
theorem dksX1_momentsTightened_0 : cX1_momentsTightened.data.toList.drop 0 = dktX1_momentsTightened_0 := by decide +kernel
theorem dksX1_momentsTightened_1 : cX1_momentsTightened.data.toList.drop 24 = dktX1_momentsTightened_1 := dk_seg dksX1_momentsTightened_0 24 rfl rfl
theorem dX1_momentsTightened_0 : decode cX1_momentsTightened 0 = .ok (.aload_n 0, 1) := dk_42 (dk_at dksX1_momentsTightened_0 0 rfl rfl)
theorem dX1_momentsTightened_1 : decode cX1_momentsTightened 1 = .ok (.getfield 29, 3) := dk_180 0 29 (dk_at dksX1_momentsTightened_0 1 rfl rfl)
theorem dX1_momentsTightened_4 : decode cX1_momentsTightened 4 = .ok (.getfield 153, 3) := dk_180 0 153 (dk_at dksX1_momentsTightened_0 4 rfl rfl)
theorem dX1_momentsTightened_7 : decode cX1_momentsTightened 7 = .ok (.invokevirtual 157, 3) := dk_182 0 157 (dk_at dksX1_momentsTightened_0 7 rfl rfl)
theorem dX1_momentsTightened_10 : decode cX1_momentsTightened 10 = .ok (.astore_n 1, 1) := dk_76 (dk_at dksX1_momentsTightened_0 10 rfl rfl)
theorem dX1_momentsTightened_11 : decode cX1_momentsTightened 11 = .ok (.aload_n 1, 1) := dk_43 (dk_at dksX1_momentsTightened_0 11 rfl rfl)
theorem dX1_momentsTightened_12 : decode cX1_momentsTightened 12 = .ok (.invokevirtual 163, 3) := dk_182 0 163 (dk_at dksX1_momentsTightened_0 12 rfl rfl)
theorem dX1_momentsTightened_15 : decode cX1_momentsTightened 15 = .ok (.ifCond .eq 7, 3) := dk_153 0 7 (dk_at dksX1_momentsTightened_0 15 rfl rfl)
theorem dX1_momentsTightened_18 : decode cX1_momentsTightened 18 = .ok (.iconst 0, 1) := dk_3 (dk_at dksX1_momentsTightened_0 18 rfl rfl)
theorem dX1_momentsTightened_19 : decode cX1_momentsTightened 19 = .ok (.goto 8, 3) := dk_167 0 8 (dk_at dksX1_momentsTightened_0 19 rfl rfl)
theorem dX1_momentsTightened_22 : decode cX1_momentsTightened 22 = .ok (.aload_n 1, 1) := dk_43 (dk_at dksX1_momentsTightened_0 22 rfl rfl)
theorem dX1_momentsTightened_23 : decode cX1_momentsTightened 23 = .ok (.aconst_null, 1) := dk_1 (dk_at dksX1_momentsTightened_0 23 rfl rfl)
theorem dX1_momentsTightened_24 : decode cX1_momentsTightened 24 = .ok (.invokevirtual 194, 3) := dk_182 0 194 (dk_at dksX1_momentsTightened_1 0 rfl rfl)
theorem dX1_momentsTightened_27 : decode cX1_momentsTightened 27 = .ok (.ireturn, 1) := dk_172 (dk_at dksX1_momentsTightened_1 3 rfl rfl)
abbrev cX1_lines : ByteArray := prog_1_method_58_code
def yX1_lines : MethodName := ⟨RX1, "lines", "()I"⟩
def dkwX1_lines_0 : List UInt8 := [42, 180, 0, 29, 180, 0, 251, 182, 1, 17, 172]
abbrev dktX1_lines_0 : List UInt8 := dkwX1_lines_0 ++ []
theorem dksX1_lines_0 : cX1_lines.data.toList.drop 0 = dktX1_lines_0 := by decide +kernel
theorem dX1_lines_0 : decode cX1_lines 0 = .ok (.aload_n 0, 1) := dk_42 (dk_at dksX1_lines_0 0 rfl rfl)
theorem dX1_lines_1 : decode cX1_lines 1 = .ok (.getfield 29, 3) := dk_180 0 29 (dk_at dksX1_lines_0 1 rfl rfl)
theorem dX1_lines_4 : decode cX1_lines 4 = .ok (.getfield 251, 3) := dk_180 0 251 (dk_at dksX1_lines_0 4 rfl rfl)
theorem dX1_lines_7 : decode cX1_lines 7 = .ok (.invokevirtual 273, 3) := dk_182 1 17 (dk_at dksX1_lines_0 7 rfl rfl)
theorem dX1_lines_10 : decode cX1_lines 10 = .ok (.ireturn, 1) := dk_172 (dk_at dksX1_lines_0 10 rfl rfl)
abbrev cX1_reachableByMoments : ByteArray := prog_1_method_63_code
def yX1_reachableByMoments : MethodName := ⟨RX1, "reachableByMoments", "()I"⟩
def dkwX1_reachableByMoments_0 : List UInt8 := [42, 180, 0, 29, 182, 1, 39, 172]
abbrev dktX1_reachableByMoments_0 : List UInt8 := dkwX1_reachableByMoments_0 ++ []
theorem dksX1_reachableByMoments_0 : cX1_reachableByMoments.data.toList.drop 0 = dktX1_reachableByMoments_0 := by decide +kernel
theorem dX1_reachableByMoments_0 : decode cX1_reachableByMoments 0 = .ok (.aload_n 0, 1) := dk_42 (dk_at dksX1_reachableByMoments_0 0 rfl rfl)
theorem dX1_reachableByMoments_1 : decode cX1_reachableByMoments 1 = .ok (.getfield 29, 3) := dk_180 0 29 (dk_at dksX1_reachableByMoments_0 1 rfl rfl)
theorem dX1_reachableByMoments_4 : decode cX1_reachableByMoments 4 = .ok (.invokevirtual 295, 3) := dk_182 1 39 (dk_at dksX1_reachableByMoments_0 4 rfl rfl)
theorem dX1_reachableByMoments_7 : decode cX1_reachableByMoments 7 = .ok (.ireturn, 1) := dk_172 (dk_at dksX1_reachableByMoments_0 7 rfl rfl)
abbrev cX1_clockOf : ByteArray := prog_1_method_8_code
def yX1_clockOf : MethodName := ⟨RX1, "clockOf", "(II)I"⟩
def dkwX1_clockOf_1 : List UInt8 := [16, 11, 112, 167, 0, 7, 26, 16, 11, 112, 172]
abbrev dktX1_clockOf_1 : List UInt8 := dkwX1_clockOf_1 ++ []
def dkwX1_clockOf_0 : List UInt8 := [27, 154, 0, 13, 26, 16, 121, 108, 16, 11, 112, 167, 0, 22, 27, 4, 160, 0, 13, 26, 16, 11, 108]
abbrev dktX1_clockOf_0 : List UInt8 := dkwX1_clockOf_0 ++ dktX1_clockOf_1
theorem dksX1_clockOf_0 : cX1_clockOf.data.toList.drop 0 = dktX1_clockOf_0 := by decide +kernel
theorem dksX1_clockOf_1 : cX1_clockOf.data.toList.drop 23 = dktX1_clockOf_1 := dk_seg dksX1_clockOf_0 23 rfl rfl
theorem dX1_clockOf_0 : decode cX1_clockOf 0 = .ok (.iload_n 1, 1) := dk_27 (dk_at dksX1_clockOf_0 0 rfl rfl)
theorem dX1_clockOf_1 : decode cX1_clockOf 1 = .ok (.ifCond .ne 13, 3) := dk_154 0 13 (dk_at dksX1_clockOf_0 1 rfl rfl)
theorem dX1_clockOf_4 : decode cX1_clockOf 4 = .ok (.iload_n 0, 1) := dk_26 (dk_at dksX1_clockOf_0 4 rfl rfl)
theorem dX1_clockOf_5 : decode cX1_clockOf 5 = .ok (.bipush 121, 2) := dk_16 121 (dk_at dksX1_clockOf_0 5 rfl rfl)
theorem dX1_clockOf_7 : decode cX1_clockOf 7 = .ok (.idiv, 1) := dk_108 (dk_at dksX1_clockOf_0 7 rfl rfl)
theorem dX1_clockOf_8 : decode cX1_clockOf 8 = .ok (.bipush 11, 2) := dk_16 11 (dk_at dksX1_clockOf_0 8 rfl rfl)
theorem dX1_clockOf_10 : decode cX1_clockOf 10 = .ok (.irem, 1) := dk_112 (dk_at dksX1_clockOf_0 10 rfl rfl)
theorem dX1_clockOf_11 : decode cX1_clockOf 11 = .ok (.goto 22, 3) := dk_167 0 22 (dk_at dksX1_clockOf_0 11 rfl rfl)
theorem dX1_clockOf_14 : decode cX1_clockOf 14 = .ok (.iload_n 1, 1) := dk_27 (dk_at dksX1_clockOf_0 14 rfl rfl)
theorem dX1_clockOf_15 : decode cX1_clockOf 15 = .ok (.iconst 1, 1) := dk_4 (dk_at dksX1_clockOf_0 15 rfl rfl)
theorem dX1_clockOf_16 : decode cX1_clockOf 16 = .ok (.if_icmp .ne 13, 3) := dk_160 0 13 (dk_at dksX1_clockOf_0 16 rfl rfl)
theorem dX1_clockOf_19 : decode cX1_clockOf 19 = .ok (.iload_n 0, 1) := dk_26 (dk_at dksX1_clockOf_0 19 rfl rfl)
theorem dX1_clockOf_20 : decode cX1_clockOf 20 = .ok (.bipush 11, 2) := dk_16 11 (dk_at dksX1_clockOf_0 20 rfl rfl)
theorem dX1_clockOf_22 : decode cX1_clockOf 22 = .ok (.idiv, 1) := dk_108 (dk_at dksX1_clockOf_0 22 rfl rfl)
theorem dX1_clockOf_23 : decode cX1_clockOf 23 = .ok (.bipush 11, 2) := dk_16 11 (dk_at dksX1_clockOf_1 0 rfl rfl)
theorem dX1_clockOf_25 : decode cX1_clockOf 25 = .ok (.irem, 1) := dk_112 (dk_at dksX1_clockOf_1 2 rfl rfl)
theorem dX1_clockOf_26 : decode cX1_clockOf 26 = .ok (.goto 7, 3) := dk_167 0 7 (dk_at dksX1_clockOf_1 3 rfl rfl)
theorem dX1_clockOf_29 : decode cX1_clockOf 29 = .ok (.iload_n 0, 1) := dk_26 (dk_at dksX1_clockOf_1 6 rfl rfl)
theorem dX1_clockOf_30 : decode cX1_clockOf 30 = .ok (.bipush 11, 2) := dk_16 11 (dk_at dksX1_clockOf_1 7 rfl rfl)
theorem dX1_clockOf_32 : decode cX1_clockOf 32 = .ok (.irem, 1) := dk_112 (dk_at dksX1_clockOf_1 9 rfl rfl)
theorem dX1_clockOf_33 : decode cX1_clockOf 33 = .ok (.ireturn, 1) := dk_172 (dk_at dksX1_clockOf_1 10 rfl rfl)
abbrev cX1_codeOf : ByteArray := prog_1_method_9_code
def yX1_codeOf : MethodName := ⟨RX1, "codeOf", "(IIII)I"⟩
def dkwX1_codeOf_0 : List UInt8 := [26, 16, 11, 104, 27, 96, 16, 11, 104, 28, 96, 16, 11, 104, 29, 96, 172]
abbrev dktX1_codeOf_0 : List UInt8 := dkwX1_codeOf_0 ++ []
theorem dksX1_codeOf_0 : cX1_codeOf.data.toList.drop 0 = dktX1_codeOf_0 := by decide +kernel
theorem dX1_codeOf_0 : decode cX1_codeOf 0 = .ok (.iload_n 0, 1) := dk_26 (dk_at dksX1_codeOf_0 0 rfl rfl)
theorem dX1_codeOf_1 : decode cX1_codeOf 1 = .ok (.bipush 11, 2) := dk_16 11 (dk_at dksX1_codeOf_0 1 rfl rfl)
theorem dX1_codeOf_3 : decode cX1_codeOf 3 = .ok (.imul, 1) := dk_104 (dk_at dksX1_codeOf_0 3 rfl rfl)
theorem dX1_codeOf_4 : decode cX1_codeOf 4 = .ok (.iload_n 1, 1) := dk_27 (dk_at dksX1_codeOf_0 4 rfl rfl)
theorem dX1_codeOf_5 : decode cX1_codeOf 5 = .ok (.iadd, 1) := dk_96 (dk_at dksX1_codeOf_0 5 rfl rfl)
theorem dX1_codeOf_6 : decode cX1_codeOf 6 = .ok (.bipush 11, 2) := dk_16 11 (dk_at dksX1_codeOf_0 6 rfl rfl)
theorem dX1_codeOf_8 : decode cX1_codeOf 8 = .ok (.imul, 1) := dk_104 (dk_at dksX1_codeOf_0 8 rfl rfl)
theorem dX1_codeOf_9 : decode cX1_codeOf 9 = .ok (.iload_n 2, 1) := dk_28 (dk_at dksX1_codeOf_0 9 rfl rfl)
theorem dX1_codeOf_10 : decode cX1_codeOf 10 = .ok (.iadd, 1) := dk_96 (dk_at dksX1_codeOf_0 10 rfl rfl)
theorem dX1_codeOf_11 : decode cX1_codeOf 11 = .ok (.bipush 11, 2) := dk_16 11 (dk_at dksX1_codeOf_0 11 rfl rfl)
theorem dX1_codeOf_13 : decode cX1_codeOf 13 = .ok (.imul, 1) := dk_104 (dk_at dksX1_codeOf_0 13 rfl rfl)
theorem dX1_codeOf_14 : decode cX1_codeOf 14 = .ok (.iload_n 3, 1) := dk_29 (dk_at dksX1_codeOf_0 14 rfl rfl)
theorem dX1_codeOf_15 : decode cX1_codeOf 15 = .ok (.iadd, 1) := dk_96 (dk_at dksX1_codeOf_0 15 rfl rfl)
theorem dX1_codeOf_16 : decode cX1_codeOf 16 = .ok (.ireturn, 1) := dk_172 (dk_at dksX1_codeOf_0 16 rfl rfl)
abbrev cX1_stuckIn : ByteArray := prog_1_method_68_code
def yX1_stuckIn : MethodName := ⟨RX1, "stuckIn", "()I"⟩
def dkwX1_stuckIn_0 : List UInt8 := [42, 180, 0, 29, 182, 1, 48, 172]
abbrev dktX1_stuckIn_0 : List UInt8 := dkwX1_stuckIn_0 ++ []
theorem dksX1_stuckIn_0 : cX1_stuckIn.data.toList.drop 0 = dktX1_stuckIn_0 := by decide +kernel
theorem dX1_stuckIn_0 : decode cX1_stuckIn 0 = .ok (.aload_n 0, 1) := dk_42 (dk_at dksX1_stuckIn_0 0 rfl rfl)
theorem dX1_stuckIn_1 : decode cX1_stuckIn 1 = .ok (.getfield 29, 3) := dk_180 0 29 (dk_at dksX1_stuckIn_0 1 rfl rfl)
theorem dX1_stuckIn_4 : decode cX1_stuckIn 4 = .ok (.invokevirtual 304, 3) := dk_182 1 48 (dk_at dksX1_stuckIn_0 4 rfl rfl)
theorem dX1_stuckIn_7 : decode cX1_stuckIn 7 = .ok (.ireturn, 1) := dk_172 (dk_at dksX1_stuckIn_0 7 rfl rfl)
abbrev cX1_usableLines : ByteArray := prog_1_method_69_code
def yX1_usableLines : MethodName := ⟨RX1, "usableLines", "()I"⟩
def dkwX1_usableLines_0 : List UInt8 := [42, 180, 0, 29, 182, 1, 51, 172]
abbrev dktX1_usableLines_0 : List UInt8 := dkwX1_usableLines_0 ++ []
theorem dksX1_usableLines_0 : cX1_usableLines.data.toList.drop 0 = dktX1_usableLines_0 := by decide +kernel
theorem dX1_usableLines_0 : decode cX1_usableLines 0 = .ok (.aload_n 0, 1) := dk_42 (dk_at dksX1_usableLines_0 0 rfl rfl)
theorem dX1_usableLines_1 : decode cX1_usableLines 1 = .ok (.getfield 29, 3) := dk_180 0 29 (dk_at dksX1_usableLines_0 1 rfl rfl)
theorem dX1_usableLines_4 : decode cX1_usableLines 4 = .ok (.invokevirtual 307, 3) := dk_182 1 51 (dk_at dksX1_usableLines_0 4 rfl rfl)
theorem dX1_usableLines_7 : decode cX1_usableLines 7 = .ok (.ireturn, 1) := dk_172 (dk_at dksX1_usableLines_0 7 rfl rfl)
abbrev cX1_share : ByteArray := prog_1_method_70_code
def yX1_share : MethodName := ⟨RX1, "share", "()F"⟩
def dkwX1_share_0 : List UInt8 := [42, 182, 1, 54, 134, 19, 1, 57, 110, 174]
abbrev dktX1_share_0 : List UInt8 := dkwX1_share_0 ++ []
theorem dksX1_share_0 : cX1_share.data.toList.drop 0 = dktX1_share_0 := by decide +kernel
theorem dX1_share_0 : decode cX1_share 0 = .ok (.aload_n 0, 1) := dk_42 (dk_at dksX1_share_0 0 rfl rfl)
theorem dX1_share_1 : decode cX1_share 1 = .ok (.invokevirtual 310, 3) := dk_182 1 54 (dk_at dksX1_share_0 1 rfl rfl)
theorem dX1_share_4 : decode cX1_share 4 = .ok (.i2f, 1) := dk_134 (dk_at dksX1_share_0 4 rfl rfl)
theorem dX1_share_5 : decode cX1_share 5 = .ok (.ldc_w 313, 3) := dk_19 1 57 (dk_at dksX1_share_0 5 rfl rfl)
theorem dX1_share_8 : decode cX1_share 8 = .ok (.fdiv, 1) := dk_110 (dk_at dksX1_share_0 8 rfl rfl)
theorem dX1_share_9 : decode cX1_share 9 = .ok (.freturn, 1) := dk_174 (dk_at dksX1_share_0 9 rfl rfl)
abbrev cX1_shareBits : ByteArray := prog_1_method_71_code
def yX1_shareBits : MethodName := ⟨RX1, "shareBits", "()I"⟩
def dkwX1_shareBits_0 : List UInt8 := [42, 182, 1, 58, 184, 1, 62, 172]
abbrev dktX1_shareBits_0 : List UInt8 := dkwX1_shareBits_0 ++ []
theorem dksX1_shareBits_0 : cX1_shareBits.data.toList.drop 0 = dktX1_shareBits_0 := by decide +kernel
theorem dX1_shareBits_0 : decode cX1_shareBits 0 = .ok (.aload_n 0, 1) := dk_42 (dk_at dksX1_shareBits_0 0 rfl rfl)
theorem dX1_shareBits_1 : decode cX1_shareBits 1 = .ok (.invokevirtual 314, 3) := dk_182 1 58 (dk_at dksX1_shareBits_0 1 rfl rfl)
theorem dX1_shareBits_4 : decode cX1_shareBits 4 = .ok (.invokestatic 318, 3) := dk_184 1 62 (dk_at dksX1_shareBits_0 4 rfl rfl)
theorem dX1_shareBits_7 : decode cX1_shareBits 7 = .ok (.ireturn, 1) := dk_172 (dk_at dksX1_shareBits_0 7 rfl rfl)
abbrev cX1_worked : ByteArray := prog_1_method_73_code
def yX1_worked : MethodName := ⟨RX1, "worked", "()I"⟩
def dkwX1_worked_0 : List UInt8 := [42, 180, 0, 29, 180, 1, 78, 172]
abbrev dktX1_worked_0 : List UInt8 := dkwX1_worked_0 ++ []
theorem dksX1_worked_0 : cX1_worked.data.toList.drop 0 = dktX1_worked_0 := by decide +kernel
theorem dX1_worked_0 : decode cX1_worked 0 = .ok (.aload_n 0, 1) := dk_42 (dk_at dksX1_worked_0 0 rfl rfl)
theorem dX1_worked_1 : decode cX1_worked 1 = .ok (.getfield 29, 3) := dk_180 0 29 (dk_at dksX1_worked_0 1 rfl rfl)
theorem dX1_worked_4 : decode cX1_worked 4 = .ok (.getfield 334, 3) := dk_180 1 78 (dk_at dksX1_worked_0 4 rfl rfl)
theorem dX1_worked_7 : decode cX1_worked 7 = .ok (.ireturn, 1) := dk_172 (dk_at dksX1_worked_0 7 rfl rfl)
abbrev cX1_keep : ByteArray := prog_1_method_74_code
def yX1_keep : MethodName := ⟨RX1, "keep", "()I"⟩
def dkwX1_keep_0 : List UInt8 := [42, 42, 180, 0, 29, 181, 1, 81, 42, 182, 1, 54, 172]
abbrev dktX1_keep_0 : List UInt8 := dkwX1_keep_0 ++ []
theorem dksX1_keep_0 : cX1_keep.data.toList.drop 0 = dktX1_keep_0 := by decide +kernel
theorem dX1_keep_0 : decode cX1_keep 0 = .ok (.aload_n 0, 1) := dk_42 (dk_at dksX1_keep_0 0 rfl rfl)
theorem dX1_keep_1 : decode cX1_keep 1 = .ok (.aload_n 0, 1) := dk_42 (dk_at dksX1_keep_0 1 rfl rfl)
theorem dX1_keep_2 : decode cX1_keep 2 = .ok (.getfield 29, 3) := dk_180 0 29 (dk_at dksX1_keep_0 2 rfl rfl)
theorem dX1_keep_5 : decode cX1_keep 5 = .ok (.putfield 337, 3) := dk_181 1 81 (dk_at dksX1_keep_0 5 rfl rfl)
theorem dX1_keep_8 : decode cX1_keep 8 = .ok (.aload_n 0, 1) := dk_42 (dk_at dksX1_keep_0 8 rfl rfl)
theorem dX1_keep_9 : decode cX1_keep 9 = .ok (.invokevirtual 310, 3) := dk_182 1 54 (dk_at dksX1_keep_0 9 rfl rfl)
theorem dX1_keep_12 : decode cX1_keep 12 = .ok (.ireturn, 1) := dk_172 (dk_at dksX1_keep_0 12 rfl rfl)
abbrev cX1_states : ByteArray := prog_1_method_76_code
def yX1_states : MethodName := ⟨RX1, "states", "()I"⟩
def dkwX1_states_0 : List UInt8 := [42, 180, 0, 36, 182, 0, 51, 172]
abbrev dktX1_states_0 : List UInt8 := dkwX1_states_0 ++ []
theorem dksX1_states_0 : cX1_states.data.toList.drop 0 = dktX1_states_0 := by decide +kernel
theorem dX1_states_0 : decode cX1_states 0 = .ok (.aload_n 0, 1) := dk_42 (dk_at dksX1_states_0 0 rfl rfl)
theorem dX1_states_1 : decode cX1_states 1 = .ok (.getfield 36, 3) := dk_180 0 36 (dk_at dksX1_states_0 1 rfl rfl)
theorem dX1_states_4 : decode cX1_states 4 = .ok (.invokevirtual 51, 3) := dk_182 0 51 (dk_at dksX1_states_0 4 rfl rfl)
theorem dX1_states_7 : decode cX1_states 7 = .ok (.ireturn, 1) := dk_172 (dk_at dksX1_states_0 7 rfl rfl)
abbrev cX1_clearText : ByteArray := prog_1_method_79_code
def yX1_clearText : MethodName := ⟨RX1, "clearText", "()I"⟩
def dkwX1_clearText_0 : List UInt8 := [42, 180, 0, 43, 182, 1, 97, 60, 42, 180, 0, 43, 3, 182, 1, 104, 27, 172]
abbrev dktX1_clearText_0 : List UInt8 := dkwX1_clearText_0 ++ []
theorem dksX1_clearText_0 : cX1_clearText.data.toList.drop 0 = dktX1_clearText_0 := by decide +kernel
theorem dX1_clearText_0 : decode cX1_clearText 0 = .ok (.aload_n 0, 1) := dk_42 (dk_at dksX1_clearText_0 0 rfl rfl)
theorem dX1_clearText_1 : decode cX1_clearText 1 = .ok (.getfield 43, 3) := dk_180 0 43 (dk_at dksX1_clearText_0 1 rfl rfl)
theorem dX1_clearText_4 : decode cX1_clearText 4 = .ok (.invokevirtual 353, 3) := dk_182 1 97 (dk_at dksX1_clearText_0 4 rfl rfl)
theorem dX1_clearText_7 : decode cX1_clearText 7 = .ok (.istore_n 1, 1) := dk_60 (dk_at dksX1_clearText_0 7 rfl rfl)
theorem dX1_clearText_8 : decode cX1_clearText 8 = .ok (.aload_n 0, 1) := dk_42 (dk_at dksX1_clearText_0 8 rfl rfl)
theorem dX1_clearText_9 : decode cX1_clearText 9 = .ok (.getfield 43, 3) := dk_180 0 43 (dk_at dksX1_clearText_0 9 rfl rfl)
theorem dX1_clearText_12 : decode cX1_clearText 12 = .ok (.iconst 0, 1) := dk_3 (dk_at dksX1_clearText_0 12 rfl rfl)
theorem dX1_clearText_13 : decode cX1_clearText 13 = .ok (.invokevirtual 360, 3) := dk_182 1 104 (dk_at dksX1_clearText_0 13 rfl rfl)
theorem dX1_clearText_16 : decode cX1_clearText 16 = .ok (.iload_n 1, 1) := dk_27 (dk_at dksX1_clearText_0 16 rfl rfl)
theorem dX1_clearText_17 : decode cX1_clearText 17 = .ok (.ireturn, 1) := dk_172 (dk_at dksX1_clearText_0 17 rfl rfl)
abbrev cX1_tell : ByteArray := prog_1_method_15_code
def yX1_tell : MethodName := ⟨RX1, "tell", "(III)Z"⟩
def dkwX1_tell_1 : List UInt8 := [4, 167, 0, 4, 3, 172]
abbrev dktX1_tell_1 : List UInt8 := dkwX1_tell_1 ++ []
def dkwX1_tell_0 : List UInt8 := [42, 16, 100, 6, 188, 10, 89, 3, 27, 79, 89, 4, 28, 79, 89, 5, 29, 79, 182, 0, 144, 158, 0, 7]
abbrev dktX1_tell_0 : List UInt8 := dkwX1_tell_0 ++ dktX1_tell_1
theorem dksX1_tell_0 : cX1_tell.data.toList.drop 0 = dktX1_tell_0 := by decide +kernel
theorem dksX1_tell_1 : cX1_tell.data.toList.drop 24 = dktX1_tell_1 := dk_seg dksX1_tell_0 24 rfl rfl
theorem dX1_tell_0 : decode cX1_tell 0 = .ok (.aload_n 0, 1) := dk_42 (dk_at dksX1_tell_0 0 rfl rfl)
theorem dX1_tell_1 : decode cX1_tell 1 = .ok (.bipush 100, 2) := dk_16 100 (dk_at dksX1_tell_0 1 rfl rfl)
theorem dX1_tell_3 : decode cX1_tell 3 = .ok (.iconst 3, 1) := dk_6 (dk_at dksX1_tell_0 3 rfl rfl)
theorem dX1_tell_4 : decode cX1_tell 4 = .ok (.newarray .int, 2) := dk_188_10 (dk_at dksX1_tell_0 4 rfl rfl)
theorem dX1_tell_6 : decode cX1_tell 6 = .ok (.dup, 1) := dk_89 (dk_at dksX1_tell_0 6 rfl rfl)
theorem dX1_tell_7 : decode cX1_tell 7 = .ok (.iconst 0, 1) := dk_3 (dk_at dksX1_tell_0 7 rfl rfl)
theorem dX1_tell_8 : decode cX1_tell 8 = .ok (.iload_n 1, 1) := dk_27 (dk_at dksX1_tell_0 8 rfl rfl)
theorem dX1_tell_9 : decode cX1_tell 9 = .ok (.iastore, 1) := dk_79 (dk_at dksX1_tell_0 9 rfl rfl)
theorem dX1_tell_10 : decode cX1_tell 10 = .ok (.dup, 1) := dk_89 (dk_at dksX1_tell_0 10 rfl rfl)
theorem dX1_tell_11 : decode cX1_tell 11 = .ok (.iconst 1, 1) := dk_4 (dk_at dksX1_tell_0 11 rfl rfl)
theorem dX1_tell_12 : decode cX1_tell 12 = .ok (.iload_n 2, 1) := dk_28 (dk_at dksX1_tell_0 12 rfl rfl)
theorem dX1_tell_13 : decode cX1_tell 13 = .ok (.iastore, 1) := dk_79 (dk_at dksX1_tell_0 13 rfl rfl)
theorem dX1_tell_14 : decode cX1_tell 14 = .ok (.dup, 1) := dk_89 (dk_at dksX1_tell_0 14 rfl rfl)
theorem dX1_tell_15 : decode cX1_tell 15 = .ok (.iconst 2, 1) := dk_5 (dk_at dksX1_tell_0 15 rfl rfl)
theorem dX1_tell_16 : decode cX1_tell 16 = .ok (.iload_n 3, 1) := dk_29 (dk_at dksX1_tell_0 16 rfl rfl)
theorem dX1_tell_17 : decode cX1_tell 17 = .ok (.iastore, 1) := dk_79 (dk_at dksX1_tell_0 17 rfl rfl)
theorem dX1_tell_18 : decode cX1_tell 18 = .ok (.invokevirtual 144, 3) := dk_182 0 144 (dk_at dksX1_tell_0 18 rfl rfl)
theorem dX1_tell_21 : decode cX1_tell 21 = .ok (.ifCond .le 7, 3) := dk_158 0 7 (dk_at dksX1_tell_0 21 rfl rfl)
theorem dX1_tell_24 : decode cX1_tell 24 = .ok (.iconst 1, 1) := dk_4 (dk_at dksX1_tell_1 0 rfl rfl)
theorem dX1_tell_25 : decode cX1_tell 25 = .ok (.goto 4, 3) := dk_167 0 4 (dk_at dksX1_tell_1 1 rfl rfl)
theorem dX1_tell_28 : decode cX1_tell 28 = .ok (.iconst 0, 1) := dk_3 (dk_at dksX1_tell_1 4 rfl rfl)
theorem dX1_tell_29 : decode cX1_tell 29 = .ok (.ireturn, 1) := dk_172 (dk_at dksX1_tell_1 5 rfl rfl)
abbrev cX1_forget : ByteArray := prog_1_method_16_code
def yX1_forget : MethodName := ⟨RX1, "forget", "(II)Z"⟩
def dkwX1_forget_1 : List UInt8 := [3, 172]
abbrev dktX1_forget_1 : List UInt8 := dkwX1_forget_1 ++ []
def dkwX1_forget_0 : List UInt8 := [42, 16, 120, 5, 188, 10, 89, 3, 27, 79, 89, 4, 28, 79, 182, 0, 144, 158, 0, 7, 4, 167, 0, 4]
abbrev dktX1_forget_0 : List UInt8 := dkwX1_forget_0 ++ dktX1_forget_1
theorem dksX1_forget_0 : cX1_forget.data.toList.drop 0 = dktX1_forget_0 := by decide +kernel
theorem dksX1_forget_1 : cX1_forget.data.toList.drop 24 = dktX1_forget_1 := dk_seg dksX1_forget_0 24 rfl rfl
theorem dX1_forget_0 : decode cX1_forget 0 = .ok (.aload_n 0, 1) := dk_42 (dk_at dksX1_forget_0 0 rfl rfl)
theorem dX1_forget_1 : decode cX1_forget 1 = .ok (.bipush 120, 2) := dk_16 120 (dk_at dksX1_forget_0 1 rfl rfl)
theorem dX1_forget_3 : decode cX1_forget 3 = .ok (.iconst 2, 1) := dk_5 (dk_at dksX1_forget_0 3 rfl rfl)
theorem dX1_forget_4 : decode cX1_forget 4 = .ok (.newarray .int, 2) := dk_188_10 (dk_at dksX1_forget_0 4 rfl rfl)
theorem dX1_forget_6 : decode cX1_forget 6 = .ok (.dup, 1) := dk_89 (dk_at dksX1_forget_0 6 rfl rfl)
theorem dX1_forget_7 : decode cX1_forget 7 = .ok (.iconst 0, 1) := dk_3 (dk_at dksX1_forget_0 7 rfl rfl)
theorem dX1_forget_8 : decode cX1_forget 8 = .ok (.iload_n 1, 1) := dk_27 (dk_at dksX1_forget_0 8 rfl rfl)
theorem dX1_forget_9 : decode cX1_forget 9 = .ok (.iastore, 1) := dk_79 (dk_at dksX1_forget_0 9 rfl rfl)
theorem dX1_forget_10 : decode cX1_forget 10 = .ok (.dup, 1) := dk_89 (dk_at dksX1_forget_0 10 rfl rfl)
theorem dX1_forget_11 : decode cX1_forget 11 = .ok (.iconst 1, 1) := dk_4 (dk_at dksX1_forget_0 11 rfl rfl)
theorem dX1_forget_12 : decode cX1_forget 12 = .ok (.iload_n 2, 1) := dk_28 (dk_at dksX1_forget_0 12 rfl rfl)
theorem dX1_forget_13 : decode cX1_forget 13 = .ok (.iastore, 1) := dk_79 (dk_at dksX1_forget_0 13 rfl rfl)
theorem dX1_forget_14 : decode cX1_forget 14 = .ok (.invokevirtual 144, 3) := dk_182 0 144 (dk_at dksX1_forget_0 14 rfl rfl)
theorem dX1_forget_17 : decode cX1_forget 17 = .ok (.ifCond .le 7, 3) := dk_158 0 7 (dk_at dksX1_forget_0 17 rfl rfl)
theorem dX1_forget_20 : decode cX1_forget 20 = .ok (.iconst 1, 1) := dk_4 (dk_at dksX1_forget_0 20 rfl rfl)
theorem dX1_forget_21 : decode cX1_forget 21 = .ok (.goto 4, 3) := dk_167 0 4 (dk_at dksX1_forget_0 21 rfl rfl)
theorem dX1_forget_24 : decode cX1_forget 24 = .ok (.iconst 0, 1) := dk_3 (dk_at dksX1_forget_1 0 rfl rfl)
theorem dX1_forget_25 : decode cX1_forget 25 = .ok (.ireturn, 1) := dk_172 (dk_at dksX1_forget_1 1 rfl rfl)
abbrev cX1_tighten : ByteArray := prog_1_method_18_code
def yX1_tighten : MethodName := ⟨RX1, "tighten", "()I"⟩
def dkwX1_tighten_0 : List UInt8 := [42, 16, 116, 3, 188, 10, 182, 0, 144, 172]
abbrev dktX1_tighten_0 : List UInt8 := dkwX1_tighten_0 ++ []
theorem dksX1_tighten_0 : cX1_tighten.data.toList.drop 0 = dktX1_tighten_0 := by decide +kernel
theorem dX1_tighten_0 : decode cX1_tighten 0 = .ok (.aload_n 0, 1) := dk_42 (dk_at dksX1_tighten_0 0 rfl rfl)
theorem dX1_tighten_1 : decode cX1_tighten 1 = .ok (.bipush 116, 2) := dk_16 116 (dk_at dksX1_tighten_0 1 rfl rfl)
theorem dX1_tighten_3 : decode cX1_tighten 3 = .ok (.iconst 0, 1) := dk_3 (dk_at dksX1_tighten_0 3 rfl rfl)
theorem dX1_tighten_4 : decode cX1_tighten 4 = .ok (.newarray .int, 2) := dk_188_10 (dk_at dksX1_tighten_0 4 rfl rfl)
theorem dX1_tighten_6 : decode cX1_tighten 6 = .ok (.invokevirtual 144, 3) := dk_182 0 144 (dk_at dksX1_tighten_0 6 rfl rfl)
theorem dX1_tighten_9 : decode cX1_tighten 9 = .ok (.ireturn, 1) := dk_172 (dk_at dksX1_tighten_0 9 rfl rfl)
abbrev cX1_reset : ByteArray := prog_1_method_19_code
def yX1_reset : MethodName := ⟨RX1, "reset", "(II)I"⟩
def dkwX1_reset_0 : List UInt8 := [42, 16, 114, 5, 188, 10, 89, 3, 27, 79, 89, 4, 28, 79, 182, 0, 144, 172]
abbrev dktX1_reset_0 : List UInt8 := dkwX1_reset_0 ++ []
theorem dksX1_reset_0 : cX1_reset.data.toList.drop 0 = dktX1_reset_0 := by decide +kernel
theorem dX1_reset_0 : decode cX1_reset 0 = .ok (.aload_n 0, 1) := dk_42 (dk_at dksX1_reset_0 0 rfl rfl)
theorem dX1_reset_1 : decode cX1_reset 1 = .ok (.bipush 114, 2) := dk_16 114 (dk_at dksX1_reset_0 1 rfl rfl)
theorem dX1_reset_3 : decode cX1_reset 3 = .ok (.iconst 2, 1) := dk_5 (dk_at dksX1_reset_0 3 rfl rfl)
theorem dX1_reset_4 : decode cX1_reset 4 = .ok (.newarray .int, 2) := dk_188_10 (dk_at dksX1_reset_0 4 rfl rfl)
theorem dX1_reset_6 : decode cX1_reset 6 = .ok (.dup, 1) := dk_89 (dk_at dksX1_reset_0 6 rfl rfl)
theorem dX1_reset_7 : decode cX1_reset 7 = .ok (.iconst 0, 1) := dk_3 (dk_at dksX1_reset_0 7 rfl rfl)
theorem dX1_reset_8 : decode cX1_reset 8 = .ok (.iload_n 1, 1) := dk_27 (dk_at dksX1_reset_0 8 rfl rfl)
theorem dX1_reset_9 : decode cX1_reset 9 = .ok (.iastore, 1) := dk_79 (dk_at dksX1_reset_0 9 rfl rfl)
theorem dX1_reset_10 : decode cX1_reset 10 = .ok (.dup, 1) := dk_89 (dk_at dksX1_reset_0 10 rfl rfl)
theorem dX1_reset_11 : decode cX1_reset 11 = .ok (.iconst 1, 1) := dk_4 (dk_at dksX1_reset_0 11 rfl rfl)
theorem dX1_reset_12 : decode cX1_reset 12 = .ok (.iload_n 2, 1) := dk_28 (dk_at dksX1_reset_0 12 rfl rfl)
theorem dX1_reset_13 : decode cX1_reset 13 = .ok (.iastore, 1) := dk_79 (dk_at dksX1_reset_0 13 rfl rfl)
theorem dX1_reset_14 : decode cX1_reset 14 = .ok (.invokevirtual 144, 3) := dk_182 0 144 (dk_at dksX1_reset_0 14 rfl rfl)
theorem dX1_reset_17 : decode cX1_reset 17 = .ok (.ireturn, 1) := dk_172 (dk_at dksX1_reset_0 17 rfl rfl)
abbrev cX1_delay : ByteArray := prog_1_method_20_code
def yX1_delay : MethodName := ⟨RX1, "delay", "()I"⟩
def dkwX1_delay_0 : List UInt8 := [42, 16, 119, 3, 188, 10, 182, 0, 144, 172]
abbrev dktX1_delay_0 : List UInt8 := dkwX1_delay_0 ++ []
theorem dksX1_delay_0 : cX1_delay.data.toList.drop 0 = dktX1_delay_0 := by decide +kernel
theorem dX1_delay_0 : decode cX1_delay 0 = .ok (.aload_n 0, 1) := dk_42 (dk_at dksX1_delay_0 0 rfl rfl)
theorem dX1_delay_1 : decode cX1_delay 1 = .ok (.bipush 119, 2) := dk_16 119 (dk_at dksX1_delay_0 1 rfl rfl)
theorem dX1_delay_3 : decode cX1_delay 3 = .ok (.iconst 0, 1) := dk_3 (dk_at dksX1_delay_0 3 rfl rfl)
theorem dX1_delay_4 : decode cX1_delay 4 = .ok (.newarray .int, 2) := dk_188_10 (dk_at dksX1_delay_0 4 rfl rfl)
theorem dX1_delay_6 : decode cX1_delay 6 = .ok (.invokevirtual 144, 3) := dk_182 0 144 (dk_at dksX1_delay_0 6 rfl rfl)
theorem dX1_delay_9 : decode cX1_delay 9 = .ok (.ireturn, 1) := dk_172 (dk_at dksX1_delay_0 9 rfl rfl)
abbrev cX1_goBackInTime : ByteArray := prog_1_method_21_code
def yX1_goBackInTime : MethodName := ⟨RX1, "goBackInTime", "()I"⟩
def dkwX1_goBackInTime_0 : List UInt8 := [42, 16, 98, 3, 188, 10, 182, 0, 144, 172]
abbrev dktX1_goBackInTime_0 : List UInt8 := dkwX1_goBackInTime_0 ++ []
theorem dksX1_goBackInTime_0 : cX1_goBackInTime.data.toList.drop 0 = dktX1_goBackInTime_0 := by decide +kernel
theorem dX1_goBackInTime_0 : decode cX1_goBackInTime 0 = .ok (.aload_n 0, 1) := dk_42 (dk_at dksX1_goBackInTime_0 0 rfl rfl)
theorem dX1_goBackInTime_1 : decode cX1_goBackInTime 1 = .ok (.bipush 98, 2) := dk_16 98 (dk_at dksX1_goBackInTime_0 1 rfl rfl)
theorem dX1_goBackInTime_3 : decode cX1_goBackInTime 3 = .ok (.iconst 0, 1) := dk_3 (dk_at dksX1_goBackInTime_0 3 rfl rfl)
theorem dX1_goBackInTime_4 : decode cX1_goBackInTime 4 = .ok (.newarray .int, 2) := dk_188_10 (dk_at dksX1_goBackInTime_0 4 rfl rfl)
theorem dX1_goBackInTime_6 : decode cX1_goBackInTime 6 = .ok (.invokevirtual 144, 3) := dk_182 0 144 (dk_at dksX1_goBackInTime_0 6 rfl rfl)
theorem dX1_goBackInTime_9 : decode cX1_goBackInTime 9 = .ok (.ireturn, 1) := dk_172 (dk_at dksX1_goBackInTime_0 9 rfl rfl)
abbrev cX1_setFree : ByteArray := prog_1_method_22_code
def yX1_setFree : MethodName := ⟨RX1, "setFree", "(I)I"⟩
def dkwX1_setFree_0 : List UInt8 := [42, 16, 102, 4, 188, 10, 89, 3, 27, 79, 182, 0, 144, 172]
abbrev dktX1_setFree_0 : List UInt8 := dkwX1_setFree_0 ++ []
theorem dksX1_setFree_0 : cX1_setFree.data.toList.drop 0 = dktX1_setFree_0 := by decide +kernel
theorem dX1_setFree_0 : decode cX1_setFree 0 = .ok (.aload_n 0, 1) := dk_42 (dk_at dksX1_setFree_0 0 rfl rfl)
theorem dX1_setFree_1 : decode cX1_setFree 1 = .ok (.bipush 102, 2) := dk_16 102 (dk_at dksX1_setFree_0 1 rfl rfl)
theorem dX1_setFree_3 : decode cX1_setFree 3 = .ok (.iconst 1, 1) := dk_4 (dk_at dksX1_setFree_0 3 rfl rfl)
theorem dX1_setFree_4 : decode cX1_setFree 4 = .ok (.newarray .int, 2) := dk_188_10 (dk_at dksX1_setFree_0 4 rfl rfl)
theorem dX1_setFree_6 : decode cX1_setFree 6 = .ok (.dup, 1) := dk_89 (dk_at dksX1_setFree_0 6 rfl rfl)
theorem dX1_setFree_7 : decode cX1_setFree 7 = .ok (.iconst 0, 1) := dk_3 (dk_at dksX1_setFree_0 7 rfl rfl)
theorem dX1_setFree_8 : decode cX1_setFree 8 = .ok (.iload_n 1, 1) := dk_27 (dk_at dksX1_setFree_0 8 rfl rfl)
theorem dX1_setFree_9 : decode cX1_setFree 9 = .ok (.iastore, 1) := dk_79 (dk_at dksX1_setFree_0 9 rfl rfl)
theorem dX1_setFree_10 : decode cX1_setFree 10 = .ok (.invokevirtual 144, 3) := dk_182 0 144 (dk_at dksX1_setFree_0 10 rfl rfl)
theorem dX1_setFree_13 : decode cX1_setFree 13 = .ok (.ireturn, 1) := dk_172 (dk_at dksX1_setFree_0 13 rfl rfl)
abbrev cX1_copyClock : ByteArray := prog_1_method_23_code
def yX1_copyClock : MethodName := ⟨RX1, "copyClock", "(II)I"⟩
def dkwX1_copyClock_0 : List UInt8 := [42, 16, 99, 5, 188, 10, 89, 3, 27, 79, 89, 4, 28, 79, 182, 0, 144, 172]
abbrev dktX1_copyClock_0 : List UInt8 := dkwX1_copyClock_0 ++ []
theorem dksX1_copyClock_0 : cX1_copyClock.data.toList.drop 0 = dktX1_copyClock_0 := by decide +kernel
theorem dX1_copyClock_0 : decode cX1_copyClock 0 = .ok (.aload_n 0, 1) := dk_42 (dk_at dksX1_copyClock_0 0 rfl rfl)
theorem dX1_copyClock_1 : decode cX1_copyClock 1 = .ok (.bipush 99, 2) := dk_16 99 (dk_at dksX1_copyClock_0 1 rfl rfl)
theorem dX1_copyClock_3 : decode cX1_copyClock 3 = .ok (.iconst 2, 1) := dk_5 (dk_at dksX1_copyClock_0 3 rfl rfl)
theorem dX1_copyClock_4 : decode cX1_copyClock 4 = .ok (.newarray .int, 2) := dk_188_10 (dk_at dksX1_copyClock_0 4 rfl rfl)
theorem dX1_copyClock_6 : decode cX1_copyClock 6 = .ok (.dup, 1) := dk_89 (dk_at dksX1_copyClock_0 6 rfl rfl)
theorem dX1_copyClock_7 : decode cX1_copyClock 7 = .ok (.iconst 0, 1) := dk_3 (dk_at dksX1_copyClock_0 7 rfl rfl)
theorem dX1_copyClock_8 : decode cX1_copyClock 8 = .ok (.iload_n 1, 1) := dk_27 (dk_at dksX1_copyClock_0 8 rfl rfl)
theorem dX1_copyClock_9 : decode cX1_copyClock 9 = .ok (.iastore, 1) := dk_79 (dk_at dksX1_copyClock_0 9 rfl rfl)
theorem dX1_copyClock_10 : decode cX1_copyClock 10 = .ok (.dup, 1) := dk_89 (dk_at dksX1_copyClock_0 10 rfl rfl)
theorem dX1_copyClock_11 : decode cX1_copyClock 11 = .ok (.iconst 1, 1) := dk_4 (dk_at dksX1_copyClock_0 11 rfl rfl)
theorem dX1_copyClock_12 : decode cX1_copyClock 12 = .ok (.iload_n 2, 1) := dk_28 (dk_at dksX1_copyClock_0 12 rfl rfl)
theorem dX1_copyClock_13 : decode cX1_copyClock 13 = .ok (.iastore, 1) := dk_79 (dk_at dksX1_copyClock_0 13 rfl rfl)
theorem dX1_copyClock_14 : decode cX1_copyClock 14 = .ok (.invokevirtual 144, 3) := dk_182 0 144 (dk_at dksX1_copyClock_0 14 rfl rfl)
theorem dX1_copyClock_17 : decode cX1_copyClock 17 = .ok (.ireturn, 1) := dk_172 (dk_at dksX1_copyClock_0 17 rfl rfl)
abbrev cX1_shift : ByteArray := prog_1_method_24_code
def yX1_shift : MethodName := ⟨RX1, "shift", "(II)I"⟩
def dkwX1_shift_0 : List UInt8 := [42, 16, 115, 5, 188, 10, 89, 3, 27, 79, 89, 4, 28, 79, 182, 0, 144, 172]
abbrev dktX1_shift_0 : List UInt8 := dkwX1_shift_0 ++ []
theorem dksX1_shift_0 : cX1_shift.data.toList.drop 0 = dktX1_shift_0 := by decide +kernel
theorem dX1_shift_0 : decode cX1_shift 0 = .ok (.aload_n 0, 1) := dk_42 (dk_at dksX1_shift_0 0 rfl rfl)
theorem dX1_shift_1 : decode cX1_shift 1 = .ok (.bipush 115, 2) := dk_16 115 (dk_at dksX1_shift_0 1 rfl rfl)
theorem dX1_shift_3 : decode cX1_shift 3 = .ok (.iconst 2, 1) := dk_5 (dk_at dksX1_shift_0 3 rfl rfl)
theorem dX1_shift_4 : decode cX1_shift 4 = .ok (.newarray .int, 2) := dk_188_10 (dk_at dksX1_shift_0 4 rfl rfl)
theorem dX1_shift_6 : decode cX1_shift 6 = .ok (.dup, 1) := dk_89 (dk_at dksX1_shift_0 6 rfl rfl)
theorem dX1_shift_7 : decode cX1_shift 7 = .ok (.iconst 0, 1) := dk_3 (dk_at dksX1_shift_0 7 rfl rfl)
theorem dX1_shift_8 : decode cX1_shift 8 = .ok (.iload_n 1, 1) := dk_27 (dk_at dksX1_shift_0 8 rfl rfl)
theorem dX1_shift_9 : decode cX1_shift 9 = .ok (.iastore, 1) := dk_79 (dk_at dksX1_shift_0 9 rfl rfl)
theorem dX1_shift_10 : decode cX1_shift 10 = .ok (.dup, 1) := dk_89 (dk_at dksX1_shift_0 10 rfl rfl)
theorem dX1_shift_11 : decode cX1_shift 11 = .ok (.iconst 1, 1) := dk_4 (dk_at dksX1_shift_0 11 rfl rfl)
theorem dX1_shift_12 : decode cX1_shift 12 = .ok (.iload_n 2, 1) := dk_28 (dk_at dksX1_shift_0 12 rfl rfl)
theorem dX1_shift_13 : decode cX1_shift 13 = .ok (.iastore, 1) := dk_79 (dk_at dksX1_shift_0 13 rfl rfl)
theorem dX1_shift_14 : decode cX1_shift 14 = .ok (.invokevirtual 144, 3) := dk_182 0 144 (dk_at dksX1_shift_0 14 rfl rfl)
theorem dX1_shift_17 : decode cX1_shift 17 = .ok (.ireturn, 1) := dk_172 (dk_at dksX1_shift_0 17 rfl rfl)
abbrev cX1_store : ByteArray := prog_1_method_25_code
def yX1_store : MethodName := ⟨RX1, "store", "(I)Z"⟩
def dkwX1_store_0 : List UInt8 := [42, 16, 80, 4, 188, 10, 89, 3, 27, 79, 182, 0, 144, 4, 160, 0, 7, 4, 167, 0, 4, 3, 172]
abbrev dktX1_store_0 : List UInt8 := dkwX1_store_0 ++ []
theorem dksX1_store_0 : cX1_store.data.toList.drop 0 = dktX1_store_0 := by decide +kernel
theorem dX1_store_0 : decode cX1_store 0 = .ok (.aload_n 0, 1) := dk_42 (dk_at dksX1_store_0 0 rfl rfl)
theorem dX1_store_1 : decode cX1_store 1 = .ok (.bipush 80, 2) := dk_16 80 (dk_at dksX1_store_0 1 rfl rfl)
theorem dX1_store_3 : decode cX1_store 3 = .ok (.iconst 1, 1) := dk_4 (dk_at dksX1_store_0 3 rfl rfl)
theorem dX1_store_4 : decode cX1_store 4 = .ok (.newarray .int, 2) := dk_188_10 (dk_at dksX1_store_0 4 rfl rfl)
theorem dX1_store_6 : decode cX1_store 6 = .ok (.dup, 1) := dk_89 (dk_at dksX1_store_0 6 rfl rfl)
theorem dX1_store_7 : decode cX1_store 7 = .ok (.iconst 0, 1) := dk_3 (dk_at dksX1_store_0 7 rfl rfl)
theorem dX1_store_8 : decode cX1_store 8 = .ok (.iload_n 1, 1) := dk_27 (dk_at dksX1_store_0 8 rfl rfl)
theorem dX1_store_9 : decode cX1_store 9 = .ok (.iastore, 1) := dk_79 (dk_at dksX1_store_0 9 rfl rfl)
theorem dX1_store_10 : decode cX1_store 10 = .ok (.invokevirtual 144, 3) := dk_182 0 144 (dk_at dksX1_store_0 10 rfl rfl)
theorem dX1_store_13 : decode cX1_store 13 = .ok (.iconst 1, 1) := dk_4 (dk_at dksX1_store_0 13 rfl rfl)
theorem dX1_store_14 : decode cX1_store 14 = .ok (.if_icmp .ne 7, 3) := dk_160 0 7 (dk_at dksX1_store_0 14 rfl rfl)
theorem dX1_store_17 : decode cX1_store 17 = .ok (.iconst 1, 1) := dk_4 (dk_at dksX1_store_0 17 rfl rfl)
theorem dX1_store_18 : decode cX1_store 18 = .ok (.goto 4, 3) := dk_167 0 4 (dk_at dksX1_store_0 18 rfl rfl)
theorem dX1_store_21 : decode cX1_store 21 = .ok (.iconst 0, 1) := dk_3 (dk_at dksX1_store_0 21 rfl rfl)
theorem dX1_store_22 : decode cX1_store 22 = .ok (.ireturn, 1) := dk_172 (dk_at dksX1_store_0 22 rfl rfl)
abbrev cX1_meet : ByteArray := prog_1_method_26_code
def yX1_meet : MethodName := ⟨RX1, "meet", "(I)I"⟩
def dkwX1_meet_0 : List UInt8 := [42, 16, 77, 4, 188, 10, 89, 3, 27, 79, 182, 0, 144, 172]
abbrev dktX1_meet_0 : List UInt8 := dkwX1_meet_0 ++ []
theorem dksX1_meet_0 : cX1_meet.data.toList.drop 0 = dktX1_meet_0 := by decide +kernel
theorem dX1_meet_0 : decode cX1_meet 0 = .ok (.aload_n 0, 1) := dk_42 (dk_at dksX1_meet_0 0 rfl rfl)
theorem dX1_meet_1 : decode cX1_meet 1 = .ok (.bipush 77, 2) := dk_16 77 (dk_at dksX1_meet_0 1 rfl rfl)
theorem dX1_meet_3 : decode cX1_meet 3 = .ok (.iconst 1, 1) := dk_4 (dk_at dksX1_meet_0 3 rfl rfl)
theorem dX1_meet_4 : decode cX1_meet 4 = .ok (.newarray .int, 2) := dk_188_10 (dk_at dksX1_meet_0 4 rfl rfl)
theorem dX1_meet_6 : decode cX1_meet 6 = .ok (.dup, 1) := dk_89 (dk_at dksX1_meet_0 6 rfl rfl)
theorem dX1_meet_7 : decode cX1_meet 7 = .ok (.iconst 0, 1) := dk_3 (dk_at dksX1_meet_0 7 rfl rfl)
theorem dX1_meet_8 : decode cX1_meet 8 = .ok (.iload_n 1, 1) := dk_27 (dk_at dksX1_meet_0 8 rfl rfl)
theorem dX1_meet_9 : decode cX1_meet 9 = .ok (.iastore, 1) := dk_79 (dk_at dksX1_meet_0 9 rfl rfl)
theorem dX1_meet_10 : decode cX1_meet 10 = .ok (.invokevirtual 144, 3) := dk_182 0 144 (dk_at dksX1_meet_0 10 rfl rfl)
theorem dX1_meet_13 : decode cX1_meet 13 = .ok (.ireturn, 1) := dk_172 (dk_at dksX1_meet_0 13 rfl rfl)
abbrev cX1_wrap : ByteArray := prog_1_method_27_code
def yX1_wrap : MethodName := ⟨RX1, "wrap", "(I)I"⟩
def dkwX1_wrap_0 : List UInt8 := [42, 16, 87, 4, 188, 10, 89, 3, 27, 79, 182, 0, 144, 172]
abbrev dktX1_wrap_0 : List UInt8 := dkwX1_wrap_0 ++ []
theorem dksX1_wrap_0 : cX1_wrap.data.toList.drop 0 = dktX1_wrap_0 := by decide +kernel
theorem dX1_wrap_0 : decode cX1_wrap 0 = .ok (.aload_n 0, 1) := dk_42 (dk_at dksX1_wrap_0 0 rfl rfl)
theorem dX1_wrap_1 : decode cX1_wrap 1 = .ok (.bipush 87, 2) := dk_16 87 (dk_at dksX1_wrap_0 1 rfl rfl)
theorem dX1_wrap_3 : decode cX1_wrap 3 = .ok (.iconst 1, 1) := dk_4 (dk_at dksX1_wrap_0 3 rfl rfl)
theorem dX1_wrap_4 : decode cX1_wrap 4 = .ok (.newarray .int, 2) := dk_188_10 (dk_at dksX1_wrap_0 4 rfl rfl)
theorem dX1_wrap_6 : decode cX1_wrap 6 = .ok (.dup, 1) := dk_89 (dk_at dksX1_wrap_0 6 rfl rfl)
theorem dX1_wrap_7 : decode cX1_wrap 7 = .ok (.iconst 0, 1) := dk_3 (dk_at dksX1_wrap_0 7 rfl rfl)
theorem dX1_wrap_8 : decode cX1_wrap 8 = .ok (.iload_n 1, 1) := dk_27 (dk_at dksX1_wrap_0 8 rfl rfl)
theorem dX1_wrap_9 : decode cX1_wrap 9 = .ok (.iastore, 1) := dk_79 (dk_at dksX1_wrap_0 9 rfl rfl)
theorem dX1_wrap_10 : decode cX1_wrap 10 = .ok (.invokevirtual 144, 3) := dk_182 0 144 (dk_at dksX1_wrap_0 10 rfl rfl)
theorem dX1_wrap_13 : decode cX1_wrap 13 = .ok (.ireturn, 1) := dk_172 (dk_at dksX1_wrap_0 13 rfl rfl)
abbrev cX1_setStay : ByteArray := prog_1_method_28_code
def yX1_setStay : MethodName := ⟨RX1, "setStay", "(III)I"⟩
def dkwX1_setStay_0 : List UInt8 := [42, 16, 72, 6, 188, 10, 89, 3, 27, 79, 89, 4, 28, 79, 89, 5, 29, 79, 182, 0, 144, 172]
abbrev dktX1_setStay_0 : List UInt8 := dkwX1_setStay_0 ++ []
theorem dksX1_setStay_0 : cX1_setStay.data.toList.drop 0 = dktX1_setStay_0 := by decide +kernel
theorem dX1_setStay_0 : decode cX1_setStay 0 = .ok (.aload_n 0, 1) := dk_42 (dk_at dksX1_setStay_0 0 rfl rfl)
theorem dX1_setStay_1 : decode cX1_setStay 1 = .ok (.bipush 72, 2) := dk_16 72 (dk_at dksX1_setStay_0 1 rfl rfl)
theorem dX1_setStay_3 : decode cX1_setStay 3 = .ok (.iconst 3, 1) := dk_6 (dk_at dksX1_setStay_0 3 rfl rfl)
theorem dX1_setStay_4 : decode cX1_setStay 4 = .ok (.newarray .int, 2) := dk_188_10 (dk_at dksX1_setStay_0 4 rfl rfl)
theorem dX1_setStay_6 : decode cX1_setStay 6 = .ok (.dup, 1) := dk_89 (dk_at dksX1_setStay_0 6 rfl rfl)
theorem dX1_setStay_7 : decode cX1_setStay 7 = .ok (.iconst 0, 1) := dk_3 (dk_at dksX1_setStay_0 7 rfl rfl)
theorem dX1_setStay_8 : decode cX1_setStay 8 = .ok (.iload_n 1, 1) := dk_27 (dk_at dksX1_setStay_0 8 rfl rfl)
theorem dX1_setStay_9 : decode cX1_setStay 9 = .ok (.iastore, 1) := dk_79 (dk_at dksX1_setStay_0 9 rfl rfl)
theorem dX1_setStay_10 : decode cX1_setStay 10 = .ok (.dup, 1) := dk_89 (dk_at dksX1_setStay_0 10 rfl rfl)
theorem dX1_setStay_11 : decode cX1_setStay 11 = .ok (.iconst 1, 1) := dk_4 (dk_at dksX1_setStay_0 11 rfl rfl)
theorem dX1_setStay_12 : decode cX1_setStay 12 = .ok (.iload_n 2, 1) := dk_28 (dk_at dksX1_setStay_0 12 rfl rfl)
theorem dX1_setStay_13 : decode cX1_setStay 13 = .ok (.iastore, 1) := dk_79 (dk_at dksX1_setStay_0 13 rfl rfl)
theorem dX1_setStay_14 : decode cX1_setStay 14 = .ok (.dup, 1) := dk_89 (dk_at dksX1_setStay_0 14 rfl rfl)
theorem dX1_setStay_15 : decode cX1_setStay 15 = .ok (.iconst 2, 1) := dk_5 (dk_at dksX1_setStay_0 15 rfl rfl)
theorem dX1_setStay_16 : decode cX1_setStay 16 = .ok (.iload_n 3, 1) := dk_29 (dk_at dksX1_setStay_0 16 rfl rfl)
theorem dX1_setStay_17 : decode cX1_setStay 17 = .ok (.iastore, 1) := dk_79 (dk_at dksX1_setStay_0 17 rfl rfl)
theorem dX1_setStay_18 : decode cX1_setStay 18 = .ok (.invokevirtual 144, 3) := dk_182 0 144 (dk_at dksX1_setStay_0 18 rfl rfl)
theorem dX1_setStay_21 : decode cX1_setStay 21 = .ok (.ireturn, 1) := dk_172 (dk_at dksX1_setStay_0 21 rfl rfl)
abbrev cX1_addLine : ByteArray := prog_1_method_29_code
def yX1_addLine : MethodName := ⟨RX1, "addLine", "(II)I"⟩
def dkwX1_addLine_0 : List UInt8 := [42, 16, 76, 5, 188, 10, 89, 3, 27, 79, 89, 4, 28, 79, 182, 0, 144, 172]
abbrev dktX1_addLine_0 : List UInt8 := dkwX1_addLine_0 ++ []
theorem dksX1_addLine_0 : cX1_addLine.data.toList.drop 0 = dktX1_addLine_0 := by decide +kernel
theorem dX1_addLine_0 : decode cX1_addLine 0 = .ok (.aload_n 0, 1) := dk_42 (dk_at dksX1_addLine_0 0 rfl rfl)
theorem dX1_addLine_1 : decode cX1_addLine 1 = .ok (.bipush 76, 2) := dk_16 76 (dk_at dksX1_addLine_0 1 rfl rfl)
theorem dX1_addLine_3 : decode cX1_addLine 3 = .ok (.iconst 2, 1) := dk_5 (dk_at dksX1_addLine_0 3 rfl rfl)
theorem dX1_addLine_4 : decode cX1_addLine 4 = .ok (.newarray .int, 2) := dk_188_10 (dk_at dksX1_addLine_0 4 rfl rfl)
theorem dX1_addLine_6 : decode cX1_addLine 6 = .ok (.dup, 1) := dk_89 (dk_at dksX1_addLine_0 6 rfl rfl)
theorem dX1_addLine_7 : decode cX1_addLine 7 = .ok (.iconst 0, 1) := dk_3 (dk_at dksX1_addLine_0 7 rfl rfl)
theorem dX1_addLine_8 : decode cX1_addLine 8 = .ok (.iload_n 1, 1) := dk_27 (dk_at dksX1_addLine_0 8 rfl rfl)
theorem dX1_addLine_9 : decode cX1_addLine 9 = .ok (.iastore, 1) := dk_79 (dk_at dksX1_addLine_0 9 rfl rfl)
theorem dX1_addLine_10 : decode cX1_addLine 10 = .ok (.dup, 1) := dk_89 (dk_at dksX1_addLine_0 10 rfl rfl)
theorem dX1_addLine_11 : decode cX1_addLine 11 = .ok (.iconst 1, 1) := dk_4 (dk_at dksX1_addLine_0 11 rfl rfl)
theorem dX1_addLine_12 : decode cX1_addLine 12 = .ok (.iload_n 2, 1) := dk_28 (dk_at dksX1_addLine_0 12 rfl rfl)
theorem dX1_addLine_13 : decode cX1_addLine 13 = .ok (.iastore, 1) := dk_79 (dk_at dksX1_addLine_0 13 rfl rfl)
theorem dX1_addLine_14 : decode cX1_addLine 14 = .ok (.invokevirtual 144, 3) := dk_182 0 144 (dk_at dksX1_addLine_0 14 rfl rfl)
theorem dX1_addLine_17 : decode cX1_addLine 17 = .ok (.ireturn, 1) := dk_172 (dk_at dksX1_addLine_0 17 rfl rfl)
abbrev cX1_setNeed : ByteArray := prog_1_method_30_code
def yX1_setNeed : MethodName := ⟨RX1, "setNeed", "(IIII)I"⟩
def dkwX1_setNeed_1 : List UInt8 := [182, 0, 144, 172]
abbrev dktX1_setNeed_1 : List UInt8 := dkwX1_setNeed_1 ++ []
def dkwX1_setNeed_0 : List UInt8 := [42, 16, 78, 7, 188, 10, 89, 3, 27, 79, 89, 4, 28, 79, 89, 5, 29, 79, 89, 6, 21, 4, 79]
abbrev dktX1_setNeed_0 : List UInt8 := dkwX1_setNeed_0 ++ dktX1_setNeed_1
theorem dksX1_setNeed_0 : cX1_setNeed.data.toList.drop 0 = dktX1_setNeed_0 := by decide +kernel
theorem dksX1_setNeed_1 : cX1_setNeed.data.toList.drop 23 = dktX1_setNeed_1 := dk_seg dksX1_setNeed_0 23 rfl rfl
theorem dX1_setNeed_0 : decode cX1_setNeed 0 = .ok (.aload_n 0, 1) := dk_42 (dk_at dksX1_setNeed_0 0 rfl rfl)
theorem dX1_setNeed_1 : decode cX1_setNeed 1 = .ok (.bipush 78, 2) := dk_16 78 (dk_at dksX1_setNeed_0 1 rfl rfl)
theorem dX1_setNeed_3 : decode cX1_setNeed 3 = .ok (.iconst 4, 1) := dk_7 (dk_at dksX1_setNeed_0 3 rfl rfl)
theorem dX1_setNeed_4 : decode cX1_setNeed 4 = .ok (.newarray .int, 2) := dk_188_10 (dk_at dksX1_setNeed_0 4 rfl rfl)
theorem dX1_setNeed_6 : decode cX1_setNeed 6 = .ok (.dup, 1) := dk_89 (dk_at dksX1_setNeed_0 6 rfl rfl)
theorem dX1_setNeed_7 : decode cX1_setNeed 7 = .ok (.iconst 0, 1) := dk_3 (dk_at dksX1_setNeed_0 7 rfl rfl)
theorem dX1_setNeed_8 : decode cX1_setNeed 8 = .ok (.iload_n 1, 1) := dk_27 (dk_at dksX1_setNeed_0 8 rfl rfl)
theorem dX1_setNeed_9 : decode cX1_setNeed 9 = .ok (.iastore, 1) := dk_79 (dk_at dksX1_setNeed_0 9 rfl rfl)
theorem dX1_setNeed_10 : decode cX1_setNeed 10 = .ok (.dup, 1) := dk_89 (dk_at dksX1_setNeed_0 10 rfl rfl)
theorem dX1_setNeed_11 : decode cX1_setNeed 11 = .ok (.iconst 1, 1) := dk_4 (dk_at dksX1_setNeed_0 11 rfl rfl)
theorem dX1_setNeed_12 : decode cX1_setNeed 12 = .ok (.iload_n 2, 1) := dk_28 (dk_at dksX1_setNeed_0 12 rfl rfl)
theorem dX1_setNeed_13 : decode cX1_setNeed 13 = .ok (.iastore, 1) := dk_79 (dk_at dksX1_setNeed_0 13 rfl rfl)
theorem dX1_setNeed_14 : decode cX1_setNeed 14 = .ok (.dup, 1) := dk_89 (dk_at dksX1_setNeed_0 14 rfl rfl)
theorem dX1_setNeed_15 : decode cX1_setNeed 15 = .ok (.iconst 2, 1) := dk_5 (dk_at dksX1_setNeed_0 15 rfl rfl)
theorem dX1_setNeed_16 : decode cX1_setNeed 16 = .ok (.iload_n 3, 1) := dk_29 (dk_at dksX1_setNeed_0 16 rfl rfl)
theorem dX1_setNeed_17 : decode cX1_setNeed 17 = .ok (.iastore, 1) := dk_79 (dk_at dksX1_setNeed_0 17 rfl rfl)
theorem dX1_setNeed_18 : decode cX1_setNeed 18 = .ok (.dup, 1) := dk_89 (dk_at dksX1_setNeed_0 18 rfl rfl)
theorem dX1_setNeed_19 : decode cX1_setNeed 19 = .ok (.iconst 3, 1) := dk_6 (dk_at dksX1_setNeed_0 19 rfl rfl)
theorem dX1_setNeed_20 : decode cX1_setNeed 20 = .ok (.iload 4, 2) := dk_21 4 (dk_at dksX1_setNeed_0 20 rfl rfl)
theorem dX1_setNeed_22 : decode cX1_setNeed 22 = .ok (.iastore, 1) := dk_79 (dk_at dksX1_setNeed_0 22 rfl rfl)
theorem dX1_setNeed_23 : decode cX1_setNeed 23 = .ok (.invokevirtual 144, 3) := dk_182 0 144 (dk_at dksX1_setNeed_1 0 rfl rfl)
theorem dX1_setNeed_26 : decode cX1_setNeed 26 = .ok (.ireturn, 1) := dk_172 (dk_at dksX1_setNeed_1 3 rfl rfl)
abbrev cX1_turnReset : ByteArray := prog_1_method_31_code
def yX1_turnReset : MethodName := ⟨RX1, "turnReset", "(II)Z"⟩
def dkwX1_turnReset_1 : List UInt8 := [167, 0, 4, 3, 172]
abbrev dktX1_turnReset_1 : List UInt8 := dkwX1_turnReset_1 ++ []
def dkwX1_turnReset_0 : List UInt8 := [42, 16, 82, 5, 188, 10, 89, 3, 27, 79, 89, 4, 28, 79, 182, 0, 144, 4, 160, 0, 7, 4]
abbrev dktX1_turnReset_0 : List UInt8 := dkwX1_turnReset_0 ++ dktX1_turnReset_1
theorem dksX1_turnReset_0 : cX1_turnReset.data.toList.drop 0 = dktX1_turnReset_0 := by decide +kernel
theorem dksX1_turnReset_1 : cX1_turnReset.data.toList.drop 22 = dktX1_turnReset_1 := dk_seg dksX1_turnReset_0 22 rfl rfl
theorem dX1_turnReset_0 : decode cX1_turnReset 0 = .ok (.aload_n 0, 1) := dk_42 (dk_at dksX1_turnReset_0 0 rfl rfl)
theorem dX1_turnReset_1 : decode cX1_turnReset 1 = .ok (.bipush 82, 2) := dk_16 82 (dk_at dksX1_turnReset_0 1 rfl rfl)
theorem dX1_turnReset_3 : decode cX1_turnReset 3 = .ok (.iconst 2, 1) := dk_5 (dk_at dksX1_turnReset_0 3 rfl rfl)
theorem dX1_turnReset_4 : decode cX1_turnReset 4 = .ok (.newarray .int, 2) := dk_188_10 (dk_at dksX1_turnReset_0 4 rfl rfl)
theorem dX1_turnReset_6 : decode cX1_turnReset 6 = .ok (.dup, 1) := dk_89 (dk_at dksX1_turnReset_0 6 rfl rfl)
theorem dX1_turnReset_7 : decode cX1_turnReset 7 = .ok (.iconst 0, 1) := dk_3 (dk_at dksX1_turnReset_0 7 rfl rfl)
theorem dX1_turnReset_8 : decode cX1_turnReset 8 = .ok (.iload_n 1, 1) := dk_27 (dk_at dksX1_turnReset_0 8 rfl rfl)
theorem dX1_turnReset_9 : decode cX1_turnReset 9 = .ok (.iastore, 1) := dk_79 (dk_at dksX1_turnReset_0 9 rfl rfl)
theorem dX1_turnReset_10 : decode cX1_turnReset 10 = .ok (.dup, 1) := dk_89 (dk_at dksX1_turnReset_0 10 rfl rfl)
theorem dX1_turnReset_11 : decode cX1_turnReset 11 = .ok (.iconst 1, 1) := dk_4 (dk_at dksX1_turnReset_0 11 rfl rfl)
theorem dX1_turnReset_12 : decode cX1_turnReset 12 = .ok (.iload_n 2, 1) := dk_28 (dk_at dksX1_turnReset_0 12 rfl rfl)
theorem dX1_turnReset_13 : decode cX1_turnReset 13 = .ok (.iastore, 1) := dk_79 (dk_at dksX1_turnReset_0 13 rfl rfl)
theorem dX1_turnReset_14 : decode cX1_turnReset 14 = .ok (.invokevirtual 144, 3) := dk_182 0 144 (dk_at dksX1_turnReset_0 14 rfl rfl)
theorem dX1_turnReset_17 : decode cX1_turnReset 17 = .ok (.iconst 1, 1) := dk_4 (dk_at dksX1_turnReset_0 17 rfl rfl)
theorem dX1_turnReset_18 : decode cX1_turnReset 18 = .ok (.if_icmp .ne 7, 3) := dk_160 0 7 (dk_at dksX1_turnReset_0 18 rfl rfl)
theorem dX1_turnReset_21 : decode cX1_turnReset 21 = .ok (.iconst 1, 1) := dk_4 (dk_at dksX1_turnReset_0 21 rfl rfl)
theorem dX1_turnReset_22 : decode cX1_turnReset 22 = .ok (.goto 4, 3) := dk_167 0 4 (dk_at dksX1_turnReset_1 0 rfl rfl)
theorem dX1_turnReset_25 : decode cX1_turnReset 25 = .ok (.iconst 0, 1) := dk_3 (dk_at dksX1_turnReset_1 3 rfl rfl)
theorem dX1_turnReset_26 : decode cX1_turnReset 26 = .ok (.ireturn, 1) := dk_172 (dk_at dksX1_turnReset_1 4 rfl rfl)
abbrev cX1_told : ByteArray := prog_1_method_37_code
def yX1_told : MethodName := ⟨RX1, "told", "(II)I"⟩
def dkwX1_told_0 : List UInt8 := [27, 28, 184, 0, 171, 184, 0, 175, 42, 180, 0, 29, 180, 0, 153, 27, 28, 182, 0, 178, 184, 0, 181, 172]
abbrev dktX1_told_0 : List UInt8 := dkwX1_told_0 ++ []
theorem dksX1_told_0 : cX1_told.data.toList.drop 0 = dktX1_told_0 := by decide +kernel
theorem dX1_told_0 : decode cX1_told 0 = .ok (.iload_n 1, 1) := dk_27 (dk_at dksX1_told_0 0 rfl rfl)
theorem dX1_told_1 : decode cX1_told 1 = .ok (.iload_n 2, 1) := dk_28 (dk_at dksX1_told_0 1 rfl rfl)
theorem dX1_told_2 : decode cX1_told 2 = .ok (.invokestatic 171, 3) := dk_184 0 171 (dk_at dksX1_told_0 2 rfl rfl)
theorem dX1_told_5 : decode cX1_told 5 = .ok (.invokestatic 175, 3) := dk_184 0 175 (dk_at dksX1_told_0 5 rfl rfl)
theorem dX1_told_8 : decode cX1_told 8 = .ok (.aload_n 0, 1) := dk_42 (dk_at dksX1_told_0 8 rfl rfl)
theorem dX1_told_9 : decode cX1_told 9 = .ok (.getfield 29, 3) := dk_180 0 29 (dk_at dksX1_told_0 9 rfl rfl)
theorem dX1_told_12 : decode cX1_told 12 = .ok (.getfield 153, 3) := dk_180 0 153 (dk_at dksX1_told_0 12 rfl rfl)
theorem dX1_told_15 : decode cX1_told 15 = .ok (.iload_n 1, 1) := dk_27 (dk_at dksX1_told_0 15 rfl rfl)
theorem dX1_told_16 : decode cX1_told 16 = .ok (.iload_n 2, 1) := dk_28 (dk_at dksX1_told_0 16 rfl rfl)
theorem dX1_told_17 : decode cX1_told 17 = .ok (.invokevirtual 178, 3) := dk_182 0 178 (dk_at dksX1_told_0 17 rfl rfl)
theorem dX1_told_20 : decode cX1_told 20 = .ok (.invokestatic 181, 3) := dk_184 0 181 (dk_at dksX1_told_0 20 rfl rfl)
theorem dX1_told_23 : decode cX1_told 23 = .ok (.ireturn, 1) := dk_172 (dk_at dksX1_told_0 23 rfl rfl)
abbrev cX1_needArgument : ByteArray := prog_1_method_32_code
def yX1_needArgument : MethodName := ⟨RX1, "needArgument", "(Z)V"⟩
def dkwX1_needArgument_0 : List UInt8 := [26, 154, 0, 13, 187, 0, 132, 89, 18, 134, 183, 0, 136, 191, 177]
abbrev dktX1_needArgument_0 : List UInt8 := dkwX1_needArgument_0 ++ []
theorem dksX1_needArgument_0 : cX1_needArgument.data.toList.drop 0 = dktX1_needArgument_0 := by decide +kernel
theorem dX1_needArgument_0 : decode cX1_needArgument 0 = .ok (.iload_n 0, 1) := dk_26 (dk_at dksX1_needArgument_0 0 rfl rfl)
theorem dX1_needArgument_1 : decode cX1_needArgument 1 = .ok (.ifCond .ne 13, 3) := dk_154 0 13 (dk_at dksX1_needArgument_0 1 rfl rfl)
theorem dX1_needArgument_4 : decode cX1_needArgument 4 = .ok (.new 132, 3) := dk_187 0 132 (dk_at dksX1_needArgument_0 4 rfl rfl)
theorem dX1_needArgument_7 : decode cX1_needArgument 7 = .ok (.dup, 1) := dk_89 (dk_at dksX1_needArgument_0 7 rfl rfl)
theorem dX1_needArgument_8 : decode cX1_needArgument 8 = .ok (.ldc 134, 2) := dk_18 134 (dk_at dksX1_needArgument_0 8 rfl rfl)
theorem dX1_needArgument_10 : decode cX1_needArgument 10 = .ok (.invokespecial 136, 3) := dk_183 0 136 (dk_at dksX1_needArgument_0 10 rfl rfl)
theorem dX1_needArgument_13 : decode cX1_needArgument 13 = .ok (.athrow, 1) := dk_191 (dk_at dksX1_needArgument_0 13 rfl rfl)
theorem dX1_needArgument_14 : decode cX1_needArgument 14 = .ok (.return_, 1) := dk_177 (dk_at dksX1_needArgument_0 14 rfl rfl)
abbrev cX1_there : ByteArray := prog_1_method_36_code
def yX1_there : MethodName := ⟨RX1, "there", "(I)I"⟩
def dkwX1_there_0 : List UInt8 := [26, 17, 39, 15, 159, 0, 7, 4, 167, 0, 4, 3, 184, 0, 167, 26, 172]
abbrev dktX1_there_0 : List UInt8 := dkwX1_there_0 ++ []
theorem dksX1_there_0 : cX1_there.data.toList.drop 0 = dktX1_there_0 := by decide +kernel
theorem dX1_there_0 : decode cX1_there 0 = .ok (.iload_n 0, 1) := dk_26 (dk_at dksX1_there_0 0 rfl rfl)
theorem dX1_there_1 : decode cX1_there 1 = .ok (.sipush 9999, 3) := dk_17 39 15 (dk_at dksX1_there_0 1 rfl rfl)
theorem dX1_there_4 : decode cX1_there 4 = .ok (.if_icmp .eq 7, 3) := dk_159 0 7 (dk_at dksX1_there_0 4 rfl rfl)
theorem dX1_there_7 : decode cX1_there 7 = .ok (.iconst 1, 1) := dk_4 (dk_at dksX1_there_0 7 rfl rfl)
theorem dX1_there_8 : decode cX1_there 8 = .ok (.goto 4, 3) := dk_167 0 4 (dk_at dksX1_there_0 8 rfl rfl)
theorem dX1_there_11 : decode cX1_there 11 = .ok (.iconst 0, 1) := dk_3 (dk_at dksX1_there_0 11 rfl rfl)
theorem dX1_there_12 : decode cX1_there 12 = .ok (.invokestatic 167, 3) := dk_184 0 167 (dk_at dksX1_there_0 12 rfl rfl)
theorem dX1_there_15 : decode cX1_there 15 = .ok (.iload_n 0, 1) := dk_26 (dk_at dksX1_there_0 15 rfl rfl)
theorem dX1_there_16 : decode cX1_there 16 = .ok (.ireturn, 1) := dk_172 (dk_at dksX1_there_0 16 rfl rfl)
abbrev cX1_needSuch : ByteArray := prog_1_method_33_code
def yX1_needSuch : MethodName := ⟨RX1, "needSuch", "(Z)V"⟩
def dkwX1_needSuch_0 : List UInt8 := [26, 154, 0, 13, 187, 0, 148, 89, 18, 150, 183, 0, 152, 191, 177]
abbrev dktX1_needSuch_0 : List UInt8 := dkwX1_needSuch_0 ++ []
theorem dksX1_needSuch_0 : cX1_needSuch.data.toList.drop 0 = dktX1_needSuch_0 := by decide +kernel
theorem dX1_needSuch_0 : decode cX1_needSuch 0 = .ok (.iload_n 0, 1) := dk_26 (dk_at dksX1_needSuch_0 0 rfl rfl)
theorem dX1_needSuch_1 : decode cX1_needSuch 1 = .ok (.ifCond .ne 13, 3) := dk_154 0 13 (dk_at dksX1_needSuch_0 1 rfl rfl)
theorem dX1_needSuch_4 : decode cX1_needSuch 4 = .ok (.new 148, 3) := dk_187 0 148 (dk_at dksX1_needSuch_0 4 rfl rfl)
theorem dX1_needSuch_7 : decode cX1_needSuch 7 = .ok (.dup, 1) := dk_89 (dk_at dksX1_needSuch_0 7 rfl rfl)
theorem dX1_needSuch_8 : decode cX1_needSuch 8 = .ok (.ldc 150, 2) := dk_18 150 (dk_at dksX1_needSuch_0 8 rfl rfl)
theorem dX1_needSuch_10 : decode cX1_needSuch 10 = .ok (.invokespecial 152, 3) := dk_183 0 152 (dk_at dksX1_needSuch_0 10 rfl rfl)
theorem dX1_needSuch_13 : decode cX1_needSuch 13 = .ok (.athrow, 1) := dk_191 (dk_at dksX1_needSuch_0 13 rfl rfl)
theorem dX1_needSuch_14 : decode cX1_needSuch 14 = .ok (.return_, 1) := dk_177 (dk_at dksX1_needSuch_0 14 rfl rfl)
abbrev cX1_tightened : ByteArray := prog_1_method_38_code
def yX1_tightened : MethodName := ⟨RX1, "tightened", "(II)I"⟩
def dkwX1_tightened_0 : List UInt8 := [27, 28, 184, 0, 171, 184, 0, 175, 42, 182, 0, 184, 27, 28, 182, 0, 178, 184, 0, 181, 172]
abbrev dktX1_tightened_0 : List UInt8 := dkwX1_tightened_0 ++ []
theorem dksX1_tightened_0 : cX1_tightened.data.toList.drop 0 = dktX1_tightened_0 := by decide +kernel
theorem dX1_tightened_0 : decode cX1_tightened 0 = .ok (.iload_n 1, 1) := dk_27 (dk_at dksX1_tightened_0 0 rfl rfl)
theorem dX1_tightened_1 : decode cX1_tightened 1 = .ok (.iload_n 2, 1) := dk_28 (dk_at dksX1_tightened_0 1 rfl rfl)
theorem dX1_tightened_2 : decode cX1_tightened 2 = .ok (.invokestatic 171, 3) := dk_184 0 171 (dk_at dksX1_tightened_0 2 rfl rfl)
theorem dX1_tightened_5 : decode cX1_tightened 5 = .ok (.invokestatic 175, 3) := dk_184 0 175 (dk_at dksX1_tightened_0 5 rfl rfl)
theorem dX1_tightened_8 : decode cX1_tightened 8 = .ok (.aload_n 0, 1) := dk_42 (dk_at dksX1_tightened_0 8 rfl rfl)
theorem dX1_tightened_9 : decode cX1_tightened 9 = .ok (.invokevirtual 184, 3) := dk_182 0 184 (dk_at dksX1_tightened_0 9 rfl rfl)
theorem dX1_tightened_12 : decode cX1_tightened 12 = .ok (.iload_n 1, 1) := dk_27 (dk_at dksX1_tightened_0 12 rfl rfl)
theorem dX1_tightened_13 : decode cX1_tightened 13 = .ok (.iload_n 2, 1) := dk_28 (dk_at dksX1_tightened_0 13 rfl rfl)
theorem dX1_tightened_14 : decode cX1_tightened 14 = .ok (.invokevirtual 178, 3) := dk_182 0 178 (dk_at dksX1_tightened_0 14 rfl rfl)
theorem dX1_tightened_17 : decode cX1_tightened 17 = .ok (.invokestatic 181, 3) := dk_184 0 181 (dk_at dksX1_tightened_0 17 rfl rfl)
theorem dX1_tightened_20 : decode cX1_tightened 20 = .ok (.ireturn, 1) := dk_172 (dk_at dksX1_tightened_0 20 rfl rfl)
abbrev cX1_tightOne : ByteArray := prog_1_method_35_code
def yX1_tightOne : MethodName := ⟨RX1, "tightOne", "()LFerryClocks$Zone;"⟩
def dkwX1_tightOne_1 : List UInt8 := [184, 0, 167, 43, 176]
abbrev dktX1_tightOne_1 : List UInt8 := dkwX1_tightOne_1 ++ []
def dkwX1_tightOne_0 : List UInt8 := [42, 180, 0, 29, 180, 0, 153, 182, 0, 157, 76, 43, 182, 0, 163, 154, 0, 7, 4, 167, 0, 4, 3]
abbrev dktX1_tightOne_0 : List UInt8 := dkwX1_tightOne_0 ++ dktX1_tightOne_1
theorem dksX1_tightOne_0 : cX1_tightOne.data.toList.drop 0 = dktX1_tightOne_0 := by decide +kernel
theorem dksX1_tightOne_1 : cX1_tightOne.data.toList.drop 23 = dktX1_tightOne_1 := dk_seg dksX1_tightOne_0 23 rfl rfl
theorem dX1_tightOne_0 : decode cX1_tightOne 0 = .ok (.aload_n 0, 1) := dk_42 (dk_at dksX1_tightOne_0 0 rfl rfl)
theorem dX1_tightOne_1 : decode cX1_tightOne 1 = .ok (.getfield 29, 3) := dk_180 0 29 (dk_at dksX1_tightOne_0 1 rfl rfl)
theorem dX1_tightOne_4 : decode cX1_tightOne 4 = .ok (.getfield 153, 3) := dk_180 0 153 (dk_at dksX1_tightOne_0 4 rfl rfl)
theorem dX1_tightOne_7 : decode cX1_tightOne 7 = .ok (.invokevirtual 157, 3) := dk_182 0 157 (dk_at dksX1_tightOne_0 7 rfl rfl)
theorem dX1_tightOne_10 : decode cX1_tightOne 10 = .ok (.astore_n 1, 1) := dk_76 (dk_at dksX1_tightOne_0 10 rfl rfl)
theorem dX1_tightOne_11 : decode cX1_tightOne 11 = .ok (.aload_n 1, 1) := dk_43 (dk_at dksX1_tightOne_0 11 rfl rfl)
theorem dX1_tightOne_12 : decode cX1_tightOne 12 = .ok (.invokevirtual 163, 3) := dk_182 0 163 (dk_at dksX1_tightOne_0 12 rfl rfl)
theorem dX1_tightOne_15 : decode cX1_tightOne 15 = .ok (.ifCond .ne 7, 3) := dk_154 0 7 (dk_at dksX1_tightOne_0 15 rfl rfl)
theorem dX1_tightOne_18 : decode cX1_tightOne 18 = .ok (.iconst 1, 1) := dk_4 (dk_at dksX1_tightOne_0 18 rfl rfl)
theorem dX1_tightOne_19 : decode cX1_tightOne 19 = .ok (.goto 4, 3) := dk_167 0 4 (dk_at dksX1_tightOne_0 19 rfl rfl)
theorem dX1_tightOne_22 : decode cX1_tightOne 22 = .ok (.iconst 0, 1) := dk_3 (dk_at dksX1_tightOne_0 22 rfl rfl)
theorem dX1_tightOne_23 : decode cX1_tightOne 23 = .ok (.invokestatic 167, 3) := dk_184 0 167 (dk_at dksX1_tightOne_1 0 rfl rfl)
theorem dX1_tightOne_26 : decode cX1_tightOne 26 = .ok (.aload_n 1, 1) := dk_43 (dk_at dksX1_tightOne_1 3 rfl rfl)
theorem dX1_tightOne_27 : decode cX1_tightOne 27 = .ok (.areturn, 1) := dk_176 (dk_at dksX1_tightOne_1 4 rfl rfl)
abbrev cX1_hasMoment : ByteArray := prog_1_method_42_code
def yX1_hasMoment : MethodName := ⟨RX1, "hasMoment", "(III)Z"⟩
def dkwX1_hasMoment_2 : List UInt8 := [172]
abbrev dktX1_hasMoment_2 : List UInt8 := dkwX1_hasMoment_2 ++ []
def dkwX1_hasMoment_1 : List UInt8 := [180, 0, 29, 180, 0, 153, 6, 188, 10, 89, 3, 27, 79, 89, 4, 28, 79, 89, 5, 29, 79, 182, 0, 201]
abbrev dktX1_hasMoment_1 : List UInt8 := dkwX1_hasMoment_1 ++ dktX1_hasMoment_2
def dkwX1_hasMoment_0 : List UInt8 := [6, 188, 10, 89, 3, 27, 79, 89, 4, 28, 79, 89, 5, 29, 79, 184, 0, 197, 184, 0, 175, 42]
abbrev dktX1_hasMoment_0 : List UInt8 := dkwX1_hasMoment_0 ++ dktX1_hasMoment_1
theorem dksX1_hasMoment_0 : cX1_hasMoment.data.toList.drop 0 = dktX1_hasMoment_0 := by decide +kernel
theorem dksX1_hasMoment_1 : cX1_hasMoment.data.toList.drop 22 = dktX1_hasMoment_1 := dk_seg dksX1_hasMoment_0 22 rfl rfl
theorem dksX1_hasMoment_2 : cX1_hasMoment.data.toList.drop 46 = dktX1_hasMoment_2 := dk_seg dksX1_hasMoment_1 24 rfl rfl
theorem dX1_hasMoment_0 : decode cX1_hasMoment 0 = .ok (.iconst 3, 1) := dk_6 (dk_at dksX1_hasMoment_0 0 rfl rfl)
theorem dX1_hasMoment_1 : decode cX1_hasMoment 1 = .ok (.newarray .int, 2) := dk_188_10 (dk_at dksX1_hasMoment_0 1 rfl rfl)
theorem dX1_hasMoment_3 : decode cX1_hasMoment 3 = .ok (.dup, 1) := dk_89 (dk_at dksX1_hasMoment_0 3 rfl rfl)
theorem dX1_hasMoment_4 : decode cX1_hasMoment 4 = .ok (.iconst 0, 1) := dk_3 (dk_at dksX1_hasMoment_0 4 rfl rfl)
theorem dX1_hasMoment_5 : decode cX1_hasMoment 5 = .ok (.iload_n 1, 1) := dk_27 (dk_at dksX1_hasMoment_0 5 rfl rfl)
theorem dX1_hasMoment_6 : decode cX1_hasMoment 6 = .ok (.iastore, 1) := dk_79 (dk_at dksX1_hasMoment_0 6 rfl rfl)
theorem dX1_hasMoment_7 : decode cX1_hasMoment 7 = .ok (.dup, 1) := dk_89 (dk_at dksX1_hasMoment_0 7 rfl rfl)
theorem dX1_hasMoment_8 : decode cX1_hasMoment 8 = .ok (.iconst 1, 1) := dk_4 (dk_at dksX1_hasMoment_0 8 rfl rfl)
theorem dX1_hasMoment_9 : decode cX1_hasMoment 9 = .ok (.iload_n 2, 1) := dk_28 (dk_at dksX1_hasMoment_0 9 rfl rfl)
theorem dX1_hasMoment_10 : decode cX1_hasMoment 10 = .ok (.iastore, 1) := dk_79 (dk_at dksX1_hasMoment_0 10 rfl rfl)
theorem dX1_hasMoment_11 : decode cX1_hasMoment 11 = .ok (.dup, 1) := dk_89 (dk_at dksX1_hasMoment_0 11 rfl rfl)
theorem dX1_hasMoment_12 : decode cX1_hasMoment 12 = .ok (.iconst 2, 1) := dk_5 (dk_at dksX1_hasMoment_0 12 rfl rfl)
theorem dX1_hasMoment_13 : decode cX1_hasMoment 13 = .ok (.iload_n 3, 1) := dk_29 (dk_at dksX1_hasMoment_0 13 rfl rfl)
theorem dX1_hasMoment_14 : decode cX1_hasMoment 14 = .ok (.iastore, 1) := dk_79 (dk_at dksX1_hasMoment_0 14 rfl rfl)
theorem dX1_hasMoment_15 : decode cX1_hasMoment 15 = .ok (.invokestatic 197, 3) := dk_184 0 197 (dk_at dksX1_hasMoment_0 15 rfl rfl)
theorem dX1_hasMoment_18 : decode cX1_hasMoment 18 = .ok (.invokestatic 175, 3) := dk_184 0 175 (dk_at dksX1_hasMoment_0 18 rfl rfl)
theorem dX1_hasMoment_21 : decode cX1_hasMoment 21 = .ok (.aload_n 0, 1) := dk_42 (dk_at dksX1_hasMoment_0 21 rfl rfl)
theorem dX1_hasMoment_22 : decode cX1_hasMoment 22 = .ok (.getfield 29, 3) := dk_180 0 29 (dk_at dksX1_hasMoment_1 0 rfl rfl)
theorem dX1_hasMoment_25 : decode cX1_hasMoment 25 = .ok (.getfield 153, 3) := dk_180 0 153 (dk_at dksX1_hasMoment_1 3 rfl rfl)
theorem dX1_hasMoment_28 : decode cX1_hasMoment 28 = .ok (.iconst 3, 1) := dk_6 (dk_at dksX1_hasMoment_1 6 rfl rfl)
theorem dX1_hasMoment_29 : decode cX1_hasMoment 29 = .ok (.newarray .int, 2) := dk_188_10 (dk_at dksX1_hasMoment_1 7 rfl rfl)
theorem dX1_hasMoment_31 : decode cX1_hasMoment 31 = .ok (.dup, 1) := dk_89 (dk_at dksX1_hasMoment_1 9 rfl rfl)
theorem dX1_hasMoment_32 : decode cX1_hasMoment 32 = .ok (.iconst 0, 1) := dk_3 (dk_at dksX1_hasMoment_1 10 rfl rfl)
theorem dX1_hasMoment_33 : decode cX1_hasMoment 33 = .ok (.iload_n 1, 1) := dk_27 (dk_at dksX1_hasMoment_1 11 rfl rfl)
theorem dX1_hasMoment_34 : decode cX1_hasMoment 34 = .ok (.iastore, 1) := dk_79 (dk_at dksX1_hasMoment_1 12 rfl rfl)
theorem dX1_hasMoment_35 : decode cX1_hasMoment 35 = .ok (.dup, 1) := dk_89 (dk_at dksX1_hasMoment_1 13 rfl rfl)
theorem dX1_hasMoment_36 : decode cX1_hasMoment 36 = .ok (.iconst 1, 1) := dk_4 (dk_at dksX1_hasMoment_1 14 rfl rfl)
theorem dX1_hasMoment_37 : decode cX1_hasMoment 37 = .ok (.iload_n 2, 1) := dk_28 (dk_at dksX1_hasMoment_1 15 rfl rfl)
theorem dX1_hasMoment_38 : decode cX1_hasMoment 38 = .ok (.iastore, 1) := dk_79 (dk_at dksX1_hasMoment_1 16 rfl rfl)
theorem dX1_hasMoment_39 : decode cX1_hasMoment 39 = .ok (.dup, 1) := dk_89 (dk_at dksX1_hasMoment_1 17 rfl rfl)
theorem dX1_hasMoment_40 : decode cX1_hasMoment 40 = .ok (.iconst 2, 1) := dk_5 (dk_at dksX1_hasMoment_1 18 rfl rfl)
theorem dX1_hasMoment_41 : decode cX1_hasMoment 41 = .ok (.iload_n 3, 1) := dk_29 (dk_at dksX1_hasMoment_1 19 rfl rfl)
theorem dX1_hasMoment_42 : decode cX1_hasMoment 42 = .ok (.iastore, 1) := dk_79 (dk_at dksX1_hasMoment_1 20 rfl rfl)
theorem dX1_hasMoment_43 : decode cX1_hasMoment 43 = .ok (.invokevirtual 201, 3) := dk_182 0 201 (dk_at dksX1_hasMoment_1 21 rfl rfl)
theorem dX1_hasMoment_46 : decode cX1_hasMoment 46 = .ok (.ireturn, 1) := dk_172 (dk_at dksX1_hasMoment_2 0 rfl rfl)
abbrev cX1_isMoment : ByteArray := prog_1_method_6_code
def yX1_isMoment : MethodName := ⟨RX1, "isMoment", "([I)Z"⟩
def dkwX1_isMoment_1 : List UInt8 := [21, 5, 133, 9, 20, 0, 13, 184, 0, 5, 126, 60, 132, 4, 1, 167, 255, 228, 27, 172]
abbrev dktX1_isMoment_1 : List UInt8 := dkwX1_isMoment_1 ++ []
def dkwX1_isMoment_0 : List UInt8 := [4, 60, 42, 77, 44, 190, 62, 3, 54, 4, 21, 4, 29, 162, 0, 28, 44, 21, 4, 46, 54, 5, 27]
abbrev dktX1_isMoment_0 : List UInt8 := dkwX1_isMoment_0 ++ dktX1_isMoment_1
theorem dksX1_isMoment_0 : cX1_isMoment.data.toList.drop 0 = dktX1_isMoment_0 := by decide +kernel
theorem dksX1_isMoment_1 : cX1_isMoment.data.toList.drop 23 = dktX1_isMoment_1 := dk_seg dksX1_isMoment_0 23 rfl rfl
theorem dX1_isMoment_0 : decode cX1_isMoment 0 = .ok (.iconst 1, 1) := dk_4 (dk_at dksX1_isMoment_0 0 rfl rfl)
theorem dX1_isMoment_1 : decode cX1_isMoment 1 = .ok (.istore_n 1, 1) := dk_60 (dk_at dksX1_isMoment_0 1 rfl rfl)
theorem dX1_isMoment_2 : decode cX1_isMoment 2 = .ok (.aload_n 0, 1) := dk_42 (dk_at dksX1_isMoment_0 2 rfl rfl)
theorem dX1_isMoment_3 : decode cX1_isMoment 3 = .ok (.astore_n 2, 1) := dk_77 (dk_at dksX1_isMoment_0 3 rfl rfl)
theorem dX1_isMoment_4 : decode cX1_isMoment 4 = .ok (.aload_n 2, 1) := dk_44 (dk_at dksX1_isMoment_0 4 rfl rfl)
theorem dX1_isMoment_5 : decode cX1_isMoment 5 = .ok (.arraylength, 1) := dk_190 (dk_at dksX1_isMoment_0 5 rfl rfl)
theorem dX1_isMoment_6 : decode cX1_isMoment 6 = .ok (.istore_n 3, 1) := dk_62 (dk_at dksX1_isMoment_0 6 rfl rfl)
theorem dX1_isMoment_7 : decode cX1_isMoment 7 = .ok (.iconst 0, 1) := dk_3 (dk_at dksX1_isMoment_0 7 rfl rfl)
theorem dX1_isMoment_8 : decode cX1_isMoment 8 = .ok (.istore 4, 2) := dk_54 4 (dk_at dksX1_isMoment_0 8 rfl rfl)
theorem dX1_isMoment_10 : decode cX1_isMoment 10 = .ok (.iload 4, 2) := dk_21 4 (dk_at dksX1_isMoment_0 10 rfl rfl)
theorem dX1_isMoment_12 : decode cX1_isMoment 12 = .ok (.iload_n 3, 1) := dk_29 (dk_at dksX1_isMoment_0 12 rfl rfl)
theorem dX1_isMoment_13 : decode cX1_isMoment 13 = .ok (.if_icmp .ge 28, 3) := dk_162 0 28 (dk_at dksX1_isMoment_0 13 rfl rfl)
theorem dX1_isMoment_16 : decode cX1_isMoment 16 = .ok (.aload_n 2, 1) := dk_44 (dk_at dksX1_isMoment_0 16 rfl rfl)
theorem dX1_isMoment_17 : decode cX1_isMoment 17 = .ok (.iload 4, 2) := dk_21 4 (dk_at dksX1_isMoment_0 17 rfl rfl)
theorem dX1_isMoment_19 : decode cX1_isMoment 19 = .ok (.iaload, 1) := dk_46 (dk_at dksX1_isMoment_0 19 rfl rfl)
theorem dX1_isMoment_20 : decode cX1_isMoment 20 = .ok (.istore 5, 2) := dk_54 5 (dk_at dksX1_isMoment_0 20 rfl rfl)
theorem dX1_isMoment_22 : decode cX1_isMoment 22 = .ok (.iload_n 1, 1) := dk_27 (dk_at dksX1_isMoment_0 22 rfl rfl)
theorem dX1_isMoment_23 : decode cX1_isMoment 23 = .ok (.iload 5, 2) := dk_21 5 (dk_at dksX1_isMoment_1 0 rfl rfl)
theorem dX1_isMoment_25 : decode cX1_isMoment 25 = .ok (.i2l, 1) := dk_133 (dk_at dksX1_isMoment_1 2 rfl rfl)
theorem dX1_isMoment_26 : decode cX1_isMoment 26 = .ok (.lconst 0, 1) := dk_9 (dk_at dksX1_isMoment_1 3 rfl rfl)
theorem dX1_isMoment_27 : decode cX1_isMoment 27 = .ok (.ldc2_w 13, 3) := dk_20 0 13 (dk_at dksX1_isMoment_1 4 rfl rfl)
theorem dX1_isMoment_30 : decode cX1_isMoment 30 = .ok (.invokestatic 5, 3) := dk_184 0 5 (dk_at dksX1_isMoment_1 7 rfl rfl)
theorem dX1_isMoment_33 : decode cX1_isMoment 33 = .ok (.iand, 1) := dk_126 (dk_at dksX1_isMoment_1 10 rfl rfl)
theorem dX1_isMoment_34 : decode cX1_isMoment 34 = .ok (.istore_n 1, 1) := dk_60 (dk_at dksX1_isMoment_1 11 rfl rfl)
theorem dX1_isMoment_35 : decode cX1_isMoment 35 = .ok (.iinc 4 1, 3) := dk_132 4 1 (dk_at dksX1_isMoment_1 12 rfl rfl)
theorem dX1_isMoment_38 : decode cX1_isMoment 38 = .ok (.goto (-28), 3) := dk_167 255 228 (dk_at dksX1_isMoment_1 15 rfl rfl)
theorem dX1_isMoment_41 : decode cX1_isMoment 41 = .ok (.iload_n 1, 1) := dk_27 (dk_at dksX1_isMoment_1 18 rfl rfl)
theorem dX1_isMoment_42 : decode cX1_isMoment 42 = .ok (.ireturn, 1) := dk_172 (dk_at dksX1_isMoment_1 19 rfl rfl)
abbrev cX1_leastOf : ByteArray := prog_1_method_45_code
def yX1_leastOf : MethodName := ⟨RX1, "leastOf", "(I)I"⟩
def dkwX1_leastOf_0 : List UInt8 := [27, 184, 0, 204, 184, 0, 175, 42, 182, 0, 184, 6, 27, 182, 0, 178, 116, 172]
abbrev dktX1_leastOf_0 : List UInt8 := dkwX1_leastOf_0 ++ []
theorem dksX1_leastOf_0 : cX1_leastOf.data.toList.drop 0 = dktX1_leastOf_0 := by decide +kernel
theorem dX1_leastOf_0 : decode cX1_leastOf 0 = .ok (.iload_n 1, 1) := dk_27 (dk_at dksX1_leastOf_0 0 rfl rfl)
theorem dX1_leastOf_1 : decode cX1_leastOf 1 = .ok (.invokestatic 204, 3) := dk_184 0 204 (dk_at dksX1_leastOf_0 1 rfl rfl)
theorem dX1_leastOf_4 : decode cX1_leastOf 4 = .ok (.invokestatic 175, 3) := dk_184 0 175 (dk_at dksX1_leastOf_0 4 rfl rfl)
theorem dX1_leastOf_7 : decode cX1_leastOf 7 = .ok (.aload_n 0, 1) := dk_42 (dk_at dksX1_leastOf_0 7 rfl rfl)
theorem dX1_leastOf_8 : decode cX1_leastOf 8 = .ok (.invokevirtual 184, 3) := dk_182 0 184 (dk_at dksX1_leastOf_0 8 rfl rfl)
theorem dX1_leastOf_11 : decode cX1_leastOf 11 = .ok (.iconst 3, 1) := dk_6 (dk_at dksX1_leastOf_0 11 rfl rfl)
theorem dX1_leastOf_12 : decode cX1_leastOf 12 = .ok (.iload_n 1, 1) := dk_27 (dk_at dksX1_leastOf_0 12 rfl rfl)
theorem dX1_leastOf_13 : decode cX1_leastOf 13 = .ok (.invokevirtual 178, 3) := dk_182 0 178 (dk_at dksX1_leastOf_0 13 rfl rfl)
theorem dX1_leastOf_16 : decode cX1_leastOf 16 = .ok (.ineg, 1) := dk_116 (dk_at dksX1_leastOf_0 16 rfl rfl)
theorem dX1_leastOf_17 : decode cX1_leastOf 17 = .ok (.ireturn, 1) := dk_172 (dk_at dksX1_leastOf_0 17 rfl rfl)
abbrev cX1_mostOf : ByteArray := prog_1_method_46_code
def yX1_mostOf : MethodName := ⟨RX1, "mostOf", "(I)I"⟩
def dkwX1_mostOf_0 : List UInt8 := [27, 184, 0, 204, 184, 0, 175, 42, 182, 0, 184, 27, 6, 182, 0, 178, 184, 0, 181, 172]
abbrev dktX1_mostOf_0 : List UInt8 := dkwX1_mostOf_0 ++ []
theorem dksX1_mostOf_0 : cX1_mostOf.data.toList.drop 0 = dktX1_mostOf_0 := by decide +kernel
theorem dX1_mostOf_0 : decode cX1_mostOf 0 = .ok (.iload_n 1, 1) := dk_27 (dk_at dksX1_mostOf_0 0 rfl rfl)
theorem dX1_mostOf_1 : decode cX1_mostOf 1 = .ok (.invokestatic 204, 3) := dk_184 0 204 (dk_at dksX1_mostOf_0 1 rfl rfl)
theorem dX1_mostOf_4 : decode cX1_mostOf 4 = .ok (.invokestatic 175, 3) := dk_184 0 175 (dk_at dksX1_mostOf_0 4 rfl rfl)
theorem dX1_mostOf_7 : decode cX1_mostOf 7 = .ok (.aload_n 0, 1) := dk_42 (dk_at dksX1_mostOf_0 7 rfl rfl)
theorem dX1_mostOf_8 : decode cX1_mostOf 8 = .ok (.invokevirtual 184, 3) := dk_182 0 184 (dk_at dksX1_mostOf_0 8 rfl rfl)
theorem dX1_mostOf_11 : decode cX1_mostOf 11 = .ok (.iload_n 1, 1) := dk_27 (dk_at dksX1_mostOf_0 11 rfl rfl)
theorem dX1_mostOf_12 : decode cX1_mostOf 12 = .ok (.iconst 3, 1) := dk_6 (dk_at dksX1_mostOf_0 12 rfl rfl)
theorem dX1_mostOf_13 : decode cX1_mostOf 13 = .ok (.invokevirtual 178, 3) := dk_182 0 178 (dk_at dksX1_mostOf_0 13 rfl rfl)
theorem dX1_mostOf_16 : decode cX1_mostOf 16 = .ok (.invokestatic 181, 3) := dk_184 0 181 (dk_at dksX1_mostOf_0 16 rfl rfl)
theorem dX1_mostOf_19 : decode cX1_mostOf 19 = .ok (.ireturn, 1) := dk_172 (dk_at dksX1_mostOf_0 19 rfl rfl)
abbrev cX1_longestDelay : ByteArray := prog_1_method_47_code
def yX1_longestDelay : MethodName := ⟨RX1, "longestDelay", "(III)I"⟩
def dkwX1_longestDelay_4 : List UInt8 := [159, 0, 14, 21, 4, 21, 5, 162, 0, 7, 4, 167, 0, 4, 3, 184, 0, 167, 21, 4, 172]
abbrev dktX1_longestDelay_4 : List UInt8 := dkwX1_longestDelay_4 ++ []
def dkwX1_longestDelay_3 : List UInt8 := [182, 0, 201, 153, 0, 8, 21, 6, 167, 0, 5, 21, 4, 54, 4, 132, 6, 1, 167, 255, 200, 21, 4, 2]
abbrev dktX1_longestDelay_3 : List UInt8 := dkwX1_longestDelay_3 ++ dktX1_longestDelay_4
def dkwX1_longestDelay_2 : List UInt8 := [188, 10, 89, 3, 27, 21, 6, 96, 79, 89, 4, 28, 21, 6, 96, 79, 89, 5, 29, 21, 6, 96, 79]
abbrev dktX1_longestDelay_2 : List UInt8 := dkwX1_longestDelay_2 ++ dktX1_longestDelay_3
def dkwX1_longestDelay_1 : List UInt8 := [42, 182, 0, 208, 54, 5, 3, 54, 6, 21, 6, 21, 5, 163, 0, 55, 42, 180, 0, 29, 180, 0, 153, 6]
abbrev dktX1_longestDelay_1 : List UInt8 := dkwX1_longestDelay_1 ++ dktX1_longestDelay_2
def dkwX1_longestDelay_0 : List UInt8 := [6, 188, 10, 89, 3, 27, 79, 89, 4, 28, 79, 89, 5, 29, 79, 184, 0, 197, 184, 0, 175, 2, 54, 4]
abbrev dktX1_longestDelay_0 : List UInt8 := dkwX1_longestDelay_0 ++ dktX1_longestDelay_1
theorem dksX1_longestDelay_0 : cX1_longestDelay.data.toList.drop 0 = dktX1_longestDelay_0 := by decide +kernel
theorem dksX1_longestDelay_1 : cX1_longestDelay.data.toList.drop 24 = dktX1_longestDelay_1 := dk_seg dksX1_longestDelay_0 24 rfl rfl
theorem dksX1_longestDelay_2 : cX1_longestDelay.data.toList.drop 48 = dktX1_longestDelay_2 := dk_seg dksX1_longestDelay_1 24 rfl rfl
theorem dksX1_longestDelay_3 : cX1_longestDelay.data.toList.drop 71 = dktX1_longestDelay_3 := dk_seg dksX1_longestDelay_2 23 rfl rfl
theorem dksX1_longestDelay_4 : cX1_longestDelay.data.toList.drop 95 = dktX1_longestDelay_4 := dk_seg dksX1_longestDelay_3 24 rfl rfl
theorem dX1_longestDelay_0 : decode cX1_longestDelay 0 = .ok (.iconst 3, 1) := dk_6 (dk_at dksX1_longestDelay_0 0 rfl rfl)
theorem dX1_longestDelay_1 : decode cX1_longestDelay 1 = .ok (.newarray .int, 2) := dk_188_10 (dk_at dksX1_longestDelay_0 1 rfl rfl)
theorem dX1_longestDelay_3 : decode cX1_longestDelay 3 = .ok (.dup, 1) := dk_89 (dk_at dksX1_longestDelay_0 3 rfl rfl)
theorem dX1_longestDelay_4 : decode cX1_longestDelay 4 = .ok (.iconst 0, 1) := dk_3 (dk_at dksX1_longestDelay_0 4 rfl rfl)
theorem dX1_longestDelay_5 : decode cX1_longestDelay 5 = .ok (.iload_n 1, 1) := dk_27 (dk_at dksX1_longestDelay_0 5 rfl rfl)
theorem dX1_longestDelay_6 : decode cX1_longestDelay 6 = .ok (.iastore, 1) := dk_79 (dk_at dksX1_longestDelay_0 6 rfl rfl)
theorem dX1_longestDelay_7 : decode cX1_longestDelay 7 = .ok (.dup, 1) := dk_89 (dk_at dksX1_longestDelay_0 7 rfl rfl)
theorem dX1_longestDelay_8 : decode cX1_longestDelay 8 = .ok (.iconst 1, 1) := dk_4 (dk_at dksX1_longestDelay_0 8 rfl rfl)
theorem dX1_longestDelay_9 : decode cX1_longestDelay 9 = .ok (.iload_n 2, 1) := dk_28 (dk_at dksX1_longestDelay_0 9 rfl rfl)
theorem dX1_longestDelay_10 : decode cX1_longestDelay 10 = .ok (.iastore, 1) := dk_79 (dk_at dksX1_longestDelay_0 10 rfl rfl)
theorem dX1_longestDelay_11 : decode cX1_longestDelay 11 = .ok (.dup, 1) := dk_89 (dk_at dksX1_longestDelay_0 11 rfl rfl)
theorem dX1_longestDelay_12 : decode cX1_longestDelay 12 = .ok (.iconst 2, 1) := dk_5 (dk_at dksX1_longestDelay_0 12 rfl rfl)
theorem dX1_longestDelay_13 : decode cX1_longestDelay 13 = .ok (.iload_n 3, 1) := dk_29 (dk_at dksX1_longestDelay_0 13 rfl rfl)
theorem dX1_longestDelay_14 : decode cX1_longestDelay 14 = .ok (.iastore, 1) := dk_79 (dk_at dksX1_longestDelay_0 14 rfl rfl)
theorem dX1_longestDelay_15 : decode cX1_longestDelay 15 = .ok (.invokestatic 197, 3) := dk_184 0 197 (dk_at dksX1_longestDelay_0 15 rfl rfl)
theorem dX1_longestDelay_18 : decode cX1_longestDelay 18 = .ok (.invokestatic 175, 3) := dk_184 0 175 (dk_at dksX1_longestDelay_0 18 rfl rfl)
theorem dX1_longestDelay_21 : decode cX1_longestDelay 21 = .ok (.iconst (-1), 1) := dk_2 (dk_at dksX1_longestDelay_0 21 rfl rfl)
theorem dX1_longestDelay_22 : decode cX1_longestDelay 22 = .ok (.istore 4, 2) := dk_54 4 (dk_at dksX1_longestDelay_0 22 rfl rfl)
theorem dX1_longestDelay_24 : decode cX1_longestDelay 24 = .ok (.aload_n 0, 1) := dk_42 (dk_at dksX1_longestDelay_1 0 rfl rfl)
theorem dX1_longestDelay_25 : decode cX1_longestDelay 25 = .ok (.invokevirtual 208, 3) := dk_182 0 208 (dk_at dksX1_longestDelay_1 1 rfl rfl)
theorem dX1_longestDelay_28 : decode cX1_longestDelay 28 = .ok (.istore 5, 2) := dk_54 5 (dk_at dksX1_longestDelay_1 4 rfl rfl)
theorem dX1_longestDelay_30 : decode cX1_longestDelay 30 = .ok (.iconst 0, 1) := dk_3 (dk_at dksX1_longestDelay_1 6 rfl rfl)
theorem dX1_longestDelay_31 : decode cX1_longestDelay 31 = .ok (.istore 6, 2) := dk_54 6 (dk_at dksX1_longestDelay_1 7 rfl rfl)
theorem dX1_longestDelay_33 : decode cX1_longestDelay 33 = .ok (.iload 6, 2) := dk_21 6 (dk_at dksX1_longestDelay_1 9 rfl rfl)
theorem dX1_longestDelay_35 : decode cX1_longestDelay 35 = .ok (.iload 5, 2) := dk_21 5 (dk_at dksX1_longestDelay_1 11 rfl rfl)
theorem dX1_longestDelay_37 : decode cX1_longestDelay 37 = .ok (.if_icmp .gt 55, 3) := dk_163 0 55 (dk_at dksX1_longestDelay_1 13 rfl rfl)
theorem dX1_longestDelay_40 : decode cX1_longestDelay 40 = .ok (.aload_n 0, 1) := dk_42 (dk_at dksX1_longestDelay_1 16 rfl rfl)
theorem dX1_longestDelay_41 : decode cX1_longestDelay 41 = .ok (.getfield 29, 3) := dk_180 0 29 (dk_at dksX1_longestDelay_1 17 rfl rfl)
theorem dX1_longestDelay_44 : decode cX1_longestDelay 44 = .ok (.getfield 153, 3) := dk_180 0 153 (dk_at dksX1_longestDelay_1 20 rfl rfl)
theorem dX1_longestDelay_47 : decode cX1_longestDelay 47 = .ok (.iconst 3, 1) := dk_6 (dk_at dksX1_longestDelay_1 23 rfl rfl)
theorem dX1_longestDelay_48 : decode cX1_longestDelay 48 = .ok (.newarray .int, 2) := dk_188_10 (dk_at dksX1_longestDelay_2 0 rfl rfl)
theorem dX1_longestDelay_50 : decode cX1_longestDelay 50 = .ok (.dup, 1) := dk_89 (dk_at dksX1_longestDelay_2 2 rfl rfl)
theorem dX1_longestDelay_51 : decode cX1_longestDelay 51 = .ok (.iconst 0, 1) := dk_3 (dk_at dksX1_longestDelay_2 3 rfl rfl)
theorem dX1_longestDelay_52 : decode cX1_longestDelay 52 = .ok (.iload_n 1, 1) := dk_27 (dk_at dksX1_longestDelay_2 4 rfl rfl)
theorem dX1_longestDelay_53 : decode cX1_longestDelay 53 = .ok (.iload 6, 2) := dk_21 6 (dk_at dksX1_longestDelay_2 5 rfl rfl)
theorem dX1_longestDelay_55 : decode cX1_longestDelay 55 = .ok (.iadd, 1) := dk_96 (dk_at dksX1_longestDelay_2 7 rfl rfl)
theorem dX1_longestDelay_56 : decode cX1_longestDelay 56 = .ok (.iastore, 1) := dk_79 (dk_at dksX1_longestDelay_2 8 rfl rfl)
theorem dX1_longestDelay_57 : decode cX1_longestDelay 57 = .ok (.dup, 1) := dk_89 (dk_at dksX1_longestDelay_2 9 rfl rfl)
theorem dX1_longestDelay_58 : decode cX1_longestDelay 58 = .ok (.iconst 1, 1) := dk_4 (dk_at dksX1_longestDelay_2 10 rfl rfl)
theorem dX1_longestDelay_59 : decode cX1_longestDelay 59 = .ok (.iload_n 2, 1) := dk_28 (dk_at dksX1_longestDelay_2 11 rfl rfl)
theorem dX1_longestDelay_60 : decode cX1_longestDelay 60 = .ok (.iload 6, 2) := dk_21 6 (dk_at dksX1_longestDelay_2 12 rfl rfl)
theorem dX1_longestDelay_62 : decode cX1_longestDelay 62 = .ok (.iadd, 1) := dk_96 (dk_at dksX1_longestDelay_2 14 rfl rfl)
theorem dX1_longestDelay_63 : decode cX1_longestDelay 63 = .ok (.iastore, 1) := dk_79 (dk_at dksX1_longestDelay_2 15 rfl rfl)
theorem dX1_longestDelay_64 : decode cX1_longestDelay 64 = .ok (.dup, 1) := dk_89 (dk_at dksX1_longestDelay_2 16 rfl rfl)
theorem dX1_longestDelay_65 : decode cX1_longestDelay 65 = .ok (.iconst 2, 1) := dk_5 (dk_at dksX1_longestDelay_2 17 rfl rfl)
theorem dX1_longestDelay_66 : decode cX1_longestDelay 66 = .ok (.iload_n 3, 1) := dk_29 (dk_at dksX1_longestDelay_2 18 rfl rfl)
theorem dX1_longestDelay_67 : decode cX1_longestDelay 67 = .ok (.iload 6, 2) := dk_21 6 (dk_at dksX1_longestDelay_2 19 rfl rfl)
theorem dX1_longestDelay_69 : decode cX1_longestDelay 69 = .ok (.iadd, 1) := dk_96 (dk_at dksX1_longestDelay_2 21 rfl rfl)
theorem dX1_longestDelay_70 : decode cX1_longestDelay 70 = .ok (.iastore, 1) := dk_79 (dk_at dksX1_longestDelay_2 22 rfl rfl)
theorem dX1_longestDelay_71 : decode cX1_longestDelay 71 = .ok (.invokevirtual 201, 3) := dk_182 0 201 (dk_at dksX1_longestDelay_3 0 rfl rfl)
theorem dX1_longestDelay_74 : decode cX1_longestDelay 74 = .ok (.ifCond .eq 8, 3) := dk_153 0 8 (dk_at dksX1_longestDelay_3 3 rfl rfl)
theorem dX1_longestDelay_77 : decode cX1_longestDelay 77 = .ok (.iload 6, 2) := dk_21 6 (dk_at dksX1_longestDelay_3 6 rfl rfl)
theorem dX1_longestDelay_79 : decode cX1_longestDelay 79 = .ok (.goto 5, 3) := dk_167 0 5 (dk_at dksX1_longestDelay_3 8 rfl rfl)
theorem dX1_longestDelay_82 : decode cX1_longestDelay 82 = .ok (.iload 4, 2) := dk_21 4 (dk_at dksX1_longestDelay_3 11 rfl rfl)
theorem dX1_longestDelay_84 : decode cX1_longestDelay 84 = .ok (.istore 4, 2) := dk_54 4 (dk_at dksX1_longestDelay_3 13 rfl rfl)
theorem dX1_longestDelay_86 : decode cX1_longestDelay 86 = .ok (.iinc 6 1, 3) := dk_132 6 1 (dk_at dksX1_longestDelay_3 15 rfl rfl)
theorem dX1_longestDelay_89 : decode cX1_longestDelay 89 = .ok (.goto (-56), 3) := dk_167 255 200 (dk_at dksX1_longestDelay_3 18 rfl rfl)
theorem dX1_longestDelay_92 : decode cX1_longestDelay 92 = .ok (.iload 4, 2) := dk_21 4 (dk_at dksX1_longestDelay_3 21 rfl rfl)
theorem dX1_longestDelay_94 : decode cX1_longestDelay 94 = .ok (.iconst (-1), 1) := dk_2 (dk_at dksX1_longestDelay_3 23 rfl rfl)
theorem dX1_longestDelay_95 : decode cX1_longestDelay 95 = .ok (.if_icmp .eq 14, 3) := dk_159 0 14 (dk_at dksX1_longestDelay_4 0 rfl rfl)
theorem dX1_longestDelay_98 : decode cX1_longestDelay 98 = .ok (.iload 4, 2) := dk_21 4 (dk_at dksX1_longestDelay_4 3 rfl rfl)
theorem dX1_longestDelay_100 : decode cX1_longestDelay 100 = .ok (.iload 5, 2) := dk_21 5 (dk_at dksX1_longestDelay_4 5 rfl rfl)
theorem dX1_longestDelay_102 : decode cX1_longestDelay 102 = .ok (.if_icmp .ge 7, 3) := dk_162 0 7 (dk_at dksX1_longestDelay_4 7 rfl rfl)
theorem dX1_longestDelay_105 : decode cX1_longestDelay 105 = .ok (.iconst 1, 1) := dk_4 (dk_at dksX1_longestDelay_4 10 rfl rfl)
theorem dX1_longestDelay_106 : decode cX1_longestDelay 106 = .ok (.goto 4, 3) := dk_167 0 4 (dk_at dksX1_longestDelay_4 11 rfl rfl)
theorem dX1_longestDelay_109 : decode cX1_longestDelay 109 = .ok (.iconst 0, 1) := dk_3 (dk_at dksX1_longestDelay_4 14 rfl rfl)
theorem dX1_longestDelay_110 : decode cX1_longestDelay 110 = .ok (.invokestatic 167, 3) := dk_184 0 167 (dk_at dksX1_longestDelay_4 15 rfl rfl)
theorem dX1_longestDelay_113 : decode cX1_longestDelay 113 = .ok (.iload 4, 2) := dk_21 4 (dk_at dksX1_longestDelay_4 18 rfl rfl)
theorem dX1_longestDelay_115 : decode cX1_longestDelay 115 = .ok (.ireturn, 1) := dk_172 (dk_at dksX1_longestDelay_4 20 rfl rfl)
abbrev cX1_mostTold : ByteArray := prog_1_method_48_code
def yX1_mostTold : MethodName := ⟨RX1, "mostTold", "()I"⟩
def dkwX1_mostTold_2 : List UInt8 := [167, 255, 216, 27, 172]
abbrev dktX1_mostTold_2 : List UInt8 := dkwX1_mostTold_2 ++ []
def dkwX1_mostTold_1 : List UInt8 := [29, 17, 39, 15, 160, 0, 7, 27, 167, 0, 10, 27, 29, 4, 96, 184, 0, 211, 60, 132, 2, 1]
abbrev dktX1_mostTold_1 : List UInt8 := dkwX1_mostTold_1 ++ dktX1_mostTold_2
def dkwX1_mostTold_0 : List UInt8 := [17, 3, 231, 60, 3, 61, 28, 6, 162, 0, 41, 42, 180, 0, 29, 180, 0, 153, 28, 6, 182, 0, 178, 62]
abbrev dktX1_mostTold_0 : List UInt8 := dkwX1_mostTold_0 ++ dktX1_mostTold_1
theorem dksX1_mostTold_0 : cX1_mostTold.data.toList.drop 0 = dktX1_mostTold_0 := by decide +kernel
theorem dksX1_mostTold_1 : cX1_mostTold.data.toList.drop 24 = dktX1_mostTold_1 := dk_seg dksX1_mostTold_0 24 rfl rfl
theorem dksX1_mostTold_2 : cX1_mostTold.data.toList.drop 46 = dktX1_mostTold_2 := dk_seg dksX1_mostTold_1 22 rfl rfl
theorem dX1_mostTold_0 : decode cX1_mostTold 0 = .ok (.sipush 999, 3) := dk_17 3 231 (dk_at dksX1_mostTold_0 0 rfl rfl)
theorem dX1_mostTold_3 : decode cX1_mostTold 3 = .ok (.istore_n 1, 1) := dk_60 (dk_at dksX1_mostTold_0 3 rfl rfl)
theorem dX1_mostTold_4 : decode cX1_mostTold 4 = .ok (.iconst 0, 1) := dk_3 (dk_at dksX1_mostTold_0 4 rfl rfl)
theorem dX1_mostTold_5 : decode cX1_mostTold 5 = .ok (.istore_n 2, 1) := dk_61 (dk_at dksX1_mostTold_0 5 rfl rfl)
theorem dX1_mostTold_6 : decode cX1_mostTold 6 = .ok (.iload_n 2, 1) := dk_28 (dk_at dksX1_mostTold_0 6 rfl rfl)
theorem dX1_mostTold_7 : decode cX1_mostTold 7 = .ok (.iconst 3, 1) := dk_6 (dk_at dksX1_mostTold_0 7 rfl rfl)
theorem dX1_mostTold_8 : decode cX1_mostTold 8 = .ok (.if_icmp .ge 41, 3) := dk_162 0 41 (dk_at dksX1_mostTold_0 8 rfl rfl)
theorem dX1_mostTold_11 : decode cX1_mostTold 11 = .ok (.aload_n 0, 1) := dk_42 (dk_at dksX1_mostTold_0 11 rfl rfl)
theorem dX1_mostTold_12 : decode cX1_mostTold 12 = .ok (.getfield 29, 3) := dk_180 0 29 (dk_at dksX1_mostTold_0 12 rfl rfl)
theorem dX1_mostTold_15 : decode cX1_mostTold 15 = .ok (.getfield 153, 3) := dk_180 0 153 (dk_at dksX1_mostTold_0 15 rfl rfl)
theorem dX1_mostTold_18 : decode cX1_mostTold 18 = .ok (.iload_n 2, 1) := dk_28 (dk_at dksX1_mostTold_0 18 rfl rfl)
theorem dX1_mostTold_19 : decode cX1_mostTold 19 = .ok (.iconst 3, 1) := dk_6 (dk_at dksX1_mostTold_0 19 rfl rfl)
theorem dX1_mostTold_20 : decode cX1_mostTold 20 = .ok (.invokevirtual 178, 3) := dk_182 0 178 (dk_at dksX1_mostTold_0 20 rfl rfl)
theorem dX1_mostTold_23 : decode cX1_mostTold 23 = .ok (.istore_n 3, 1) := dk_62 (dk_at dksX1_mostTold_0 23 rfl rfl)
theorem dX1_mostTold_24 : decode cX1_mostTold 24 = .ok (.iload_n 3, 1) := dk_29 (dk_at dksX1_mostTold_1 0 rfl rfl)
theorem dX1_mostTold_25 : decode cX1_mostTold 25 = .ok (.sipush 9999, 3) := dk_17 39 15 (dk_at dksX1_mostTold_1 1 rfl rfl)
theorem dX1_mostTold_28 : decode cX1_mostTold 28 = .ok (.if_icmp .ne 7, 3) := dk_160 0 7 (dk_at dksX1_mostTold_1 4 rfl rfl)
theorem dX1_mostTold_31 : decode cX1_mostTold 31 = .ok (.iload_n 1, 1) := dk_27 (dk_at dksX1_mostTold_1 7 rfl rfl)
theorem dX1_mostTold_32 : decode cX1_mostTold 32 = .ok (.goto 10, 3) := dk_167 0 10 (dk_at dksX1_mostTold_1 8 rfl rfl)
theorem dX1_mostTold_35 : decode cX1_mostTold 35 = .ok (.iload_n 1, 1) := dk_27 (dk_at dksX1_mostTold_1 11 rfl rfl)
theorem dX1_mostTold_36 : decode cX1_mostTold 36 = .ok (.iload_n 3, 1) := dk_29 (dk_at dksX1_mostTold_1 12 rfl rfl)
theorem dX1_mostTold_37 : decode cX1_mostTold 37 = .ok (.iconst 1, 1) := dk_4 (dk_at dksX1_mostTold_1 13 rfl rfl)
theorem dX1_mostTold_38 : decode cX1_mostTold 38 = .ok (.iadd, 1) := dk_96 (dk_at dksX1_mostTold_1 14 rfl rfl)
theorem dX1_mostTold_39 : decode cX1_mostTold 39 = .ok (.invokestatic 211, 3) := dk_184 0 211 (dk_at dksX1_mostTold_1 15 rfl rfl)
theorem dX1_mostTold_42 : decode cX1_mostTold 42 = .ok (.istore_n 1, 1) := dk_60 (dk_at dksX1_mostTold_1 18 rfl rfl)
theorem dX1_mostTold_43 : decode cX1_mostTold 43 = .ok (.iinc 2 1, 3) := dk_132 2 1 (dk_at dksX1_mostTold_1 19 rfl rfl)
theorem dX1_mostTold_46 : decode cX1_mostTold 46 = .ok (.goto (-40), 3) := dk_167 255 216 (dk_at dksX1_mostTold_2 0 rfl rfl)
theorem dX1_mostTold_49 : decode cX1_mostTold 49 = .ok (.iload_n 1, 1) := dk_27 (dk_at dksX1_mostTold_2 3 rfl rfl)
theorem dX1_mostTold_50 : decode cX1_mostTold 50 = .ok (.ireturn, 1) := dk_172 (dk_at dksX1_mostTold_2 4 rfl rfl)
abbrev cX1_needless : ByteArray := prog_1_method_49_code
def yX1_needless : MethodName := ⟨RX1, "needless", "()I"⟩
def dkwX1_needless_5 : List UInt8 := [167, 0, 4, 3, 96, 61, 132, 4, 1, 167, 255, 147, 132, 3, 1, 167, 255, 133, 28, 172]
abbrev dktX1_needless_5 : List UInt8 := dkwX1_needless_5 ++ []
def dkwX1_needless_4 : List UInt8 := [182, 0, 222, 28, 21, 6, 153, 0, 19, 25, 7, 182, 0, 157, 43, 182, 0, 187, 154, 0, 7, 4]
abbrev dktX1_needless_4 : List UInt8 := dkwX1_needless_4 ++ dktX1_needless_5
def dkwX1_needless_3 : List UInt8 := [183, 0, 219, 58, 7, 25, 7, 29, 21, 4, 29, 21, 4, 160, 0, 7, 3, 167, 0, 7, 29, 184, 0, 216]
abbrev dktX1_needless_3 : List UInt8 := dkwX1_needless_3 ++ dktX1_needless_4
def dkwX1_needless_2 : List UInt8 := [184, 0, 216, 159, 0, 7, 4, 167, 0, 4, 3, 54, 6, 187, 0, 158, 89, 42, 180, 0, 29, 180, 0, 153]
abbrev dktX1_needless_2 : List UInt8 := dkwX1_needless_2 ++ dktX1_needless_3
def dkwX1_needless_1 : List UInt8 := [180, 0, 29, 180, 0, 153, 29, 21, 4, 182, 0, 178, 54, 5, 29, 21, 4, 159, 0, 16, 21, 5, 29]
abbrev dktX1_needless_1 : List UInt8 := dkwX1_needless_1 ++ dktX1_needless_2
def dkwX1_needless_0 : List UInt8 := [42, 182, 0, 184, 76, 3, 61, 3, 62, 29, 7, 162, 0, 124, 3, 54, 4, 21, 4, 7, 162, 0, 109, 42]
abbrev dktX1_needless_0 : List UInt8 := dkwX1_needless_0 ++ dktX1_needless_1
theorem dksX1_needless_0 : cX1_needless.data.toList.drop 0 = dktX1_needless_0 := by decide +kernel
theorem dksX1_needless_1 : cX1_needless.data.toList.drop 24 = dktX1_needless_1 := dk_seg dksX1_needless_0 24 rfl rfl
theorem dksX1_needless_2 : cX1_needless.data.toList.drop 47 = dktX1_needless_2 := dk_seg dksX1_needless_1 23 rfl rfl
theorem dksX1_needless_3 : cX1_needless.data.toList.drop 71 = dktX1_needless_3 := dk_seg dksX1_needless_2 24 rfl rfl
theorem dksX1_needless_4 : cX1_needless.data.toList.drop 95 = dktX1_needless_4 := dk_seg dksX1_needless_3 24 rfl rfl
theorem dksX1_needless_5 : cX1_needless.data.toList.drop 117 = dktX1_needless_5 := dk_seg dksX1_needless_4 22 rfl rfl
theorem dX1_needless_0 : decode cX1_needless 0 = .ok (.aload_n 0, 1) := dk_42 (dk_at dksX1_needless_0 0 rfl rfl)
theorem dX1_needless_1 : decode cX1_needless 1 = .ok (.invokevirtual 184, 3) := dk_182 0 184 (dk_at dksX1_needless_0 1 rfl rfl)
theorem dX1_needless_4 : decode cX1_needless 4 = .ok (.astore_n 1, 1) := dk_76 (dk_at dksX1_needless_0 4 rfl rfl)
theorem dX1_needless_5 : decode cX1_needless 5 = .ok (.iconst 0, 1) := dk_3 (dk_at dksX1_needless_0 5 rfl rfl)
theorem dX1_needless_6 : decode cX1_needless 6 = .ok (.istore_n 2, 1) := dk_61 (dk_at dksX1_needless_0 6 rfl rfl)
theorem dX1_needless_7 : decode cX1_needless 7 = .ok (.iconst 0, 1) := dk_3 (dk_at dksX1_needless_0 7 rfl rfl)
theorem dX1_needless_8 : decode cX1_needless 8 = .ok (.istore_n 3, 1) := dk_62 (dk_at dksX1_needless_0 8 rfl rfl)
theorem dX1_needless_9 : decode cX1_needless 9 = .ok (.iload_n 3, 1) := dk_29 (dk_at dksX1_needless_0 9 rfl rfl)
theorem dX1_needless_10 : decode cX1_needless 10 = .ok (.iconst 4, 1) := dk_7 (dk_at dksX1_needless_0 10 rfl rfl)
theorem dX1_needless_11 : decode cX1_needless 11 = .ok (.if_icmp .ge 124, 3) := dk_162 0 124 (dk_at dksX1_needless_0 11 rfl rfl)
theorem dX1_needless_14 : decode cX1_needless 14 = .ok (.iconst 0, 1) := dk_3 (dk_at dksX1_needless_0 14 rfl rfl)
theorem dX1_needless_15 : decode cX1_needless 15 = .ok (.istore 4, 2) := dk_54 4 (dk_at dksX1_needless_0 15 rfl rfl)
theorem dX1_needless_17 : decode cX1_needless 17 = .ok (.iload 4, 2) := dk_21 4 (dk_at dksX1_needless_0 17 rfl rfl)
theorem dX1_needless_19 : decode cX1_needless 19 = .ok (.iconst 4, 1) := dk_7 (dk_at dksX1_needless_0 19 rfl rfl)
theorem dX1_needless_20 : decode cX1_needless 20 = .ok (.if_icmp .ge 109, 3) := dk_162 0 109 (dk_at dksX1_needless_0 20 rfl rfl)
theorem dX1_needless_23 : decode cX1_needless 23 = .ok (.aload_n 0, 1) := dk_42 (dk_at dksX1_needless_0 23 rfl rfl)
theorem dX1_needless_24 : decode cX1_needless 24 = .ok (.getfield 29, 3) := dk_180 0 29 (dk_at dksX1_needless_1 0 rfl rfl)
theorem dX1_needless_27 : decode cX1_needless 27 = .ok (.getfield 153, 3) := dk_180 0 153 (dk_at dksX1_needless_1 3 rfl rfl)
theorem dX1_needless_30 : decode cX1_needless 30 = .ok (.iload_n 3, 1) := dk_29 (dk_at dksX1_needless_1 6 rfl rfl)
theorem dX1_needless_31 : decode cX1_needless 31 = .ok (.iload 4, 2) := dk_21 4 (dk_at dksX1_needless_1 7 rfl rfl)
theorem dX1_needless_33 : decode cX1_needless 33 = .ok (.invokevirtual 178, 3) := dk_182 0 178 (dk_at dksX1_needless_1 9 rfl rfl)
theorem dX1_needless_36 : decode cX1_needless 36 = .ok (.istore 5, 2) := dk_54 5 (dk_at dksX1_needless_1 12 rfl rfl)
theorem dX1_needless_38 : decode cX1_needless 38 = .ok (.iload_n 3, 1) := dk_29 (dk_at dksX1_needless_1 14 rfl rfl)
theorem dX1_needless_39 : decode cX1_needless 39 = .ok (.iload 4, 2) := dk_21 4 (dk_at dksX1_needless_1 15 rfl rfl)
theorem dX1_needless_41 : decode cX1_needless 41 = .ok (.if_icmp .eq 16, 3) := dk_159 0 16 (dk_at dksX1_needless_1 17 rfl rfl)
theorem dX1_needless_44 : decode cX1_needless 44 = .ok (.iload 5, 2) := dk_21 5 (dk_at dksX1_needless_1 20 rfl rfl)
theorem dX1_needless_46 : decode cX1_needless 46 = .ok (.iload_n 3, 1) := dk_29 (dk_at dksX1_needless_1 22 rfl rfl)
theorem dX1_needless_47 : decode cX1_needless 47 = .ok (.invokestatic 216, 3) := dk_184 0 216 (dk_at dksX1_needless_2 0 rfl rfl)
theorem dX1_needless_50 : decode cX1_needless 50 = .ok (.if_icmp .eq 7, 3) := dk_159 0 7 (dk_at dksX1_needless_2 3 rfl rfl)
theorem dX1_needless_53 : decode cX1_needless 53 = .ok (.iconst 1, 1) := dk_4 (dk_at dksX1_needless_2 6 rfl rfl)
theorem dX1_needless_54 : decode cX1_needless 54 = .ok (.goto 4, 3) := dk_167 0 4 (dk_at dksX1_needless_2 7 rfl rfl)
theorem dX1_needless_57 : decode cX1_needless 57 = .ok (.iconst 0, 1) := dk_3 (dk_at dksX1_needless_2 10 rfl rfl)
theorem dX1_needless_58 : decode cX1_needless 58 = .ok (.istore 6, 2) := dk_54 6 (dk_at dksX1_needless_2 11 rfl rfl)
theorem dX1_needless_60 : decode cX1_needless 60 = .ok (.new 158, 3) := dk_187 0 158 (dk_at dksX1_needless_2 13 rfl rfl)
theorem dX1_needless_63 : decode cX1_needless 63 = .ok (.dup, 1) := dk_89 (dk_at dksX1_needless_2 16 rfl rfl)
theorem dX1_needless_64 : decode cX1_needless 64 = .ok (.aload_n 0, 1) := dk_42 (dk_at dksX1_needless_2 17 rfl rfl)
theorem dX1_needless_65 : decode cX1_needless 65 = .ok (.getfield 29, 3) := dk_180 0 29 (dk_at dksX1_needless_2 18 rfl rfl)
theorem dX1_needless_68 : decode cX1_needless 68 = .ok (.getfield 153, 3) := dk_180 0 153 (dk_at dksX1_needless_2 21 rfl rfl)
theorem dX1_needless_71 : decode cX1_needless 71 = .ok (.invokespecial 219, 3) := dk_183 0 219 (dk_at dksX1_needless_3 0 rfl rfl)
theorem dX1_needless_74 : decode cX1_needless 74 = .ok (.astore 7, 2) := dk_58 7 (dk_at dksX1_needless_3 3 rfl rfl)
theorem dX1_needless_76 : decode cX1_needless 76 = .ok (.aload 7, 2) := dk_25 7 (dk_at dksX1_needless_3 5 rfl rfl)
theorem dX1_needless_78 : decode cX1_needless 78 = .ok (.iload_n 3, 1) := dk_29 (dk_at dksX1_needless_3 7 rfl rfl)
theorem dX1_needless_79 : decode cX1_needless 79 = .ok (.iload 4, 2) := dk_21 4 (dk_at dksX1_needless_3 8 rfl rfl)
theorem dX1_needless_81 : decode cX1_needless 81 = .ok (.iload_n 3, 1) := dk_29 (dk_at dksX1_needless_3 10 rfl rfl)
theorem dX1_needless_82 : decode cX1_needless 82 = .ok (.iload 4, 2) := dk_21 4 (dk_at dksX1_needless_3 11 rfl rfl)
theorem dX1_needless_84 : decode cX1_needless 84 = .ok (.if_icmp .ne 7, 3) := dk_160 0 7 (dk_at dksX1_needless_3 13 rfl rfl)
theorem dX1_needless_87 : decode cX1_needless 87 = .ok (.iconst 0, 1) := dk_3 (dk_at dksX1_needless_3 16 rfl rfl)
theorem dX1_needless_88 : decode cX1_needless 88 = .ok (.goto 7, 3) := dk_167 0 7 (dk_at dksX1_needless_3 17 rfl rfl)
theorem dX1_needless_91 : decode cX1_needless 91 = .ok (.iload_n 3, 1) := dk_29 (dk_at dksX1_needless_3 20 rfl rfl)
theorem dX1_needless_92 : decode cX1_needless 92 = .ok (.invokestatic 216, 3) := dk_184 0 216 (dk_at dksX1_needless_3 21 rfl rfl)
theorem dX1_needless_95 : decode cX1_needless 95 = .ok (.invokevirtual 222, 3) := dk_182 0 222 (dk_at dksX1_needless_4 0 rfl rfl)
theorem dX1_needless_98 : decode cX1_needless 98 = .ok (.iload_n 2, 1) := dk_28 (dk_at dksX1_needless_4 3 rfl rfl)
theorem dX1_needless_99 : decode cX1_needless 99 = .ok (.iload 6, 2) := dk_21 6 (dk_at dksX1_needless_4 4 rfl rfl)
theorem dX1_needless_101 : decode cX1_needless 101 = .ok (.ifCond .eq 19, 3) := dk_153 0 19 (dk_at dksX1_needless_4 6 rfl rfl)
theorem dX1_needless_104 : decode cX1_needless 104 = .ok (.aload 7, 2) := dk_25 7 (dk_at dksX1_needless_4 9 rfl rfl)
theorem dX1_needless_106 : decode cX1_needless 106 = .ok (.invokevirtual 157, 3) := dk_182 0 157 (dk_at dksX1_needless_4 11 rfl rfl)
theorem dX1_needless_109 : decode cX1_needless 109 = .ok (.aload_n 1, 1) := dk_43 (dk_at dksX1_needless_4 14 rfl rfl)
theorem dX1_needless_110 : decode cX1_needless 110 = .ok (.invokevirtual 187, 3) := dk_182 0 187 (dk_at dksX1_needless_4 15 rfl rfl)
theorem dX1_needless_113 : decode cX1_needless 113 = .ok (.ifCond .ne 7, 3) := dk_154 0 7 (dk_at dksX1_needless_4 18 rfl rfl)
theorem dX1_needless_116 : decode cX1_needless 116 = .ok (.iconst 1, 1) := dk_4 (dk_at dksX1_needless_4 21 rfl rfl)
theorem dX1_needless_117 : decode cX1_needless 117 = .ok (.goto 4, 3) := dk_167 0 4 (dk_at dksX1_needless_5 0 rfl rfl)
theorem dX1_needless_120 : decode cX1_needless 120 = .ok (.iconst 0, 1) := dk_3 (dk_at dksX1_needless_5 3 rfl rfl)
theorem dX1_needless_121 : decode cX1_needless 121 = .ok (.iadd, 1) := dk_96 (dk_at dksX1_needless_5 4 rfl rfl)
theorem dX1_needless_122 : decode cX1_needless 122 = .ok (.istore_n 2, 1) := dk_61 (dk_at dksX1_needless_5 5 rfl rfl)
theorem dX1_needless_123 : decode cX1_needless 123 = .ok (.iinc 4 1, 3) := dk_132 4 1 (dk_at dksX1_needless_5 6 rfl rfl)
theorem dX1_needless_126 : decode cX1_needless 126 = .ok (.goto (-109), 3) := dk_167 255 147 (dk_at dksX1_needless_5 9 rfl rfl)
theorem dX1_needless_129 : decode cX1_needless 129 = .ok (.iinc 3 1, 3) := dk_132 3 1 (dk_at dksX1_needless_5 12 rfl rfl)
theorem dX1_needless_132 : decode cX1_needless 132 = .ok (.goto (-123), 3) := dk_167 255 133 (dk_at dksX1_needless_5 15 rfl rfl)
theorem dX1_needless_135 : decode cX1_needless 135 = .ok (.iload_n 2, 1) := dk_28 (dk_at dksX1_needless_5 18 rfl rfl)
theorem dX1_needless_136 : decode cX1_needless 136 = .ok (.ireturn, 1) := dk_172 (dk_at dksX1_needless_5 19 rfl rfl)
abbrev cX1_isShelfEmpty : ByteArray := prog_1_method_51_code
def yX1_isShelfEmpty : MethodName := ⟨RX1, "isShelfEmpty", "(I)Z"⟩
def dkwX1_isShelfEmpty_1 : List UInt8 := [172]
abbrev dktX1_isShelfEmpty_1 : List UInt8 := dkwX1_isShelfEmpty_1 ++ []
def dkwX1_isShelfEmpty_0 : List UInt8 := [27, 184, 0, 226, 184, 0, 175, 42, 180, 0, 29, 180, 0, 229, 27, 50, 199, 0, 7, 4, 167, 0, 4, 3]
abbrev dktX1_isShelfEmpty_0 : List UInt8 := dkwX1_isShelfEmpty_0 ++ dktX1_isShelfEmpty_1
theorem dksX1_isShelfEmpty_0 : cX1_isShelfEmpty.data.toList.drop 0 = dktX1_isShelfEmpty_0 := by decide +kernel
theorem dksX1_isShelfEmpty_1 : cX1_isShelfEmpty.data.toList.drop 24 = dktX1_isShelfEmpty_1 := dk_seg dksX1_isShelfEmpty_0 24 rfl rfl
theorem dX1_isShelfEmpty_0 : decode cX1_isShelfEmpty 0 = .ok (.iload_n 1, 1) := dk_27 (dk_at dksX1_isShelfEmpty_0 0 rfl rfl)
theorem dX1_isShelfEmpty_1 : decode cX1_isShelfEmpty 1 = .ok (.invokestatic 226, 3) := dk_184 0 226 (dk_at dksX1_isShelfEmpty_0 1 rfl rfl)
theorem dX1_isShelfEmpty_4 : decode cX1_isShelfEmpty 4 = .ok (.invokestatic 175, 3) := dk_184 0 175 (dk_at dksX1_isShelfEmpty_0 4 rfl rfl)
theorem dX1_isShelfEmpty_7 : decode cX1_isShelfEmpty 7 = .ok (.aload_n 0, 1) := dk_42 (dk_at dksX1_isShelfEmpty_0 7 rfl rfl)
theorem dX1_isShelfEmpty_8 : decode cX1_isShelfEmpty 8 = .ok (.getfield 29, 3) := dk_180 0 29 (dk_at dksX1_isShelfEmpty_0 8 rfl rfl)
theorem dX1_isShelfEmpty_11 : decode cX1_isShelfEmpty 11 = .ok (.getfield 229, 3) := dk_180 0 229 (dk_at dksX1_isShelfEmpty_0 11 rfl rfl)
theorem dX1_isShelfEmpty_14 : decode cX1_isShelfEmpty 14 = .ok (.iload_n 1, 1) := dk_27 (dk_at dksX1_isShelfEmpty_0 14 rfl rfl)
theorem dX1_isShelfEmpty_15 : decode cX1_isShelfEmpty 15 = .ok (.aaload, 1) := dk_50 (dk_at dksX1_isShelfEmpty_0 15 rfl rfl)
theorem dX1_isShelfEmpty_16 : decode cX1_isShelfEmpty 16 = .ok (.ifnonnull 7, 3) := dk_199 0 7 (dk_at dksX1_isShelfEmpty_0 16 rfl rfl)
theorem dX1_isShelfEmpty_19 : decode cX1_isShelfEmpty 19 = .ok (.iconst 1, 1) := dk_4 (dk_at dksX1_isShelfEmpty_0 19 rfl rfl)
theorem dX1_isShelfEmpty_20 : decode cX1_isShelfEmpty 20 = .ok (.goto 4, 3) := dk_167 0 4 (dk_at dksX1_isShelfEmpty_0 20 rfl rfl)
theorem dX1_isShelfEmpty_23 : decode cX1_isShelfEmpty 23 = .ok (.iconst 0, 1) := dk_3 (dk_at dksX1_isShelfEmpty_0 23 rfl rfl)
theorem dX1_isShelfEmpty_24 : decode cX1_isShelfEmpty 24 = .ok (.ireturn, 1) := dk_172 (dk_at dksX1_isShelfEmpty_1 0 rfl rfl)
abbrev cX1_isWithin : ByteArray := prog_1_method_52_code
def yX1_isWithin : MethodName := ⟨RX1, "isWithin", "(I)Z"⟩
def dkwX1_isWithin_1 : List UInt8 := [45, 44, 182, 0, 237, 153, 0, 7, 4, 167, 0, 4, 3, 172]
abbrev dktX1_isWithin_1 : List UInt8 := dkwX1_isWithin_1 ++ []
def dkwX1_isWithin_0 : List UInt8 := [42, 27, 182, 0, 233, 77, 42, 180, 0, 29, 180, 0, 153, 182, 0, 157, 78, 45, 182, 0, 163, 154, 0, 11]
abbrev dktX1_isWithin_0 : List UInt8 := dkwX1_isWithin_0 ++ dktX1_isWithin_1
theorem dksX1_isWithin_0 : cX1_isWithin.data.toList.drop 0 = dktX1_isWithin_0 := by decide +kernel
theorem dksX1_isWithin_1 : cX1_isWithin.data.toList.drop 24 = dktX1_isWithin_1 := dk_seg dksX1_isWithin_0 24 rfl rfl
theorem dX1_isWithin_0 : decode cX1_isWithin 0 = .ok (.aload_n 0, 1) := dk_42 (dk_at dksX1_isWithin_0 0 rfl rfl)
theorem dX1_isWithin_1 : decode cX1_isWithin 1 = .ok (.iload_n 1, 1) := dk_27 (dk_at dksX1_isWithin_0 1 rfl rfl)
theorem dX1_isWithin_2 : decode cX1_isWithin 2 = .ok (.invokevirtual 233, 3) := dk_182 0 233 (dk_at dksX1_isWithin_0 2 rfl rfl)
theorem dX1_isWithin_5 : decode cX1_isWithin 5 = .ok (.astore_n 2, 1) := dk_77 (dk_at dksX1_isWithin_0 5 rfl rfl)
theorem dX1_isWithin_6 : decode cX1_isWithin 6 = .ok (.aload_n 0, 1) := dk_42 (dk_at dksX1_isWithin_0 6 rfl rfl)
theorem dX1_isWithin_7 : decode cX1_isWithin 7 = .ok (.getfield 29, 3) := dk_180 0 29 (dk_at dksX1_isWithin_0 7 rfl rfl)
theorem dX1_isWithin_10 : decode cX1_isWithin 10 = .ok (.getfield 153, 3) := dk_180 0 153 (dk_at dksX1_isWithin_0 10 rfl rfl)
theorem dX1_isWithin_13 : decode cX1_isWithin 13 = .ok (.invokevirtual 157, 3) := dk_182 0 157 (dk_at dksX1_isWithin_0 13 rfl rfl)
theorem dX1_isWithin_16 : decode cX1_isWithin 16 = .ok (.astore_n 3, 1) := dk_78 (dk_at dksX1_isWithin_0 16 rfl rfl)
theorem dX1_isWithin_17 : decode cX1_isWithin 17 = .ok (.aload_n 3, 1) := dk_45 (dk_at dksX1_isWithin_0 17 rfl rfl)
theorem dX1_isWithin_18 : decode cX1_isWithin 18 = .ok (.invokevirtual 163, 3) := dk_182 0 163 (dk_at dksX1_isWithin_0 18 rfl rfl)
theorem dX1_isWithin_21 : decode cX1_isWithin 21 = .ok (.ifCond .ne 11, 3) := dk_154 0 11 (dk_at dksX1_isWithin_0 21 rfl rfl)
theorem dX1_isWithin_24 : decode cX1_isWithin 24 = .ok (.aload_n 3, 1) := dk_45 (dk_at dksX1_isWithin_1 0 rfl rfl)
theorem dX1_isWithin_25 : decode cX1_isWithin 25 = .ok (.aload_n 2, 1) := dk_44 (dk_at dksX1_isWithin_1 1 rfl rfl)
theorem dX1_isWithin_26 : decode cX1_isWithin 26 = .ok (.invokevirtual 237, 3) := dk_182 0 237 (dk_at dksX1_isWithin_1 2 rfl rfl)
theorem dX1_isWithin_29 : decode cX1_isWithin 29 = .ok (.ifCond .eq 7, 3) := dk_153 0 7 (dk_at dksX1_isWithin_1 5 rfl rfl)
theorem dX1_isWithin_32 : decode cX1_isWithin 32 = .ok (.iconst 1, 1) := dk_4 (dk_at dksX1_isWithin_1 8 rfl rfl)
theorem dX1_isWithin_33 : decode cX1_isWithin 33 = .ok (.goto 4, 3) := dk_167 0 4 (dk_at dksX1_isWithin_1 9 rfl rfl)
theorem dX1_isWithin_36 : decode cX1_isWithin 36 = .ok (.iconst 0, 1) := dk_3 (dk_at dksX1_isWithin_1 12 rfl rfl)
theorem dX1_isWithin_37 : decode cX1_isWithin 37 = .ok (.ireturn, 1) := dk_172 (dk_at dksX1_isWithin_1 13 rfl rfl)
abbrev cX1_shelved : ByteArray := prog_1_method_50_code
def yX1_shelved : MethodName := ⟨RX1, "shelved", "(I)LFerryClocks$Zone;"⟩
def dkwX1_shelved_1 : List UInt8 := [184, 0, 167, 42, 180, 0, 29, 180, 0, 229, 27, 50, 176]
abbrev dktX1_shelved_1 : List UInt8 := dkwX1_shelved_1 ++ []
def dkwX1_shelved_0 : List UInt8 := [27, 184, 0, 226, 184, 0, 175, 42, 180, 0, 29, 180, 0, 229, 27, 50, 198, 0, 7, 4, 167, 0, 4, 3]
abbrev dktX1_shelved_0 : List UInt8 := dkwX1_shelved_0 ++ dktX1_shelved_1
theorem dksX1_shelved_0 : cX1_shelved.data.toList.drop 0 = dktX1_shelved_0 := by decide +kernel
theorem dksX1_shelved_1 : cX1_shelved.data.toList.drop 24 = dktX1_shelved_1 := dk_seg dksX1_shelved_0 24 rfl rfl
theorem dX1_shelved_0 : decode cX1_shelved 0 = .ok (.iload_n 1, 1) := dk_27 (dk_at dksX1_shelved_0 0 rfl rfl)
theorem dX1_shelved_1 : decode cX1_shelved 1 = .ok (.invokestatic 226, 3) := dk_184 0 226 (dk_at dksX1_shelved_0 1 rfl rfl)
theorem dX1_shelved_4 : decode cX1_shelved 4 = .ok (.invokestatic 175, 3) := dk_184 0 175 (dk_at dksX1_shelved_0 4 rfl rfl)
theorem dX1_shelved_7 : decode cX1_shelved 7 = .ok (.aload_n 0, 1) := dk_42 (dk_at dksX1_shelved_0 7 rfl rfl)
theorem dX1_shelved_8 : decode cX1_shelved 8 = .ok (.getfield 29, 3) := dk_180 0 29 (dk_at dksX1_shelved_0 8 rfl rfl)
theorem dX1_shelved_11 : decode cX1_shelved 11 = .ok (.getfield 229, 3) := dk_180 0 229 (dk_at dksX1_shelved_0 11 rfl rfl)
theorem dX1_shelved_14 : decode cX1_shelved 14 = .ok (.iload_n 1, 1) := dk_27 (dk_at dksX1_shelved_0 14 rfl rfl)
theorem dX1_shelved_15 : decode cX1_shelved 15 = .ok (.aaload, 1) := dk_50 (dk_at dksX1_shelved_0 15 rfl rfl)
theorem dX1_shelved_16 : decode cX1_shelved 16 = .ok (.ifnull 7, 3) := dk_198 0 7 (dk_at dksX1_shelved_0 16 rfl rfl)
theorem dX1_shelved_19 : decode cX1_shelved 19 = .ok (.iconst 1, 1) := dk_4 (dk_at dksX1_shelved_0 19 rfl rfl)
theorem dX1_shelved_20 : decode cX1_shelved 20 = .ok (.goto 4, 3) := dk_167 0 4 (dk_at dksX1_shelved_0 20 rfl rfl)
theorem dX1_shelved_23 : decode cX1_shelved 23 = .ok (.iconst 0, 1) := dk_3 (dk_at dksX1_shelved_0 23 rfl rfl)
theorem dX1_shelved_24 : decode cX1_shelved 24 = .ok (.invokestatic 167, 3) := dk_184 0 167 (dk_at dksX1_shelved_1 0 rfl rfl)
theorem dX1_shelved_27 : decode cX1_shelved 27 = .ok (.aload_n 0, 1) := dk_42 (dk_at dksX1_shelved_1 3 rfl rfl)
theorem dX1_shelved_28 : decode cX1_shelved 28 = .ok (.getfield 29, 3) := dk_180 0 29 (dk_at dksX1_shelved_1 4 rfl rfl)
theorem dX1_shelved_31 : decode cX1_shelved 31 = .ok (.getfield 229, 3) := dk_180 0 229 (dk_at dksX1_shelved_1 7 rfl rfl)
theorem dX1_shelved_34 : decode cX1_shelved 34 = .ok (.iload_n 1, 1) := dk_27 (dk_at dksX1_shelved_1 10 rfl rfl)
theorem dX1_shelved_35 : decode cX1_shelved 35 = .ok (.aaload, 1) := dk_50 (dk_at dksX1_shelved_1 11 rfl rfl)
theorem dX1_shelved_36 : decode cX1_shelved 36 = .ok (.areturn, 1) := dk_176 (dk_at dksX1_shelved_1 12 rfl rfl)
abbrev cX1_momentsBeyond : ByteArray := prog_1_method_53_code
def yX1_momentsBeyond : MethodName := ⟨RX1, "momentsBeyond", "(I)I"⟩
def dkwX1_momentsBeyond_0 : List UInt8 := [42, 180, 0, 29, 180, 0, 153, 42, 27, 182, 0, 233, 182, 0, 194, 172]
abbrev dktX1_momentsBeyond_0 : List UInt8 := dkwX1_momentsBeyond_0 ++ []
theorem dksX1_momentsBeyond_0 : cX1_momentsBeyond.data.toList.drop 0 = dktX1_momentsBeyond_0 := by decide +kernel
theorem dX1_momentsBeyond_0 : decode cX1_momentsBeyond 0 = .ok (.aload_n 0, 1) := dk_42 (dk_at dksX1_momentsBeyond_0 0 rfl rfl)
theorem dX1_momentsBeyond_1 : decode cX1_momentsBeyond 1 = .ok (.getfield 29, 3) := dk_180 0 29 (dk_at dksX1_momentsBeyond_0 1 rfl rfl)
theorem dX1_momentsBeyond_4 : decode cX1_momentsBeyond 4 = .ok (.getfield 153, 3) := dk_180 0 153 (dk_at dksX1_momentsBeyond_0 4 rfl rfl)
theorem dX1_momentsBeyond_7 : decode cX1_momentsBeyond 7 = .ok (.aload_n 0, 1) := dk_42 (dk_at dksX1_momentsBeyond_0 7 rfl rfl)
theorem dX1_momentsBeyond_8 : decode cX1_momentsBeyond 8 = .ok (.iload_n 1, 1) := dk_27 (dk_at dksX1_momentsBeyond_0 8 rfl rfl)
theorem dX1_momentsBeyond_9 : decode cX1_momentsBeyond 9 = .ok (.invokevirtual 233, 3) := dk_182 0 233 (dk_at dksX1_momentsBeyond_0 9 rfl rfl)
theorem dX1_momentsBeyond_12 : decode cX1_momentsBeyond 12 = .ok (.invokevirtual 194, 3) := dk_182 0 194 (dk_at dksX1_momentsBeyond_0 12 rfl rfl)
theorem dX1_momentsBeyond_15 : decode cX1_momentsBeyond 15 = .ok (.ireturn, 1) := dk_172 (dk_at dksX1_momentsBeyond_0 15 rfl rfl)
abbrev cX1_doMeet : ByteArray := prog_1_method_54_code
def yX1_doMeet : MethodName := ⟨RX1, "doMeet", "(I)Z"⟩
def dkwX1_doMeet_2 : List UInt8 := [184, 0, 245, 79, 132, 3, 1, 167, 255, 220, 44, 182, 0, 191, 154, 0, 7, 4, 167, 0, 4, 3, 172]
abbrev dktX1_doMeet_2 : List UInt8 := dkwX1_doMeet_2 ++ []
def dkwX1_doMeet_1 : List UInt8 := [180, 0, 241, 29, 44, 180, 0, 241, 29, 46, 42, 180, 0, 29, 180, 0, 153, 180, 0, 241, 29, 46]
abbrev dktX1_doMeet_1 : List UInt8 := dkwX1_doMeet_1 ++ dktX1_doMeet_2
def dkwX1_doMeet_0 : List UInt8 := [187, 0, 158, 89, 42, 27, 182, 0, 233, 183, 0, 219, 77, 3, 62, 29, 16, 16, 162, 0, 36, 44]
abbrev dktX1_doMeet_0 : List UInt8 := dkwX1_doMeet_0 ++ dktX1_doMeet_1
theorem dksX1_doMeet_0 : cX1_doMeet.data.toList.drop 0 = dktX1_doMeet_0 := by decide +kernel
theorem dksX1_doMeet_1 : cX1_doMeet.data.toList.drop 22 = dktX1_doMeet_1 := dk_seg dksX1_doMeet_0 22 rfl rfl
theorem dksX1_doMeet_2 : cX1_doMeet.data.toList.drop 44 = dktX1_doMeet_2 := dk_seg dksX1_doMeet_1 22 rfl rfl
theorem dX1_doMeet_0 : decode cX1_doMeet 0 = .ok (.new 158, 3) := dk_187 0 158 (dk_at dksX1_doMeet_0 0 rfl rfl)
theorem dX1_doMeet_3 : decode cX1_doMeet 3 = .ok (.dup, 1) := dk_89 (dk_at dksX1_doMeet_0 3 rfl rfl)
theorem dX1_doMeet_4 : decode cX1_doMeet 4 = .ok (.aload_n 0, 1) := dk_42 (dk_at dksX1_doMeet_0 4 rfl rfl)
theorem dX1_doMeet_5 : decode cX1_doMeet 5 = .ok (.iload_n 1, 1) := dk_27 (dk_at dksX1_doMeet_0 5 rfl rfl)
theorem dX1_doMeet_6 : decode cX1_doMeet 6 = .ok (.invokevirtual 233, 3) := dk_182 0 233 (dk_at dksX1_doMeet_0 6 rfl rfl)
theorem dX1_doMeet_9 : decode cX1_doMeet 9 = .ok (.invokespecial 219, 3) := dk_183 0 219 (dk_at dksX1_doMeet_0 9 rfl rfl)
theorem dX1_doMeet_12 : decode cX1_doMeet 12 = .ok (.astore_n 2, 1) := dk_77 (dk_at dksX1_doMeet_0 12 rfl rfl)
theorem dX1_doMeet_13 : decode cX1_doMeet 13 = .ok (.iconst 0, 1) := dk_3 (dk_at dksX1_doMeet_0 13 rfl rfl)
theorem dX1_doMeet_14 : decode cX1_doMeet 14 = .ok (.istore_n 3, 1) := dk_62 (dk_at dksX1_doMeet_0 14 rfl rfl)
theorem dX1_doMeet_15 : decode cX1_doMeet 15 = .ok (.iload_n 3, 1) := dk_29 (dk_at dksX1_doMeet_0 15 rfl rfl)
theorem dX1_doMeet_16 : decode cX1_doMeet 16 = .ok (.bipush 16, 2) := dk_16 16 (dk_at dksX1_doMeet_0 16 rfl rfl)
theorem dX1_doMeet_18 : decode cX1_doMeet 18 = .ok (.if_icmp .ge 36, 3) := dk_162 0 36 (dk_at dksX1_doMeet_0 18 rfl rfl)
theorem dX1_doMeet_21 : decode cX1_doMeet 21 = .ok (.aload_n 2, 1) := dk_44 (dk_at dksX1_doMeet_0 21 rfl rfl)
theorem dX1_doMeet_22 : decode cX1_doMeet 22 = .ok (.getfield 241, 3) := dk_180 0 241 (dk_at dksX1_doMeet_1 0 rfl rfl)
theorem dX1_doMeet_25 : decode cX1_doMeet 25 = .ok (.iload_n 3, 1) := dk_29 (dk_at dksX1_doMeet_1 3 rfl rfl)
theorem dX1_doMeet_26 : decode cX1_doMeet 26 = .ok (.aload_n 2, 1) := dk_44 (dk_at dksX1_doMeet_1 4 rfl rfl)
theorem dX1_doMeet_27 : decode cX1_doMeet 27 = .ok (.getfield 241, 3) := dk_180 0 241 (dk_at dksX1_doMeet_1 5 rfl rfl)
theorem dX1_doMeet_30 : decode cX1_doMeet 30 = .ok (.iload_n 3, 1) := dk_29 (dk_at dksX1_doMeet_1 8 rfl rfl)
theorem dX1_doMeet_31 : decode cX1_doMeet 31 = .ok (.iaload, 1) := dk_46 (dk_at dksX1_doMeet_1 9 rfl rfl)
theorem dX1_doMeet_32 : decode cX1_doMeet 32 = .ok (.aload_n 0, 1) := dk_42 (dk_at dksX1_doMeet_1 10 rfl rfl)
theorem dX1_doMeet_33 : decode cX1_doMeet 33 = .ok (.getfield 29, 3) := dk_180 0 29 (dk_at dksX1_doMeet_1 11 rfl rfl)
theorem dX1_doMeet_36 : decode cX1_doMeet 36 = .ok (.getfield 153, 3) := dk_180 0 153 (dk_at dksX1_doMeet_1 14 rfl rfl)
theorem dX1_doMeet_39 : decode cX1_doMeet 39 = .ok (.getfield 241, 3) := dk_180 0 241 (dk_at dksX1_doMeet_1 17 rfl rfl)
theorem dX1_doMeet_42 : decode cX1_doMeet 42 = .ok (.iload_n 3, 1) := dk_29 (dk_at dksX1_doMeet_1 20 rfl rfl)
theorem dX1_doMeet_43 : decode cX1_doMeet 43 = .ok (.iaload, 1) := dk_46 (dk_at dksX1_doMeet_1 21 rfl rfl)
theorem dX1_doMeet_44 : decode cX1_doMeet 44 = .ok (.invokestatic 245, 3) := dk_184 0 245 (dk_at dksX1_doMeet_2 0 rfl rfl)
theorem dX1_doMeet_47 : decode cX1_doMeet 47 = .ok (.iastore, 1) := dk_79 (dk_at dksX1_doMeet_2 3 rfl rfl)
theorem dX1_doMeet_48 : decode cX1_doMeet 48 = .ok (.iinc 3 1, 3) := dk_132 3 1 (dk_at dksX1_doMeet_2 4 rfl rfl)
theorem dX1_doMeet_51 : decode cX1_doMeet 51 = .ok (.goto (-36), 3) := dk_167 255 220 (dk_at dksX1_doMeet_2 7 rfl rfl)
theorem dX1_doMeet_54 : decode cX1_doMeet 54 = .ok (.aload_n 2, 1) := dk_44 (dk_at dksX1_doMeet_2 10 rfl rfl)
theorem dX1_doMeet_55 : decode cX1_doMeet 55 = .ok (.invokevirtual 191, 3) := dk_182 0 191 (dk_at dksX1_doMeet_2 11 rfl rfl)
theorem dX1_doMeet_58 : decode cX1_doMeet 58 = .ok (.ifCond .ne 7, 3) := dk_154 0 7 (dk_at dksX1_doMeet_2 14 rfl rfl)
theorem dX1_doMeet_61 : decode cX1_doMeet 61 = .ok (.iconst 1, 1) := dk_4 (dk_at dksX1_doMeet_2 17 rfl rfl)
theorem dX1_doMeet_62 : decode cX1_doMeet 62 = .ok (.goto 4, 3) := dk_167 0 4 (dk_at dksX1_doMeet_2 18 rfl rfl)
theorem dX1_doMeet_65 : decode cX1_doMeet 65 = .ok (.iconst 0, 1) := dk_3 (dk_at dksX1_doMeet_2 21 rfl rfl)
theorem dX1_doMeet_66 : decode cX1_doMeet 66 = .ok (.ireturn, 1) := dk_172 (dk_at dksX1_doMeet_2 22 rfl rfl)
abbrev cX1_stayOf : ByteArray := prog_1_method_57_code
def yX1_stayOf : MethodName := ⟨RX1, "stayOf", "(II)I"⟩
def dkwX1_stayOf_1 : List UInt8 := [180, 0, 29, 27, 28, 182, 1, 14, 172]
abbrev dktX1_stayOf_1 : List UInt8 := dkwX1_stayOf_1 ++ []
def dkwX1_stayOf_0 : List UInt8 := [27, 184, 1, 11, 153, 0, 14, 28, 184, 0, 204, 153, 0, 7, 4, 167, 0, 4, 3, 184, 0, 175, 42]
abbrev dktX1_stayOf_0 : List UInt8 := dkwX1_stayOf_0 ++ dktX1_stayOf_1
theorem dksX1_stayOf_0 : cX1_stayOf.data.toList.drop 0 = dktX1_stayOf_0 := by decide +kernel
theorem dksX1_stayOf_1 : cX1_stayOf.data.toList.drop 23 = dktX1_stayOf_1 := dk_seg dksX1_stayOf_0 23 rfl rfl
theorem dX1_stayOf_0 : decode cX1_stayOf 0 = .ok (.iload_n 1, 1) := dk_27 (dk_at dksX1_stayOf_0 0 rfl rfl)
theorem dX1_stayOf_1 : decode cX1_stayOf 1 = .ok (.invokestatic 267, 3) := dk_184 1 11 (dk_at dksX1_stayOf_0 1 rfl rfl)
theorem dX1_stayOf_4 : decode cX1_stayOf 4 = .ok (.ifCond .eq 14, 3) := dk_153 0 14 (dk_at dksX1_stayOf_0 4 rfl rfl)
theorem dX1_stayOf_7 : decode cX1_stayOf 7 = .ok (.iload_n 2, 1) := dk_28 (dk_at dksX1_stayOf_0 7 rfl rfl)
theorem dX1_stayOf_8 : decode cX1_stayOf 8 = .ok (.invokestatic 204, 3) := dk_184 0 204 (dk_at dksX1_stayOf_0 8 rfl rfl)
theorem dX1_stayOf_11 : decode cX1_stayOf 11 = .ok (.ifCond .eq 7, 3) := dk_153 0 7 (dk_at dksX1_stayOf_0 11 rfl rfl)
theorem dX1_stayOf_14 : decode cX1_stayOf 14 = .ok (.iconst 1, 1) := dk_4 (dk_at dksX1_stayOf_0 14 rfl rfl)
theorem dX1_stayOf_15 : decode cX1_stayOf 15 = .ok (.goto 4, 3) := dk_167 0 4 (dk_at dksX1_stayOf_0 15 rfl rfl)
theorem dX1_stayOf_18 : decode cX1_stayOf 18 = .ok (.iconst 0, 1) := dk_3 (dk_at dksX1_stayOf_0 18 rfl rfl)
theorem dX1_stayOf_19 : decode cX1_stayOf 19 = .ok (.invokestatic 175, 3) := dk_184 0 175 (dk_at dksX1_stayOf_0 19 rfl rfl)
theorem dX1_stayOf_22 : decode cX1_stayOf 22 = .ok (.aload_n 0, 1) := dk_42 (dk_at dksX1_stayOf_0 22 rfl rfl)
theorem dX1_stayOf_23 : decode cX1_stayOf 23 = .ok (.getfield 29, 3) := dk_180 0 29 (dk_at dksX1_stayOf_1 0 rfl rfl)
theorem dX1_stayOf_26 : decode cX1_stayOf 26 = .ok (.iload_n 1, 1) := dk_27 (dk_at dksX1_stayOf_1 3 rfl rfl)
theorem dX1_stayOf_27 : decode cX1_stayOf 27 = .ok (.iload_n 2, 1) := dk_28 (dk_at dksX1_stayOf_1 4 rfl rfl)
theorem dX1_stayOf_28 : decode cX1_stayOf 28 = .ok (.invokevirtual 270, 3) := dk_182 1 14 (dk_at dksX1_stayOf_1 5 rfl rfl)
theorem dX1_stayOf_31 : decode cX1_stayOf 31 = .ok (.ireturn, 1) := dk_172 (dk_at dksX1_stayOf_1 8 rfl rfl)
abbrev cX1_fromOf : ByteArray := prog_1_method_59_code
def yX1_fromOf : MethodName := ⟨RX1, "fromOf", "(I)I"⟩
def dkwX1_fromOf_0 : List UInt8 := [42, 27, 182, 1, 18, 180, 1, 22, 172]
abbrev dktX1_fromOf_0 : List UInt8 := dkwX1_fromOf_0 ++ []
theorem dksX1_fromOf_0 : cX1_fromOf.data.toList.drop 0 = dktX1_fromOf_0 := by decide +kernel
theorem dX1_fromOf_0 : decode cX1_fromOf 0 = .ok (.aload_n 0, 1) := dk_42 (dk_at dksX1_fromOf_0 0 rfl rfl)
theorem dX1_fromOf_1 : decode cX1_fromOf 1 = .ok (.iload_n 1, 1) := dk_27 (dk_at dksX1_fromOf_0 1 rfl rfl)
theorem dX1_fromOf_2 : decode cX1_fromOf 2 = .ok (.invokevirtual 274, 3) := dk_182 1 18 (dk_at dksX1_fromOf_0 2 rfl rfl)
theorem dX1_fromOf_5 : decode cX1_fromOf 5 = .ok (.getfield 278, 3) := dk_180 1 22 (dk_at dksX1_fromOf_0 5 rfl rfl)
theorem dX1_fromOf_8 : decode cX1_fromOf 8 = .ok (.ireturn, 1) := dk_172 (dk_at dksX1_fromOf_0 8 rfl rfl)
abbrev cX1_lineAt : ByteArray := prog_1_method_55_code
def yX1_lineAt : MethodName := ⟨RX1, "lineAt", "(I)LFerryClocks$Line;"⟩
def dkwX1_lineAt_1 : List UInt8 := [192, 1, 5, 176]
abbrev dktX1_lineAt_1 : List UInt8 := dkwX1_lineAt_1 ++ []
def dkwX1_lineAt_0 : List UInt8 := [42, 180, 0, 29, 27, 182, 0, 248, 184, 0, 175, 42, 180, 0, 29, 180, 0, 251, 27, 182, 0, 255]
abbrev dktX1_lineAt_0 : List UInt8 := dkwX1_lineAt_0 ++ dktX1_lineAt_1
theorem dksX1_lineAt_0 : cX1_lineAt.data.toList.drop 0 = dktX1_lineAt_0 := by decide +kernel
theorem dksX1_lineAt_1 : cX1_lineAt.data.toList.drop 22 = dktX1_lineAt_1 := dk_seg dksX1_lineAt_0 22 rfl rfl
theorem dX1_lineAt_0 : decode cX1_lineAt 0 = .ok (.aload_n 0, 1) := dk_42 (dk_at dksX1_lineAt_0 0 rfl rfl)
theorem dX1_lineAt_1 : decode cX1_lineAt 1 = .ok (.getfield 29, 3) := dk_180 0 29 (dk_at dksX1_lineAt_0 1 rfl rfl)
theorem dX1_lineAt_4 : decode cX1_lineAt 4 = .ok (.iload_n 1, 1) := dk_27 (dk_at dksX1_lineAt_0 4 rfl rfl)
theorem dX1_lineAt_5 : decode cX1_lineAt 5 = .ok (.invokevirtual 248, 3) := dk_182 0 248 (dk_at dksX1_lineAt_0 5 rfl rfl)
theorem dX1_lineAt_8 : decode cX1_lineAt 8 = .ok (.invokestatic 175, 3) := dk_184 0 175 (dk_at dksX1_lineAt_0 8 rfl rfl)
theorem dX1_lineAt_11 : decode cX1_lineAt 11 = .ok (.aload_n 0, 1) := dk_42 (dk_at dksX1_lineAt_0 11 rfl rfl)
theorem dX1_lineAt_12 : decode cX1_lineAt 12 = .ok (.getfield 29, 3) := dk_180 0 29 (dk_at dksX1_lineAt_0 12 rfl rfl)
theorem dX1_lineAt_15 : decode cX1_lineAt 15 = .ok (.getfield 251, 3) := dk_180 0 251 (dk_at dksX1_lineAt_0 15 rfl rfl)
theorem dX1_lineAt_18 : decode cX1_lineAt 18 = .ok (.iload_n 1, 1) := dk_27 (dk_at dksX1_lineAt_0 18 rfl rfl)
theorem dX1_lineAt_19 : decode cX1_lineAt 19 = .ok (.invokevirtual 255, 3) := dk_182 0 255 (dk_at dksX1_lineAt_0 19 rfl rfl)
theorem dX1_lineAt_22 : decode cX1_lineAt 22 = .ok (.checkcast 261, 3) := dk_192 1 5 (dk_at dksX1_lineAt_1 0 rfl rfl)
theorem dX1_lineAt_25 : decode cX1_lineAt 25 = .ok (.areturn, 1) := dk_176 (dk_at dksX1_lineAt_1 3 rfl rfl)
abbrev cX1_toOf : ByteArray := prog_1_method_60_code
def yX1_toOf : MethodName := ⟨RX1, "toOf", "(I)I"⟩
def dkwX1_toOf_0 : List UInt8 := [42, 27, 182, 1, 18, 180, 1, 25, 172]
abbrev dktX1_toOf_0 : List UInt8 := dkwX1_toOf_0 ++ []
theorem dksX1_toOf_0 : cX1_toOf.data.toList.drop 0 = dktX1_toOf_0 := by decide +kernel
theorem dX1_toOf_0 : decode cX1_toOf 0 = .ok (.aload_n 0, 1) := dk_42 (dk_at dksX1_toOf_0 0 rfl rfl)
theorem dX1_toOf_1 : decode cX1_toOf 1 = .ok (.iload_n 1, 1) := dk_27 (dk_at dksX1_toOf_0 1 rfl rfl)
theorem dX1_toOf_2 : decode cX1_toOf 2 = .ok (.invokevirtual 274, 3) := dk_182 1 18 (dk_at dksX1_toOf_0 2 rfl rfl)
theorem dX1_toOf_5 : decode cX1_toOf 5 = .ok (.getfield 281, 3) := dk_180 1 25 (dk_at dksX1_toOf_0 5 rfl rfl)
theorem dX1_toOf_8 : decode cX1_toOf 8 = .ok (.ireturn, 1) := dk_172 (dk_at dksX1_toOf_0 8 rfl rfl)
abbrev cX1_doesReset : ByteArray := prog_1_method_61_code
def yX1_doesReset : MethodName := ⟨RX1, "doesReset", "(II)Z"⟩
def dkwX1_doesReset_1 : List UInt8 := [184, 0, 175, 42, 180, 0, 29, 180, 0, 251, 27, 182, 0, 255, 192, 1, 5, 28, 182, 1, 28, 172]
abbrev dktX1_doesReset_1 : List UInt8 := dkwX1_doesReset_1 ++ []
def dkwX1_doesReset_0 : List UInt8 := [42, 180, 0, 29, 27, 182, 0, 248, 153, 0, 14, 28, 184, 0, 204, 153, 0, 7, 4, 167, 0, 4, 3]
abbrev dktX1_doesReset_0 : List UInt8 := dkwX1_doesReset_0 ++ dktX1_doesReset_1
theorem dksX1_doesReset_0 : cX1_doesReset.data.toList.drop 0 = dktX1_doesReset_0 := by decide +kernel
theorem dksX1_doesReset_1 : cX1_doesReset.data.toList.drop 23 = dktX1_doesReset_1 := dk_seg dksX1_doesReset_0 23 rfl rfl
theorem dX1_doesReset_0 : decode cX1_doesReset 0 = .ok (.aload_n 0, 1) := dk_42 (dk_at dksX1_doesReset_0 0 rfl rfl)
theorem dX1_doesReset_1 : decode cX1_doesReset 1 = .ok (.getfield 29, 3) := dk_180 0 29 (dk_at dksX1_doesReset_0 1 rfl rfl)
theorem dX1_doesReset_4 : decode cX1_doesReset 4 = .ok (.iload_n 1, 1) := dk_27 (dk_at dksX1_doesReset_0 4 rfl rfl)
theorem dX1_doesReset_5 : decode cX1_doesReset 5 = .ok (.invokevirtual 248, 3) := dk_182 0 248 (dk_at dksX1_doesReset_0 5 rfl rfl)
theorem dX1_doesReset_8 : decode cX1_doesReset 8 = .ok (.ifCond .eq 14, 3) := dk_153 0 14 (dk_at dksX1_doesReset_0 8 rfl rfl)
theorem dX1_doesReset_11 : decode cX1_doesReset 11 = .ok (.iload_n 2, 1) := dk_28 (dk_at dksX1_doesReset_0 11 rfl rfl)
theorem dX1_doesReset_12 : decode cX1_doesReset 12 = .ok (.invokestatic 204, 3) := dk_184 0 204 (dk_at dksX1_doesReset_0 12 rfl rfl)
theorem dX1_doesReset_15 : decode cX1_doesReset 15 = .ok (.ifCond .eq 7, 3) := dk_153 0 7 (dk_at dksX1_doesReset_0 15 rfl rfl)
theorem dX1_doesReset_18 : decode cX1_doesReset 18 = .ok (.iconst 1, 1) := dk_4 (dk_at dksX1_doesReset_0 18 rfl rfl)
theorem dX1_doesReset_19 : decode cX1_doesReset 19 = .ok (.goto 4, 3) := dk_167 0 4 (dk_at dksX1_doesReset_0 19 rfl rfl)
theorem dX1_doesReset_22 : decode cX1_doesReset 22 = .ok (.iconst 0, 1) := dk_3 (dk_at dksX1_doesReset_0 22 rfl rfl)
theorem dX1_doesReset_23 : decode cX1_doesReset 23 = .ok (.invokestatic 175, 3) := dk_184 0 175 (dk_at dksX1_doesReset_1 0 rfl rfl)
theorem dX1_doesReset_26 : decode cX1_doesReset 26 = .ok (.aload_n 0, 1) := dk_42 (dk_at dksX1_doesReset_1 3 rfl rfl)
theorem dX1_doesReset_27 : decode cX1_doesReset 27 = .ok (.getfield 29, 3) := dk_180 0 29 (dk_at dksX1_doesReset_1 4 rfl rfl)
theorem dX1_doesReset_30 : decode cX1_doesReset 30 = .ok (.getfield 251, 3) := dk_180 0 251 (dk_at dksX1_doesReset_1 7 rfl rfl)
theorem dX1_doesReset_33 : decode cX1_doesReset 33 = .ok (.iload_n 1, 1) := dk_27 (dk_at dksX1_doesReset_1 10 rfl rfl)
theorem dX1_doesReset_34 : decode cX1_doesReset 34 = .ok (.invokevirtual 255, 3) := dk_182 0 255 (dk_at dksX1_doesReset_1 11 rfl rfl)
theorem dX1_doesReset_37 : decode cX1_doesReset 37 = .ok (.checkcast 261, 3) := dk_192 1 5 (dk_at dksX1_doesReset_1 14 rfl rfl)
theorem dX1_doesReset_40 : decode cX1_doesReset 40 = .ok (.iload_n 2, 1) := dk_28 (dk_at dksX1_doesReset_1 17 rfl rfl)
theorem dX1_doesReset_41 : decode cX1_doesReset 41 = .ok (.invokevirtual 284, 3) := dk_182 1 28 (dk_at dksX1_doesReset_1 18 rfl rfl)
theorem dX1_doesReset_44 : decode cX1_doesReset 44 = .ok (.ireturn, 1) := dk_172 (dk_at dksX1_doesReset_1 21 rfl rfl)
abbrev cX1_reachable : ByteArray := prog_1_method_62_code
def yX1_reachable : MethodName := ⟨RX1, "reachable", "()I"⟩
def dkwX1_reachable_1 : List UInt8 := [192, 1, 34, 180, 1, 36, 120, 128, 61, 132, 3, 1, 167, 255, 229, 28, 172]
abbrev dktX1_reachable_1 : List UInt8 := dkwX1_reachable_1 ++ []
def dkwX1_reachable_0 : List UInt8 := [42, 182, 1, 31, 76, 3, 61, 3, 62, 29, 43, 182, 1, 17, 162, 0, 25, 28, 4, 43, 29, 182, 0, 255]
abbrev dktX1_reachable_0 : List UInt8 := dkwX1_reachable_0 ++ dktX1_reachable_1
theorem dksX1_reachable_0 : cX1_reachable.data.toList.drop 0 = dktX1_reachable_0 := by decide +kernel
theorem dksX1_reachable_1 : cX1_reachable.data.toList.drop 24 = dktX1_reachable_1 := dk_seg dksX1_reachable_0 24 rfl rfl
theorem dX1_reachable_0 : decode cX1_reachable 0 = .ok (.aload_n 0, 1) := dk_42 (dk_at dksX1_reachable_0 0 rfl rfl)
theorem dX1_reachable_1 : decode cX1_reachable 1 = .ok (.invokevirtual 287, 3) := dk_182 1 31 (dk_at dksX1_reachable_0 1 rfl rfl)
theorem dX1_reachable_4 : decode cX1_reachable 4 = .ok (.astore_n 1, 1) := dk_76 (dk_at dksX1_reachable_0 4 rfl rfl)
theorem dX1_reachable_5 : decode cX1_reachable 5 = .ok (.iconst 0, 1) := dk_3 (dk_at dksX1_reachable_0 5 rfl rfl)
theorem dX1_reachable_6 : decode cX1_reachable 6 = .ok (.istore_n 2, 1) := dk_61 (dk_at dksX1_reachable_0 6 rfl rfl)
theorem dX1_reachable_7 : decode cX1_reachable 7 = .ok (.iconst 0, 1) := dk_3 (dk_at dksX1_reachable_0 7 rfl rfl)
theorem dX1_reachable_8 : decode cX1_reachable 8 = .ok (.istore_n 3, 1) := dk_62 (dk_at dksX1_reachable_0 8 rfl rfl)
theorem dX1_reachable_9 : decode cX1_reachable 9 = .ok (.iload_n 3, 1) := dk_29 (dk_at dksX1_reachable_0 9 rfl rfl)
theorem dX1_reachable_10 : decode cX1_reachable 10 = .ok (.aload_n 1, 1) := dk_43 (dk_at dksX1_reachable_0 10 rfl rfl)
theorem dX1_reachable_11 : decode cX1_reachable 11 = .ok (.invokevirtual 273, 3) := dk_182 1 17 (dk_at dksX1_reachable_0 11 rfl rfl)
theorem dX1_reachable_14 : decode cX1_reachable 14 = .ok (.if_icmp .ge 25, 3) := dk_162 0 25 (dk_at dksX1_reachable_0 14 rfl rfl)
theorem dX1_reachable_17 : decode cX1_reachable 17 = .ok (.iload_n 2, 1) := dk_28 (dk_at dksX1_reachable_0 17 rfl rfl)
theorem dX1_reachable_18 : decode cX1_reachable 18 = .ok (.iconst 1, 1) := dk_4 (dk_at dksX1_reachable_0 18 rfl rfl)
theorem dX1_reachable_19 : decode cX1_reachable 19 = .ok (.aload_n 1, 1) := dk_43 (dk_at dksX1_reachable_0 19 rfl rfl)
theorem dX1_reachable_20 : decode cX1_reachable 20 = .ok (.iload_n 3, 1) := dk_29 (dk_at dksX1_reachable_0 20 rfl rfl)
theorem dX1_reachable_21 : decode cX1_reachable 21 = .ok (.invokevirtual 255, 3) := dk_182 0 255 (dk_at dksX1_reachable_0 21 rfl rfl)
theorem dX1_reachable_24 : decode cX1_reachable 24 = .ok (.checkcast 290, 3) := dk_192 1 34 (dk_at dksX1_reachable_1 0 rfl rfl)
theorem dX1_reachable_27 : decode cX1_reachable 27 = .ok (.getfield 292, 3) := dk_180 1 36 (dk_at dksX1_reachable_1 3 rfl rfl)
theorem dX1_reachable_30 : decode cX1_reachable 30 = .ok (.ishl, 1) := dk_120 (dk_at dksX1_reachable_1 6 rfl rfl)
theorem dX1_reachable_31 : decode cX1_reachable 31 = .ok (.ior, 1) := dk_128 (dk_at dksX1_reachable_1 7 rfl rfl)
theorem dX1_reachable_32 : decode cX1_reachable 32 = .ok (.istore_n 2, 1) := dk_61 (dk_at dksX1_reachable_1 8 rfl rfl)
theorem dX1_reachable_33 : decode cX1_reachable 33 = .ok (.iinc 3 1, 3) := dk_132 3 1 (dk_at dksX1_reachable_1 9 rfl rfl)
theorem dX1_reachable_36 : decode cX1_reachable 36 = .ok (.goto (-27), 3) := dk_167 255 229 (dk_at dksX1_reachable_1 12 rfl rfl)
theorem dX1_reachable_39 : decode cX1_reachable 39 = .ok (.iload_n 2, 1) := dk_28 (dk_at dksX1_reachable_1 15 rfl rfl)
theorem dX1_reachable_40 : decode cX1_reachable 40 = .ok (.ireturn, 1) := dk_172 (dk_at dksX1_reachable_1 16 rfl rfl)
abbrev cX1_allStops : ByteArray := prog_1_method_56_code
def yX1_allStops : MethodName := ⟨RX1, "allStops", "()Ljava/util/ArrayList;"⟩
def dkwX1_allStops_0 : List UInt8 := [42, 180, 0, 29, 182, 1, 7, 76, 43, 198, 0, 7, 4, 167, 0, 4, 3, 184, 0, 167, 43, 176]
abbrev dktX1_allStops_0 : List UInt8 := dkwX1_allStops_0 ++ []
theorem dksX1_allStops_0 : cX1_allStops.data.toList.drop 0 = dktX1_allStops_0 := by decide +kernel
theorem dX1_allStops_0 : decode cX1_allStops 0 = .ok (.aload_n 0, 1) := dk_42 (dk_at dksX1_allStops_0 0 rfl rfl)
theorem dX1_allStops_1 : decode cX1_allStops 1 = .ok (.getfield 29, 3) := dk_180 0 29 (dk_at dksX1_allStops_0 1 rfl rfl)
theorem dX1_allStops_4 : decode cX1_allStops 4 = .ok (.invokevirtual 263, 3) := dk_182 1 7 (dk_at dksX1_allStops_0 4 rfl rfl)
theorem dX1_allStops_7 : decode cX1_allStops 7 = .ok (.astore_n 1, 1) := dk_76 (dk_at dksX1_allStops_0 7 rfl rfl)
theorem dX1_allStops_8 : decode cX1_allStops 8 = .ok (.aload_n 1, 1) := dk_43 (dk_at dksX1_allStops_0 8 rfl rfl)
theorem dX1_allStops_9 : decode cX1_allStops 9 = .ok (.ifnull 7, 3) := dk_198 0 7 (dk_at dksX1_allStops_0 9 rfl rfl)
theorem dX1_allStops_12 : decode cX1_allStops 12 = .ok (.iconst 1, 1) := dk_4 (dk_at dksX1_allStops_0 12 rfl rfl)
theorem dX1_allStops_13 : decode cX1_allStops 13 = .ok (.goto 4, 3) := dk_167 0 4 (dk_at dksX1_allStops_0 13 rfl rfl)
theorem dX1_allStops_16 : decode cX1_allStops 16 = .ok (.iconst 0, 1) := dk_3 (dk_at dksX1_allStops_0 16 rfl rfl)
theorem dX1_allStops_17 : decode cX1_allStops 17 = .ok (.invokestatic 167, 3) := dk_184 0 167 (dk_at dksX1_allStops_0 17 rfl rfl)
theorem dX1_allStops_20 : decode cX1_allStops 20 = .ok (.aload_n 1, 1) := dk_43 (dk_at dksX1_allStops_0 20 rfl rfl)
theorem dX1_allStops_21 : decode cX1_allStops 21 = .ok (.areturn, 1) := dk_176 (dk_at dksX1_allStops_0 21 rfl rfl)
abbrev cX1_zones : ByteArray := prog_1_method_64_code
def yX1_zones : MethodName := ⟨RX1, "zones", "()I"⟩
def dkwX1_zones_0 : List UInt8 := [42, 182, 1, 31, 182, 1, 17, 172]
abbrev dktX1_zones_0 : List UInt8 := dkwX1_zones_0 ++ []
theorem dksX1_zones_0 : cX1_zones.data.toList.drop 0 = dktX1_zones_0 := by decide +kernel
theorem dX1_zones_0 : decode cX1_zones 0 = .ok (.aload_n 0, 1) := dk_42 (dk_at dksX1_zones_0 0 rfl rfl)
theorem dX1_zones_1 : decode cX1_zones 1 = .ok (.invokevirtual 287, 3) := dk_182 1 31 (dk_at dksX1_zones_0 1 rfl rfl)
theorem dX1_zones_4 : decode cX1_zones 4 = .ok (.invokevirtual 273, 3) := dk_182 1 17 (dk_at dksX1_zones_0 4 rfl rfl)
theorem dX1_zones_7 : decode cX1_zones 7 = .ok (.ireturn, 1) := dk_172 (dk_at dksX1_zones_0 7 rfl rfl)
abbrev cX1_zonesOf : ByteArray := prog_1_method_65_code
def yX1_zonesOf : MethodName := ⟨RX1, "zonesOf", "(I)I"⟩
def dkwX1_zonesOf_2 : List UInt8 := [3, 96, 62, 132, 4, 1, 167, 255, 220, 29, 172]
abbrev dktX1_zonesOf_2 : List UInt8 := dkwX1_zonesOf_2 ++ []
def dkwX1_zonesOf_1 : List UInt8 := [162, 0, 33, 29, 44, 21, 4, 182, 0, 255, 192, 1, 34, 180, 1, 36, 27, 160, 0, 7, 4, 167, 0, 4]
abbrev dktX1_zonesOf_1 : List UInt8 := dkwX1_zonesOf_1 ++ dktX1_zonesOf_2
def dkwX1_zonesOf_0 : List UInt8 := [27, 184, 1, 11, 184, 0, 175, 42, 182, 1, 31, 77, 3, 62, 3, 54, 4, 21, 4, 44, 182, 1, 17]
abbrev dktX1_zonesOf_0 : List UInt8 := dkwX1_zonesOf_0 ++ dktX1_zonesOf_1
theorem dksX1_zonesOf_0 : cX1_zonesOf.data.toList.drop 0 = dktX1_zonesOf_0 := by decide +kernel
theorem dksX1_zonesOf_1 : cX1_zonesOf.data.toList.drop 23 = dktX1_zonesOf_1 := dk_seg dksX1_zonesOf_0 23 rfl rfl
theorem dksX1_zonesOf_2 : cX1_zonesOf.data.toList.drop 47 = dktX1_zonesOf_2 := dk_seg dksX1_zonesOf_1 24 rfl rfl
theorem dX1_zonesOf_0 : decode cX1_zonesOf 0 = .ok (.iload_n 1, 1) := dk_27 (dk_at dksX1_zonesOf_0 0 rfl rfl)
theorem dX1_zonesOf_1 : decode cX1_zonesOf 1 = .ok (.invokestatic 267, 3) := dk_184 1 11 (dk_at dksX1_zonesOf_0 1 rfl rfl)
theorem dX1_zonesOf_4 : decode cX1_zonesOf 4 = .ok (.invokestatic 175, 3) := dk_184 0 175 (dk_at dksX1_zonesOf_0 4 rfl rfl)
theorem dX1_zonesOf_7 : decode cX1_zonesOf 7 = .ok (.aload_n 0, 1) := dk_42 (dk_at dksX1_zonesOf_0 7 rfl rfl)
theorem dX1_zonesOf_8 : decode cX1_zonesOf 8 = .ok (.invokevirtual 287, 3) := dk_182 1 31 (dk_at dksX1_zonesOf_0 8 rfl rfl)
theorem dX1_zonesOf_11 : decode cX1_zonesOf 11 = .ok (.astore_n 2, 1) := dk_77 (dk_at dksX1_zonesOf_0 11 rfl rfl)
theorem dX1_zonesOf_12 : decode cX1_zonesOf 12 = .ok (.iconst 0, 1) := dk_3 (dk_at dksX1_zonesOf_0 12 rfl rfl)
theorem dX1_zonesOf_13 : decode cX1_zonesOf 13 = .ok (.istore_n 3, 1) := dk_62 (dk_at dksX1_zonesOf_0 13 rfl rfl)
theorem dX1_zonesOf_14 : decode cX1_zonesOf 14 = .ok (.iconst 0, 1) := dk_3 (dk_at dksX1_zonesOf_0 14 rfl rfl)
theorem dX1_zonesOf_15 : decode cX1_zonesOf 15 = .ok (.istore 4, 2) := dk_54 4 (dk_at dksX1_zonesOf_0 15 rfl rfl)
theorem dX1_zonesOf_17 : decode cX1_zonesOf 17 = .ok (.iload 4, 2) := dk_21 4 (dk_at dksX1_zonesOf_0 17 rfl rfl)
theorem dX1_zonesOf_19 : decode cX1_zonesOf 19 = .ok (.aload_n 2, 1) := dk_44 (dk_at dksX1_zonesOf_0 19 rfl rfl)
theorem dX1_zonesOf_20 : decode cX1_zonesOf 20 = .ok (.invokevirtual 273, 3) := dk_182 1 17 (dk_at dksX1_zonesOf_0 20 rfl rfl)
theorem dX1_zonesOf_23 : decode cX1_zonesOf 23 = .ok (.if_icmp .ge 33, 3) := dk_162 0 33 (dk_at dksX1_zonesOf_1 0 rfl rfl)
theorem dX1_zonesOf_26 : decode cX1_zonesOf 26 = .ok (.iload_n 3, 1) := dk_29 (dk_at dksX1_zonesOf_1 3 rfl rfl)
theorem dX1_zonesOf_27 : decode cX1_zonesOf 27 = .ok (.aload_n 2, 1) := dk_44 (dk_at dksX1_zonesOf_1 4 rfl rfl)
theorem dX1_zonesOf_28 : decode cX1_zonesOf 28 = .ok (.iload 4, 2) := dk_21 4 (dk_at dksX1_zonesOf_1 5 rfl rfl)
theorem dX1_zonesOf_30 : decode cX1_zonesOf 30 = .ok (.invokevirtual 255, 3) := dk_182 0 255 (dk_at dksX1_zonesOf_1 7 rfl rfl)
theorem dX1_zonesOf_33 : decode cX1_zonesOf 33 = .ok (.checkcast 290, 3) := dk_192 1 34 (dk_at dksX1_zonesOf_1 10 rfl rfl)
theorem dX1_zonesOf_36 : decode cX1_zonesOf 36 = .ok (.getfield 292, 3) := dk_180 1 36 (dk_at dksX1_zonesOf_1 13 rfl rfl)
theorem dX1_zonesOf_39 : decode cX1_zonesOf 39 = .ok (.iload_n 1, 1) := dk_27 (dk_at dksX1_zonesOf_1 16 rfl rfl)
theorem dX1_zonesOf_40 : decode cX1_zonesOf 40 = .ok (.if_icmp .ne 7, 3) := dk_160 0 7 (dk_at dksX1_zonesOf_1 17 rfl rfl)
theorem dX1_zonesOf_43 : decode cX1_zonesOf 43 = .ok (.iconst 1, 1) := dk_4 (dk_at dksX1_zonesOf_1 20 rfl rfl)
theorem dX1_zonesOf_44 : decode cX1_zonesOf 44 = .ok (.goto 4, 3) := dk_167 0 4 (dk_at dksX1_zonesOf_1 21 rfl rfl)
theorem dX1_zonesOf_47 : decode cX1_zonesOf 47 = .ok (.iconst 0, 1) := dk_3 (dk_at dksX1_zonesOf_2 0 rfl rfl)
theorem dX1_zonesOf_48 : decode cX1_zonesOf 48 = .ok (.iadd, 1) := dk_96 (dk_at dksX1_zonesOf_2 1 rfl rfl)
theorem dX1_zonesOf_49 : decode cX1_zonesOf 49 = .ok (.istore_n 3, 1) := dk_62 (dk_at dksX1_zonesOf_2 2 rfl rfl)
theorem dX1_zonesOf_50 : decode cX1_zonesOf 50 = .ok (.iinc 4 1, 3) := dk_132 4 1 (dk_at dksX1_zonesOf_2 3 rfl rfl)
theorem dX1_zonesOf_53 : decode cX1_zonesOf 53 = .ok (.goto (-36), 3) := dk_167 255 220 (dk_at dksX1_zonesOf_2 6 rfl rfl)
theorem dX1_zonesOf_56 : decode cX1_zonesOf 56 = .ok (.iload_n 3, 1) := dk_29 (dk_at dksX1_zonesOf_2 9 rfl rfl)
theorem dX1_zonesOf_57 : decode cX1_zonesOf 57 = .ok (.ireturn, 1) := dk_172 (dk_at dksX1_zonesOf_2 10 rfl rfl)
abbrev cX1_fewestLines : ByteArray := prog_1_method_66_code
def yX1_fewestLines : MethodName := ⟨RX1, "fewestLines", "(I)I"⟩
def dkwX1_fewestLines_3 : List UInt8 := [159, 0, 7, 4, 167, 0, 4, 3, 184, 0, 167, 29, 172]
abbrev dktX1_fewestLines_3 : List UInt8 := dkwX1_fewestLines_3 ++ []
def dkwX1_fewestLines_2 : List UInt8 := [182, 0, 255, 192, 1, 34, 180, 1, 42, 167, 0, 4, 29, 62, 132, 4, 255, 167, 255, 215, 29, 2]
abbrev dktX1_fewestLines_2 : List UInt8 := dkwX1_fewestLines_2 ++ dktX1_fewestLines_3
def dkwX1_fewestLines_1 : List UInt8 := [155, 0, 42, 44, 21, 4, 182, 0, 255, 192, 1, 34, 180, 1, 36, 27, 160, 0, 18, 44, 21, 4]
abbrev dktX1_fewestLines_1 : List UInt8 := dkwX1_fewestLines_1 ++ dktX1_fewestLines_2
def dkwX1_fewestLines_0 : List UInt8 := [27, 184, 1, 11, 184, 0, 175, 42, 182, 1, 31, 77, 2, 62, 44, 182, 1, 17, 4, 100, 54, 4, 21, 4]
abbrev dktX1_fewestLines_0 : List UInt8 := dkwX1_fewestLines_0 ++ dktX1_fewestLines_1
theorem dksX1_fewestLines_0 : cX1_fewestLines.data.toList.drop 0 = dktX1_fewestLines_0 := by decide +kernel
theorem dksX1_fewestLines_1 : cX1_fewestLines.data.toList.drop 24 = dktX1_fewestLines_1 := dk_seg dksX1_fewestLines_0 24 rfl rfl
theorem dksX1_fewestLines_2 : cX1_fewestLines.data.toList.drop 46 = dktX1_fewestLines_2 := dk_seg dksX1_fewestLines_1 22 rfl rfl
theorem dksX1_fewestLines_3 : cX1_fewestLines.data.toList.drop 68 = dktX1_fewestLines_3 := dk_seg dksX1_fewestLines_2 22 rfl rfl
theorem dX1_fewestLines_0 : decode cX1_fewestLines 0 = .ok (.iload_n 1, 1) := dk_27 (dk_at dksX1_fewestLines_0 0 rfl rfl)
theorem dX1_fewestLines_1 : decode cX1_fewestLines 1 = .ok (.invokestatic 267, 3) := dk_184 1 11 (dk_at dksX1_fewestLines_0 1 rfl rfl)
theorem dX1_fewestLines_4 : decode cX1_fewestLines 4 = .ok (.invokestatic 175, 3) := dk_184 0 175 (dk_at dksX1_fewestLines_0 4 rfl rfl)
theorem dX1_fewestLines_7 : decode cX1_fewestLines 7 = .ok (.aload_n 0, 1) := dk_42 (dk_at dksX1_fewestLines_0 7 rfl rfl)
theorem dX1_fewestLines_8 : decode cX1_fewestLines 8 = .ok (.invokevirtual 287, 3) := dk_182 1 31 (dk_at dksX1_fewestLines_0 8 rfl rfl)
theorem dX1_fewestLines_11 : decode cX1_fewestLines 11 = .ok (.astore_n 2, 1) := dk_77 (dk_at dksX1_fewestLines_0 11 rfl rfl)
theorem dX1_fewestLines_12 : decode cX1_fewestLines 12 = .ok (.iconst (-1), 1) := dk_2 (dk_at dksX1_fewestLines_0 12 rfl rfl)
theorem dX1_fewestLines_13 : decode cX1_fewestLines 13 = .ok (.istore_n 3, 1) := dk_62 (dk_at dksX1_fewestLines_0 13 rfl rfl)
theorem dX1_fewestLines_14 : decode cX1_fewestLines 14 = .ok (.aload_n 2, 1) := dk_44 (dk_at dksX1_fewestLines_0 14 rfl rfl)
theorem dX1_fewestLines_15 : decode cX1_fewestLines 15 = .ok (.invokevirtual 273, 3) := dk_182 1 17 (dk_at dksX1_fewestLines_0 15 rfl rfl)
theorem dX1_fewestLines_18 : decode cX1_fewestLines 18 = .ok (.iconst 1, 1) := dk_4 (dk_at dksX1_fewestLines_0 18 rfl rfl)
theorem dX1_fewestLines_19 : decode cX1_fewestLines 19 = .ok (.isub, 1) := dk_100 (dk_at dksX1_fewestLines_0 19 rfl rfl)
theorem dX1_fewestLines_20 : decode cX1_fewestLines 20 = .ok (.istore 4, 2) := dk_54 4 (dk_at dksX1_fewestLines_0 20 rfl rfl)
theorem dX1_fewestLines_22 : decode cX1_fewestLines 22 = .ok (.iload 4, 2) := dk_21 4 (dk_at dksX1_fewestLines_0 22 rfl rfl)
theorem dX1_fewestLines_24 : decode cX1_fewestLines 24 = .ok (.ifCond .lt 42, 3) := dk_155 0 42 (dk_at dksX1_fewestLines_1 0 rfl rfl)
theorem dX1_fewestLines_27 : decode cX1_fewestLines 27 = .ok (.aload_n 2, 1) := dk_44 (dk_at dksX1_fewestLines_1 3 rfl rfl)
theorem dX1_fewestLines_28 : decode cX1_fewestLines 28 = .ok (.iload 4, 2) := dk_21 4 (dk_at dksX1_fewestLines_1 4 rfl rfl)
theorem dX1_fewestLines_30 : decode cX1_fewestLines 30 = .ok (.invokevirtual 255, 3) := dk_182 0 255 (dk_at dksX1_fewestLines_1 6 rfl rfl)
theorem dX1_fewestLines_33 : decode cX1_fewestLines 33 = .ok (.checkcast 290, 3) := dk_192 1 34 (dk_at dksX1_fewestLines_1 9 rfl rfl)
theorem dX1_fewestLines_36 : decode cX1_fewestLines 36 = .ok (.getfield 292, 3) := dk_180 1 36 (dk_at dksX1_fewestLines_1 12 rfl rfl)
theorem dX1_fewestLines_39 : decode cX1_fewestLines 39 = .ok (.iload_n 1, 1) := dk_27 (dk_at dksX1_fewestLines_1 15 rfl rfl)
theorem dX1_fewestLines_40 : decode cX1_fewestLines 40 = .ok (.if_icmp .ne 18, 3) := dk_160 0 18 (dk_at dksX1_fewestLines_1 16 rfl rfl)
theorem dX1_fewestLines_43 : decode cX1_fewestLines 43 = .ok (.aload_n 2, 1) := dk_44 (dk_at dksX1_fewestLines_1 19 rfl rfl)
theorem dX1_fewestLines_44 : decode cX1_fewestLines 44 = .ok (.iload 4, 2) := dk_21 4 (dk_at dksX1_fewestLines_1 20 rfl rfl)
theorem dX1_fewestLines_46 : decode cX1_fewestLines 46 = .ok (.invokevirtual 255, 3) := dk_182 0 255 (dk_at dksX1_fewestLines_2 0 rfl rfl)
theorem dX1_fewestLines_49 : decode cX1_fewestLines 49 = .ok (.checkcast 290, 3) := dk_192 1 34 (dk_at dksX1_fewestLines_2 3 rfl rfl)
theorem dX1_fewestLines_52 : decode cX1_fewestLines 52 = .ok (.getfield 298, 3) := dk_180 1 42 (dk_at dksX1_fewestLines_2 6 rfl rfl)
theorem dX1_fewestLines_55 : decode cX1_fewestLines 55 = .ok (.goto 4, 3) := dk_167 0 4 (dk_at dksX1_fewestLines_2 9 rfl rfl)
theorem dX1_fewestLines_58 : decode cX1_fewestLines 58 = .ok (.iload_n 3, 1) := dk_29 (dk_at dksX1_fewestLines_2 12 rfl rfl)
theorem dX1_fewestLines_59 : decode cX1_fewestLines 59 = .ok (.istore_n 3, 1) := dk_62 (dk_at dksX1_fewestLines_2 13 rfl rfl)
theorem dX1_fewestLines_60 : decode cX1_fewestLines 60 = .ok (.iinc 4 (-1), 3) := dk_132 4 255 (dk_at dksX1_fewestLines_2 14 rfl rfl)
theorem dX1_fewestLines_63 : decode cX1_fewestLines 63 = .ok (.goto (-41), 3) := dk_167 255 215 (dk_at dksX1_fewestLines_2 17 rfl rfl)
theorem dX1_fewestLines_66 : decode cX1_fewestLines 66 = .ok (.iload_n 3, 1) := dk_29 (dk_at dksX1_fewestLines_2 20 rfl rfl)
theorem dX1_fewestLines_67 : decode cX1_fewestLines 67 = .ok (.iconst (-1), 1) := dk_2 (dk_at dksX1_fewestLines_2 21 rfl rfl)
theorem dX1_fewestLines_68 : decode cX1_fewestLines 68 = .ok (.if_icmp .eq 7, 3) := dk_159 0 7 (dk_at dksX1_fewestLines_3 0 rfl rfl)
theorem dX1_fewestLines_71 : decode cX1_fewestLines 71 = .ok (.iconst 1, 1) := dk_4 (dk_at dksX1_fewestLines_3 3 rfl rfl)
theorem dX1_fewestLines_72 : decode cX1_fewestLines 72 = .ok (.goto 4, 3) := dk_167 0 4 (dk_at dksX1_fewestLines_3 4 rfl rfl)
theorem dX1_fewestLines_75 : decode cX1_fewestLines 75 = .ok (.iconst 0, 1) := dk_3 (dk_at dksX1_fewestLines_3 7 rfl rfl)
theorem dX1_fewestLines_76 : decode cX1_fewestLines 76 = .ok (.invokestatic 167, 3) := dk_184 0 167 (dk_at dksX1_fewestLines_3 8 rfl rfl)
theorem dX1_fewestLines_79 : decode cX1_fewestLines 79 = .ok (.iload_n 3, 1) := dk_29 (dk_at dksX1_fewestLines_3 11 rfl rfl)
theorem dX1_fewestLines_80 : decode cX1_fewestLines 80 = .ok (.ireturn, 1) := dk_172 (dk_at dksX1_fewestLines_3 12 rfl rfl)
abbrev cX1_fewestTicks : ByteArray := prog_1_method_67_code
def yX1_fewestTicks : MethodName := ⟨RX1, "fewestTicks", "(I)I"⟩
def dkwX1_fewestTicks_1 : List UInt8 := [167, 0, 4, 3, 184, 0, 167, 28, 172]
abbrev dktX1_fewestTicks_1 : List UInt8 := dkwX1_fewestTicks_1 ++ []
def dkwX1_fewestTicks_0 : List UInt8 := [27, 184, 1, 11, 184, 0, 175, 42, 180, 0, 29, 27, 182, 1, 45, 61, 28, 2, 159, 0, 7, 4]
abbrev dktX1_fewestTicks_0 : List UInt8 := dkwX1_fewestTicks_0 ++ dktX1_fewestTicks_1
theorem dksX1_fewestTicks_0 : cX1_fewestTicks.data.toList.drop 0 = dktX1_fewestTicks_0 := by decide +kernel
theorem dksX1_fewestTicks_1 : cX1_fewestTicks.data.toList.drop 22 = dktX1_fewestTicks_1 := dk_seg dksX1_fewestTicks_0 22 rfl rfl
theorem dX1_fewestTicks_0 : decode cX1_fewestTicks 0 = .ok (.iload_n 1, 1) := dk_27 (dk_at dksX1_fewestTicks_0 0 rfl rfl)
theorem dX1_fewestTicks_1 : decode cX1_fewestTicks 1 = .ok (.invokestatic 267, 3) := dk_184 1 11 (dk_at dksX1_fewestTicks_0 1 rfl rfl)
theorem dX1_fewestTicks_4 : decode cX1_fewestTicks 4 = .ok (.invokestatic 175, 3) := dk_184 0 175 (dk_at dksX1_fewestTicks_0 4 rfl rfl)
theorem dX1_fewestTicks_7 : decode cX1_fewestTicks 7 = .ok (.aload_n 0, 1) := dk_42 (dk_at dksX1_fewestTicks_0 7 rfl rfl)
theorem dX1_fewestTicks_8 : decode cX1_fewestTicks 8 = .ok (.getfield 29, 3) := dk_180 0 29 (dk_at dksX1_fewestTicks_0 8 rfl rfl)
theorem dX1_fewestTicks_11 : decode cX1_fewestTicks 11 = .ok (.iload_n 1, 1) := dk_27 (dk_at dksX1_fewestTicks_0 11 rfl rfl)
theorem dX1_fewestTicks_12 : decode cX1_fewestTicks 12 = .ok (.invokevirtual 301, 3) := dk_182 1 45 (dk_at dksX1_fewestTicks_0 12 rfl rfl)
theorem dX1_fewestTicks_15 : decode cX1_fewestTicks 15 = .ok (.istore_n 2, 1) := dk_61 (dk_at dksX1_fewestTicks_0 15 rfl rfl)
theorem dX1_fewestTicks_16 : decode cX1_fewestTicks 16 = .ok (.iload_n 2, 1) := dk_28 (dk_at dksX1_fewestTicks_0 16 rfl rfl)
theorem dX1_fewestTicks_17 : decode cX1_fewestTicks 17 = .ok (.iconst (-1), 1) := dk_2 (dk_at dksX1_fewestTicks_0 17 rfl rfl)
theorem dX1_fewestTicks_18 : decode cX1_fewestTicks 18 = .ok (.if_icmp .eq 7, 3) := dk_159 0 7 (dk_at dksX1_fewestTicks_0 18 rfl rfl)
theorem dX1_fewestTicks_21 : decode cX1_fewestTicks 21 = .ok (.iconst 1, 1) := dk_4 (dk_at dksX1_fewestTicks_0 21 rfl rfl)
theorem dX1_fewestTicks_22 : decode cX1_fewestTicks 22 = .ok (.goto 4, 3) := dk_167 0 4 (dk_at dksX1_fewestTicks_1 0 rfl rfl)
theorem dX1_fewestTicks_25 : decode cX1_fewestTicks 25 = .ok (.iconst 0, 1) := dk_3 (dk_at dksX1_fewestTicks_1 3 rfl rfl)
theorem dX1_fewestTicks_26 : decode cX1_fewestTicks 26 = .ok (.invokestatic 167, 3) := dk_184 0 167 (dk_at dksX1_fewestTicks_1 4 rfl rfl)
theorem dX1_fewestTicks_29 : decode cX1_fewestTicks 29 = .ok (.iload_n 2, 1) := dk_28 (dk_at dksX1_fewestTicks_1 7 rfl rfl)
theorem dX1_fewestTicks_30 : decode cX1_fewestTicks 30 = .ok (.ireturn, 1) := dk_172 (dk_at dksX1_fewestTicks_1 8 rfl rfl)
abbrev cX1_meanBits : ByteArray := prog_1_method_72_code
def yX1_meanBits : MethodName := ⟨RX1, "meanBits", "(I)J"⟩
def dkwX1_meanBits_1 : List UInt8 := [42, 180, 0, 29, 180, 0, 153, 27, 182, 1, 68, 138, 28, 135, 111, 184, 1, 72, 173]
abbrev dktX1_meanBits_1 : List UInt8 := dkwX1_meanBits_1 ++ []
def dkwX1_meanBits_0 : List UInt8 := [27, 184, 0, 204, 184, 0, 175, 42, 182, 1, 54, 61, 28, 158, 0, 7, 4, 167, 0, 4, 3, 184, 0, 167]
abbrev dktX1_meanBits_0 : List UInt8 := dkwX1_meanBits_0 ++ dktX1_meanBits_1
theorem dksX1_meanBits_0 : cX1_meanBits.data.toList.drop 0 = dktX1_meanBits_0 := by decide +kernel
theorem dksX1_meanBits_1 : cX1_meanBits.data.toList.drop 24 = dktX1_meanBits_1 := dk_seg dksX1_meanBits_0 24 rfl rfl
theorem dX1_meanBits_0 : decode cX1_meanBits 0 = .ok (.iload_n 1, 1) := dk_27 (dk_at dksX1_meanBits_0 0 rfl rfl)
theorem dX1_meanBits_1 : decode cX1_meanBits 1 = .ok (.invokestatic 204, 3) := dk_184 0 204 (dk_at dksX1_meanBits_0 1 rfl rfl)
theorem dX1_meanBits_4 : decode cX1_meanBits 4 = .ok (.invokestatic 175, 3) := dk_184 0 175 (dk_at dksX1_meanBits_0 4 rfl rfl)
theorem dX1_meanBits_7 : decode cX1_meanBits 7 = .ok (.aload_n 0, 1) := dk_42 (dk_at dksX1_meanBits_0 7 rfl rfl)
theorem dX1_meanBits_8 : decode cX1_meanBits 8 = .ok (.invokevirtual 310, 3) := dk_182 1 54 (dk_at dksX1_meanBits_0 8 rfl rfl)
theorem dX1_meanBits_11 : decode cX1_meanBits 11 = .ok (.istore_n 2, 1) := dk_61 (dk_at dksX1_meanBits_0 11 rfl rfl)
theorem dX1_meanBits_12 : decode cX1_meanBits 12 = .ok (.iload_n 2, 1) := dk_28 (dk_at dksX1_meanBits_0 12 rfl rfl)
theorem dX1_meanBits_13 : decode cX1_meanBits 13 = .ok (.ifCond .le 7, 3) := dk_158 0 7 (dk_at dksX1_meanBits_0 13 rfl rfl)
theorem dX1_meanBits_16 : decode cX1_meanBits 16 = .ok (.iconst 1, 1) := dk_4 (dk_at dksX1_meanBits_0 16 rfl rfl)
theorem dX1_meanBits_17 : decode cX1_meanBits 17 = .ok (.goto 4, 3) := dk_167 0 4 (dk_at dksX1_meanBits_0 17 rfl rfl)
theorem dX1_meanBits_20 : decode cX1_meanBits 20 = .ok (.iconst 0, 1) := dk_3 (dk_at dksX1_meanBits_0 20 rfl rfl)
theorem dX1_meanBits_21 : decode cX1_meanBits 21 = .ok (.invokestatic 167, 3) := dk_184 0 167 (dk_at dksX1_meanBits_0 21 rfl rfl)
theorem dX1_meanBits_24 : decode cX1_meanBits 24 = .ok (.aload_n 0, 1) := dk_42 (dk_at dksX1_meanBits_1 0 rfl rfl)
theorem dX1_meanBits_25 : decode cX1_meanBits 25 = .ok (.getfield 29, 3) := dk_180 0 29 (dk_at dksX1_meanBits_1 1 rfl rfl)
theorem dX1_meanBits_28 : decode cX1_meanBits 28 = .ok (.getfield 153, 3) := dk_180 0 153 (dk_at dksX1_meanBits_1 4 rfl rfl)
theorem dX1_meanBits_31 : decode cX1_meanBits 31 = .ok (.iload_n 1, 1) := dk_27 (dk_at dksX1_meanBits_1 7 rfl rfl)
theorem dX1_meanBits_32 : decode cX1_meanBits 32 = .ok (.invokevirtual 324, 3) := dk_182 1 68 (dk_at dksX1_meanBits_1 8 rfl rfl)
theorem dX1_meanBits_35 : decode cX1_meanBits 35 = .ok (.l2d, 1) := dk_138 (dk_at dksX1_meanBits_1 11 rfl rfl)
theorem dX1_meanBits_36 : decode cX1_meanBits 36 = .ok (.iload_n 2, 1) := dk_28 (dk_at dksX1_meanBits_1 12 rfl rfl)
theorem dX1_meanBits_37 : decode cX1_meanBits 37 = .ok (.i2d, 1) := dk_135 (dk_at dksX1_meanBits_1 13 rfl rfl)
theorem dX1_meanBits_38 : decode cX1_meanBits 38 = .ok (.ddiv, 1) := dk_111 (dk_at dksX1_meanBits_1 14 rfl rfl)
theorem dX1_meanBits_39 : decode cX1_meanBits 39 = .ok (.invokestatic 328, 3) := dk_184 1 72 (dk_at dksX1_meanBits_1 15 rfl rfl)
theorem dX1_meanBits_42 : decode cX1_meanBits 42 = .ok (.lreturn, 1) := dk_173 (dk_at dksX1_meanBits_1 18 rfl rfl)
abbrev cX1_goBack : ByteArray := prog_1_method_75_code
def yX1_goBack : MethodName := ⟨RX1, "goBack", "()I"⟩
def dkwX1_goBack_1 : List UInt8 := [180, 0, 153, 1, 182, 0, 194, 182, 0, 124, 172]
abbrev dktX1_goBack_1 : List UInt8 := dkwX1_goBack_1 ++ []
def dkwX1_goBack_0 : List UInt8 := [42, 180, 1, 81, 198, 0, 7, 4, 167, 0, 4, 3, 184, 1, 84, 42, 42, 180, 1, 81, 42, 180, 1, 81]
abbrev dktX1_goBack_0 : List UInt8 := dkwX1_goBack_0 ++ dktX1_goBack_1
theorem dksX1_goBack_0 : cX1_goBack.data.toList.drop 0 = dktX1_goBack_0 := by decide +kernel
theorem dksX1_goBack_1 : cX1_goBack.data.toList.drop 24 = dktX1_goBack_1 := dk_seg dksX1_goBack_0 24 rfl rfl
theorem dX1_goBack_0 : decode cX1_goBack 0 = .ok (.aload_n 0, 1) := dk_42 (dk_at dksX1_goBack_0 0 rfl rfl)
theorem dX1_goBack_1 : decode cX1_goBack 1 = .ok (.getfield 337, 3) := dk_180 1 81 (dk_at dksX1_goBack_0 1 rfl rfl)
theorem dX1_goBack_4 : decode cX1_goBack 4 = .ok (.ifnull 7, 3) := dk_198 0 7 (dk_at dksX1_goBack_0 4 rfl rfl)
theorem dX1_goBack_7 : decode cX1_goBack 7 = .ok (.iconst 1, 1) := dk_4 (dk_at dksX1_goBack_0 7 rfl rfl)
theorem dX1_goBack_8 : decode cX1_goBack 8 = .ok (.goto 4, 3) := dk_167 0 4 (dk_at dksX1_goBack_0 8 rfl rfl)
theorem dX1_goBack_11 : decode cX1_goBack 11 = .ok (.iconst 0, 1) := dk_3 (dk_at dksX1_goBack_0 11 rfl rfl)
theorem dX1_goBack_12 : decode cX1_goBack 12 = .ok (.invokestatic 340, 3) := dk_184 1 84 (dk_at dksX1_goBack_0 12 rfl rfl)
theorem dX1_goBack_15 : decode cX1_goBack 15 = .ok (.aload_n 0, 1) := dk_42 (dk_at dksX1_goBack_0 15 rfl rfl)
theorem dX1_goBack_16 : decode cX1_goBack 16 = .ok (.aload_n 0, 1) := dk_42 (dk_at dksX1_goBack_0 16 rfl rfl)
theorem dX1_goBack_17 : decode cX1_goBack 17 = .ok (.getfield 337, 3) := dk_180 1 81 (dk_at dksX1_goBack_0 17 rfl rfl)
theorem dX1_goBack_20 : decode cX1_goBack 20 = .ok (.aload_n 0, 1) := dk_42 (dk_at dksX1_goBack_0 20 rfl rfl)
theorem dX1_goBack_21 : decode cX1_goBack 21 = .ok (.getfield 337, 3) := dk_180 1 81 (dk_at dksX1_goBack_0 21 rfl rfl)
theorem dX1_goBack_24 : decode cX1_goBack 24 = .ok (.getfield 153, 3) := dk_180 0 153 (dk_at dksX1_goBack_1 0 rfl rfl)
theorem dX1_goBack_27 : decode cX1_goBack 27 = .ok (.aconst_null, 1) := dk_1 (dk_at dksX1_goBack_1 3 rfl rfl)
theorem dX1_goBack_28 : decode cX1_goBack 28 = .ok (.invokevirtual 194, 3) := dk_182 0 194 (dk_at dksX1_goBack_1 4 rfl rfl)
theorem dX1_goBack_31 : decode cX1_goBack 31 = .ok (.invokevirtual 124, 3) := dk_182 0 124 (dk_at dksX1_goBack_1 7 rfl rfl)
theorem dX1_goBack_34 : decode cX1_goBack 34 = .ok (.ireturn, 1) := dk_172 (dk_at dksX1_goBack_1 10 rfl rfl)
abbrev cX1_needState : ByteArray := prog_1_method_34_code
def yX1_needState : MethodName := ⟨RX1, "needState", "(Z)V"⟩
def dkwX1_needState_0 : List UInt8 := [26, 154, 0, 13, 187, 0, 139, 89, 18, 141, 183, 0, 143, 191, 177]
abbrev dktX1_needState_0 : List UInt8 := dkwX1_needState_0 ++ []
theorem dksX1_needState_0 : cX1_needState.data.toList.drop 0 = dktX1_needState_0 := by decide +kernel
theorem dX1_needState_0 : decode cX1_needState 0 = .ok (.iload_n 0, 1) := dk_26 (dk_at dksX1_needState_0 0 rfl rfl)
theorem dX1_needState_1 : decode cX1_needState 1 = .ok (.ifCond .ne 13, 3) := dk_154 0 13 (dk_at dksX1_needState_0 1 rfl rfl)
theorem dX1_needState_4 : decode cX1_needState 4 = .ok (.new 139, 3) := dk_187 0 139 (dk_at dksX1_needState_0 4 rfl rfl)
theorem dX1_needState_7 : decode cX1_needState 7 = .ok (.dup, 1) := dk_89 (dk_at dksX1_needState_0 7 rfl rfl)
theorem dX1_needState_8 : decode cX1_needState 8 = .ok (.ldc 141, 2) := dk_18 141 (dk_at dksX1_needState_0 8 rfl rfl)
theorem dX1_needState_10 : decode cX1_needState 10 = .ok (.invokespecial 143, 3) := dk_183 0 143 (dk_at dksX1_needState_0 10 rfl rfl)
theorem dX1_needState_13 : decode cX1_needState 13 = .ok (.athrow, 1) := dk_191 (dk_at dksX1_needState_0 13 rfl rfl)
theorem dX1_needState_14 : decode cX1_needState 14 = .ok (.return_, 1) := dk_177 (dk_at dksX1_needState_0 14 rfl rfl)
abbrev cX1_undo : ByteArray := prog_1_method_77_code
def yX1_undo : MethodName := ⟨RX1, "undo", "()I"⟩
def dkwX1_undo_1 : List UInt8 := [182, 1, 90, 192, 0, 26, 181, 0, 29, 42, 180, 0, 36, 182, 0, 51, 172]
abbrev dktX1_undo_1 : List UInt8 := dkwX1_undo_1 ++ []
def dkwX1_undo_0 : List UInt8 := [42, 180, 0, 36, 182, 1, 87, 154, 0, 7, 4, 167, 0, 4, 3, 184, 1, 84, 42, 42, 180, 0, 36]
abbrev dktX1_undo_0 : List UInt8 := dkwX1_undo_0 ++ dktX1_undo_1
theorem dksX1_undo_0 : cX1_undo.data.toList.drop 0 = dktX1_undo_0 := by decide +kernel
theorem dksX1_undo_1 : cX1_undo.data.toList.drop 23 = dktX1_undo_1 := dk_seg dksX1_undo_0 23 rfl rfl
theorem dX1_undo_0 : decode cX1_undo 0 = .ok (.aload_n 0, 1) := dk_42 (dk_at dksX1_undo_0 0 rfl rfl)
theorem dX1_undo_1 : decode cX1_undo 1 = .ok (.getfield 36, 3) := dk_180 0 36 (dk_at dksX1_undo_0 1 rfl rfl)
theorem dX1_undo_4 : decode cX1_undo 4 = .ok (.invokevirtual 343, 3) := dk_182 1 87 (dk_at dksX1_undo_0 4 rfl rfl)
theorem dX1_undo_7 : decode cX1_undo 7 = .ok (.ifCond .ne 7, 3) := dk_154 0 7 (dk_at dksX1_undo_0 7 rfl rfl)
theorem dX1_undo_10 : decode cX1_undo 10 = .ok (.iconst 1, 1) := dk_4 (dk_at dksX1_undo_0 10 rfl rfl)
theorem dX1_undo_11 : decode cX1_undo 11 = .ok (.goto 4, 3) := dk_167 0 4 (dk_at dksX1_undo_0 11 rfl rfl)
theorem dX1_undo_14 : decode cX1_undo 14 = .ok (.iconst 0, 1) := dk_3 (dk_at dksX1_undo_0 14 rfl rfl)
theorem dX1_undo_15 : decode cX1_undo 15 = .ok (.invokestatic 340, 3) := dk_184 1 84 (dk_at dksX1_undo_0 15 rfl rfl)
theorem dX1_undo_18 : decode cX1_undo 18 = .ok (.aload_n 0, 1) := dk_42 (dk_at dksX1_undo_0 18 rfl rfl)
theorem dX1_undo_19 : decode cX1_undo 19 = .ok (.aload_n 0, 1) := dk_42 (dk_at dksX1_undo_0 19 rfl rfl)
theorem dX1_undo_20 : decode cX1_undo 20 = .ok (.getfield 36, 3) := dk_180 0 36 (dk_at dksX1_undo_0 20 rfl rfl)
theorem dX1_undo_23 : decode cX1_undo 23 = .ok (.invokevirtual 346, 3) := dk_182 1 90 (dk_at dksX1_undo_1 0 rfl rfl)
theorem dX1_undo_26 : decode cX1_undo 26 = .ok (.checkcast 26, 3) := dk_192 0 26 (dk_at dksX1_undo_1 3 rfl rfl)
theorem dX1_undo_29 : decode cX1_undo 29 = .ok (.putfield 29, 3) := dk_181 0 29 (dk_at dksX1_undo_1 6 rfl rfl)
theorem dX1_undo_32 : decode cX1_undo 32 = .ok (.aload_n 0, 1) := dk_42 (dk_at dksX1_undo_1 9 rfl rfl)
theorem dX1_undo_33 : decode cX1_undo 33 = .ok (.getfield 36, 3) := dk_180 0 36 (dk_at dksX1_undo_1 10 rfl rfl)
theorem dX1_undo_36 : decode cX1_undo 36 = .ok (.invokevirtual 51, 3) := dk_182 0 51 (dk_at dksX1_undo_1 13 rfl rfl)
theorem dX1_undo_39 : decode cX1_undo 39 = .ok (.ireturn, 1) := dk_172 (dk_at dksX1_undo_1 16 rfl rfl)
abbrev cX1_type : ByteArray := prog_1_method_78_code
def yX1_type : MethodName := ⟨RX1, "type", "(I)I"⟩
def dkwX1_type_2 : List UInt8 := [180, 0, 43, 182, 1, 97, 172]
abbrev dktX1_type_2 : List UInt8 := dkwX1_type_2 ++ []
def dkwX1_type_1 : List UInt8 := [162, 0, 7, 4, 167, 0, 4, 3, 184, 1, 84, 42, 180, 0, 43, 27, 146, 182, 1, 100, 87, 42]
abbrev dktX1_type_1 : List UInt8 := dkwX1_type_1 ++ dktX1_type_2
def dkwX1_type_0 : List UInt8 := [27, 133, 20, 1, 93, 20, 1, 95, 184, 0, 5, 184, 0, 175, 42, 180, 0, 43, 182, 1, 97, 16, 60]
abbrev dktX1_type_0 : List UInt8 := dkwX1_type_0 ++ dktX1_type_1
theorem dksX1_type_0 : cX1_type.data.toList.drop 0 = dktX1_type_0 := by decide +kernel
theorem dksX1_type_1 : cX1_type.data.toList.drop 23 = dktX1_type_1 := dk_seg dksX1_type_0 23 rfl rfl
theorem dksX1_type_2 : cX1_type.data.toList.drop 45 = dktX1_type_2 := dk_seg dksX1_type_1 22 rfl rfl
theorem dX1_type_0 : decode cX1_type 0 = .ok (.iload_n 1, 1) := dk_27 (dk_at dksX1_type_0 0 rfl rfl)
theorem dX1_type_1 : decode cX1_type 1 = .ok (.i2l, 1) := dk_133 (dk_at dksX1_type_0 1 rfl rfl)
theorem dX1_type_2 : decode cX1_type 2 = .ok (.ldc2_w 349, 3) := dk_20 1 93 (dk_at dksX1_type_0 2 rfl rfl)
theorem dX1_type_5 : decode cX1_type 5 = .ok (.ldc2_w 351, 3) := dk_20 1 95 (dk_at dksX1_type_0 5 rfl rfl)
theorem dX1_type_8 : decode cX1_type 8 = .ok (.invokestatic 5, 3) := dk_184 0 5 (dk_at dksX1_type_0 8 rfl rfl)
theorem dX1_type_11 : decode cX1_type 11 = .ok (.invokestatic 175, 3) := dk_184 0 175 (dk_at dksX1_type_0 11 rfl rfl)
theorem dX1_type_14 : decode cX1_type 14 = .ok (.aload_n 0, 1) := dk_42 (dk_at dksX1_type_0 14 rfl rfl)
theorem dX1_type_15 : decode cX1_type 15 = .ok (.getfield 43, 3) := dk_180 0 43 (dk_at dksX1_type_0 15 rfl rfl)
theorem dX1_type_18 : decode cX1_type 18 = .ok (.invokevirtual 353, 3) := dk_182 1 97 (dk_at dksX1_type_0 18 rfl rfl)
theorem dX1_type_21 : decode cX1_type 21 = .ok (.bipush 60, 2) := dk_16 60 (dk_at dksX1_type_0 21 rfl rfl)
theorem dX1_type_23 : decode cX1_type 23 = .ok (.if_icmp .ge 7, 3) := dk_162 0 7 (dk_at dksX1_type_1 0 rfl rfl)
theorem dX1_type_26 : decode cX1_type 26 = .ok (.iconst 1, 1) := dk_4 (dk_at dksX1_type_1 3 rfl rfl)
theorem dX1_type_27 : decode cX1_type 27 = .ok (.goto 4, 3) := dk_167 0 4 (dk_at dksX1_type_1 4 rfl rfl)
theorem dX1_type_30 : decode cX1_type 30 = .ok (.iconst 0, 1) := dk_3 (dk_at dksX1_type_1 7 rfl rfl)
theorem dX1_type_31 : decode cX1_type 31 = .ok (.invokestatic 340, 3) := dk_184 1 84 (dk_at dksX1_type_1 8 rfl rfl)
theorem dX1_type_34 : decode cX1_type 34 = .ok (.aload_n 0, 1) := dk_42 (dk_at dksX1_type_1 11 rfl rfl)
theorem dX1_type_35 : decode cX1_type 35 = .ok (.getfield 43, 3) := dk_180 0 43 (dk_at dksX1_type_1 12 rfl rfl)
theorem dX1_type_38 : decode cX1_type 38 = .ok (.iload_n 1, 1) := dk_27 (dk_at dksX1_type_1 15 rfl rfl)
theorem dX1_type_39 : decode cX1_type 39 = .ok (.i2c, 1) := dk_146 (dk_at dksX1_type_1 16 rfl rfl)
theorem dX1_type_40 : decode cX1_type 40 = .ok (.invokevirtual 356, 3) := dk_182 1 100 (dk_at dksX1_type_1 17 rfl rfl)
theorem dX1_type_43 : decode cX1_type 43 = .ok (.pop, 1) := dk_87 (dk_at dksX1_type_1 20 rfl rfl)
theorem dX1_type_44 : decode cX1_type 44 = .ok (.aload_n 0, 1) := dk_42 (dk_at dksX1_type_1 21 rfl rfl)
theorem dX1_type_45 : decode cX1_type 45 = .ok (.getfield 43, 3) := dk_180 0 43 (dk_at dksX1_type_2 0 rfl rfl)
theorem dX1_type_48 : decode cX1_type 48 = .ok (.invokevirtual 353, 3) := dk_182 1 97 (dk_at dksX1_type_2 3 rfl rfl)
theorem dX1_type_51 : decode cX1_type 51 = .ok (.ireturn, 1) := dk_172 (dk_at dksX1_type_2 6 rfl rfl)
abbrev cX1_faultPosition : ByteArray := prog_1_method_81_code
def yX1_faultPosition : MethodName := ⟨RX1, "faultPosition", "()I"⟩
def dkwX1_faultPosition_0 : List UInt8 := [42, 182, 1, 115, 180, 1, 119, 172]
abbrev dktX1_faultPosition_0 : List UInt8 := dkwX1_faultPosition_0 ++ []
theorem dksX1_faultPosition_0 : cX1_faultPosition.data.toList.drop 0 = dktX1_faultPosition_0 := by decide +kernel
theorem dX1_faultPosition_0 : decode cX1_faultPosition 0 = .ok (.aload_n 0, 1) := dk_42 (dk_at dksX1_faultPosition_0 0 rfl rfl)
theorem dX1_faultPosition_1 : decode cX1_faultPosition 1 = .ok (.invokevirtual 371, 3) := dk_182 1 115 (dk_at dksX1_faultPosition_0 1 rfl rfl)
theorem dX1_faultPosition_4 : decode cX1_faultPosition 4 = .ok (.getfield 375, 3) := dk_180 1 119 (dk_at dksX1_faultPosition_0 4 rfl rfl)
theorem dX1_faultPosition_7 : decode cX1_faultPosition 7 = .ok (.ireturn, 1) := dk_172 (dk_at dksX1_faultPosition_0 7 rfl rfl)
abbrev cX1_faulty : ByteArray := prog_1_method_80_code
def yX1_faulty : MethodName := ⟨RX1, "faulty", "()LFerryClocks$Reader;"⟩
def dkwX1_faulty_1 : List UInt8 := [43, 176]
abbrev dktX1_faulty_1 : List UInt8 := dkwX1_faulty_1 ++ []
def dkwX1_faulty_0 : List UInt8 := [187, 1, 107, 89, 42, 183, 1, 109, 76, 43, 182, 1, 112, 154, 0, 7, 4, 167, 0, 4, 3, 184, 0, 167]
abbrev dktX1_faulty_0 : List UInt8 := dkwX1_faulty_0 ++ dktX1_faulty_1
theorem dksX1_faulty_0 : cX1_faulty.data.toList.drop 0 = dktX1_faulty_0 := by decide +kernel
theorem dksX1_faulty_1 : cX1_faulty.data.toList.drop 24 = dktX1_faulty_1 := dk_seg dksX1_faulty_0 24 rfl rfl
theorem dX1_faulty_0 : decode cX1_faulty 0 = .ok (.new 363, 3) := dk_187 1 107 (dk_at dksX1_faulty_0 0 rfl rfl)
theorem dX1_faulty_3 : decode cX1_faulty 3 = .ok (.dup, 1) := dk_89 (dk_at dksX1_faulty_0 3 rfl rfl)
theorem dX1_faulty_4 : decode cX1_faulty 4 = .ok (.aload_n 0, 1) := dk_42 (dk_at dksX1_faulty_0 4 rfl rfl)
theorem dX1_faulty_5 : decode cX1_faulty 5 = .ok (.invokespecial 365, 3) := dk_183 1 109 (dk_at dksX1_faulty_0 5 rfl rfl)
theorem dX1_faulty_8 : decode cX1_faulty 8 = .ok (.astore_n 1, 1) := dk_76 (dk_at dksX1_faulty_0 8 rfl rfl)
theorem dX1_faulty_9 : decode cX1_faulty 9 = .ok (.aload_n 1, 1) := dk_43 (dk_at dksX1_faulty_0 9 rfl rfl)
theorem dX1_faulty_10 : decode cX1_faulty 10 = .ok (.invokevirtual 368, 3) := dk_182 1 112 (dk_at dksX1_faulty_0 10 rfl rfl)
theorem dX1_faulty_13 : decode cX1_faulty 13 = .ok (.ifCond .ne 7, 3) := dk_154 0 7 (dk_at dksX1_faulty_0 13 rfl rfl)
theorem dX1_faulty_16 : decode cX1_faulty 16 = .ok (.iconst 1, 1) := dk_4 (dk_at dksX1_faulty_0 16 rfl rfl)
theorem dX1_faulty_17 : decode cX1_faulty 17 = .ok (.goto 4, 3) := dk_167 0 4 (dk_at dksX1_faulty_0 17 rfl rfl)
theorem dX1_faulty_20 : decode cX1_faulty 20 = .ok (.iconst 0, 1) := dk_3 (dk_at dksX1_faulty_0 20 rfl rfl)
theorem dX1_faulty_21 : decode cX1_faulty 21 = .ok (.invokestatic 167, 3) := dk_184 0 167 (dk_at dksX1_faulty_0 21 rfl rfl)
theorem dX1_faulty_24 : decode cX1_faulty 24 = .ok (.aload_n 1, 1) := dk_43 (dk_at dksX1_faulty_1 0 rfl rfl)
theorem dX1_faulty_25 : decode cX1_faulty 25 = .ok (.areturn, 1) := dk_176 (dk_at dksX1_faulty_1 1 rfl rfl)
abbrev cX1_faultReason : ByteArray := prog_1_method_82_code
def yX1_faultReason : MethodName := ⟨RX1, "faultReason", "()I"⟩
def dkwX1_faultReason_0 : List UInt8 := [42, 182, 1, 115, 180, 1, 122, 172]
abbrev dktX1_faultReason_0 : List UInt8 := dkwX1_faultReason_0 ++ []
theorem dksX1_faultReason_0 : cX1_faultReason.data.toList.drop 0 = dktX1_faultReason_0 := by decide +kernel
theorem dX1_faultReason_0 : decode cX1_faultReason 0 = .ok (.aload_n 0, 1) := dk_42 (dk_at dksX1_faultReason_0 0 rfl rfl)
theorem dX1_faultReason_1 : decode cX1_faultReason 1 = .ok (.invokevirtual 371, 3) := dk_182 1 115 (dk_at dksX1_faultReason_0 1 rfl rfl)
theorem dX1_faultReason_4 : decode cX1_faultReason 4 = .ok (.getfield 378, 3) := dk_180 1 122 (dk_at dksX1_faultReason_0 4 rfl rfl)
theorem dX1_faultReason_7 : decode cX1_faultReason 7 = .ok (.ireturn, 1) := dk_172 (dk_at dksX1_faultReason_0 7 rfl rfl)
abbrev cX1_faultCause : ByteArray := prog_1_method_83_code
def yX1_faultCause : MethodName := ⟨RX1, "faultCause", "()I"⟩
def dkwX1_faultCause_0 : List UInt8 := [42, 182, 1, 115, 180, 1, 125, 172]
abbrev dktX1_faultCause_0 : List UInt8 := dkwX1_faultCause_0 ++ []
theorem dksX1_faultCause_0 : cX1_faultCause.data.toList.drop 0 = dktX1_faultCause_0 := by decide +kernel
theorem dX1_faultCause_0 : decode cX1_faultCause 0 = .ok (.aload_n 0, 1) := dk_42 (dk_at dksX1_faultCause_0 0 rfl rfl)
theorem dX1_faultCause_1 : decode cX1_faultCause 1 = .ok (.invokevirtual 371, 3) := dk_182 1 115 (dk_at dksX1_faultCause_0 1 rfl rfl)
theorem dX1_faultCause_4 : decode cX1_faultCause 4 = .ok (.getfield 381, 3) := dk_180 1 125 (dk_at dksX1_faultCause_0 4 rfl rfl)
theorem dX1_faultCause_7 : decode cX1_faultCause 7 = .ok (.ireturn, 1) := dk_172 (dk_at dksX1_faultCause_0 7 rfl rfl)
abbrev cX1_play : ByteArray := prog_1_method_84_code
def yX1_play : MethodName := ⟨RX1, "play", "()I"⟩
def dkwX1_play_1 : List UInt8 := [180, 1, 131, 182, 0, 124, 172]
abbrev dktX1_play_1 : List UInt8 := dkwX1_play_1 ++ []
def dkwX1_play_0 : List UInt8 := [187, 1, 107, 89, 42, 183, 1, 109, 76, 43, 182, 1, 112, 184, 1, 84, 42, 43, 180, 1, 128, 43]
abbrev dktX1_play_0 : List UInt8 := dkwX1_play_0 ++ dktX1_play_1
theorem dksX1_play_0 : cX1_play.data.toList.drop 0 = dktX1_play_0 := by decide +kernel
theorem dksX1_play_1 : cX1_play.data.toList.drop 22 = dktX1_play_1 := dk_seg dksX1_play_0 22 rfl rfl
theorem dX1_play_0 : decode cX1_play 0 = .ok (.new 363, 3) := dk_187 1 107 (dk_at dksX1_play_0 0 rfl rfl)
theorem dX1_play_3 : decode cX1_play 3 = .ok (.dup, 1) := dk_89 (dk_at dksX1_play_0 3 rfl rfl)
theorem dX1_play_4 : decode cX1_play 4 = .ok (.aload_n 0, 1) := dk_42 (dk_at dksX1_play_0 4 rfl rfl)
theorem dX1_play_5 : decode cX1_play 5 = .ok (.invokespecial 365, 3) := dk_183 1 109 (dk_at dksX1_play_0 5 rfl rfl)
theorem dX1_play_8 : decode cX1_play 8 = .ok (.astore_n 1, 1) := dk_76 (dk_at dksX1_play_0 8 rfl rfl)
theorem dX1_play_9 : decode cX1_play 9 = .ok (.aload_n 1, 1) := dk_43 (dk_at dksX1_play_0 9 rfl rfl)
theorem dX1_play_10 : decode cX1_play 10 = .ok (.invokevirtual 368, 3) := dk_182 1 112 (dk_at dksX1_play_0 10 rfl rfl)
theorem dX1_play_13 : decode cX1_play 13 = .ok (.invokestatic 340, 3) := dk_184 1 84 (dk_at dksX1_play_0 13 rfl rfl)
theorem dX1_play_16 : decode cX1_play 16 = .ok (.aload_n 0, 1) := dk_42 (dk_at dksX1_play_0 16 rfl rfl)
theorem dX1_play_17 : decode cX1_play 17 = .ok (.aload_n 1, 1) := dk_43 (dk_at dksX1_play_0 17 rfl rfl)
theorem dX1_play_18 : decode cX1_play 18 = .ok (.getfield 384, 3) := dk_180 1 128 (dk_at dksX1_play_0 18 rfl rfl)
theorem dX1_play_21 : decode cX1_play 21 = .ok (.aload_n 1, 1) := dk_43 (dk_at dksX1_play_0 21 rfl rfl)
theorem dX1_play_22 : decode cX1_play 22 = .ok (.getfield 387, 3) := dk_180 1 131 (dk_at dksX1_play_1 0 rfl rfl)
theorem dX1_play_25 : decode cX1_play 25 = .ok (.invokevirtual 124, 3) := dk_182 0 124 (dk_at dksX1_play_1 3 rfl rfl)
theorem dX1_play_28 : decode cX1_play 28 = .ok (.ireturn, 1) := dk_172 (dk_at dksX1_play_1 6 rfl rfl)
theorem q92 : (Jvm.Cond.initialized "FerryClocks") ∈ lw_all := lw_g (lw_at lw_m1 1 rfl) rfl
theorem q127 : (Jvm.Cond.instantiable "FerryClocks" (4 : Nat)) ∈ lw_all := lw_g (lw_at lw_m1 36 rfl) rfl
theorem q129 : (Jvm.Cond.instanceMethod ({ cls := "FerryClocks", name := "<init>", desc := "()V" } : Jvm.MethodName)) ∈ lw_all := lw_g (lw_at lw_m1 38 rfl) rfl
theorem q130 : (Jvm.Cond.code ({ cls := "FerryClocks", name := "<init>", desc := "()V" } : Jvm.MethodName) prog_1_method_10_code (1 : Nat) (Option.none : Option Jvm.ClassFile.FieldType)) ∈ lw_all := lw_g (lw_at lw_m1 39 rfl) rfl
theorem q131 : (Jvm.Cond.methodLink "FerryClocks" (21 : Nat) ({ cls := "java/lang/Object", name := "<init>", desc := "()V" } : Jvm.MethodName)) ∈ lw_all := lw_g (lw_at lw_m1 40 rfl) rfl
theorem q134 : (Jvm.Cond.classLink "FerryClocks" (26 : Nat) "FerryClocks$Desk") ∈ lw_all := lw_g (lw_at lw_m1 43 rfl) rfl
theorem q136 : (Jvm.Cond.methodLink "FerryClocks" (28 : Nat) ({ cls := "FerryClocks$Desk", name := "<init>", desc := "()V" } : Jvm.MethodName)) ∈ lw_all := lw_g (lw_at lw_m1 45 rfl) rfl
theorem q178 : (Jvm.Cond.fieldLinkNest "FerryClocks" (241 : Nat) "FerryClocks$Zone" "bounds" "[I" "FerryClocks") ∈ lw_tbl := lw_at lw_m1 87 rfl
theorem q185 : (Jvm.Cond.fieldLinkNest "FerryClocks" (251 : Nat) "FerryClocks$Desk" "all" "Ljava/util/ArrayList;" "FerryClocks") ∈ lw_tbl := lw_at lw_m1 94 rfl
theorem q187 : (Jvm.Cond.fieldLinkNest "FerryClocks" (229 : Nat) "FerryClocks$Desk" "shelves" "[LFerryClocks$Zone;" "FerryClocks") ∈ lw_tbl := lw_at lw_m1 96 rfl
theorem q189 : (Jvm.Cond.fieldLinkNest "FerryClocks" (153 : Nat) "FerryClocks$Desk" "zone" "LFerryClocks$Zone;" "FerryClocks") ∈ lw_tbl := lw_at lw_m1 98 rfl
theorem q191 : (Jvm.Cond.fieldLinkNest "FerryClocks" (334 : Nat) "FerryClocks$Desk" "works" "I" "FerryClocks") ∈ lw_tbl := lw_at lw_m1 100 rfl
theorem q203 : (Jvm.Cond.classLink "FerryClocks" (33 : Nat) "java/util/ArrayDeque") ∈ lw_all := lw_g (lw_at lw_m1 112 rfl) rfl
theorem q205 : (Jvm.Cond.methodLink "FerryClocks" (35 : Nat) ({ cls := "java/util/ArrayDeque", name := "<init>", desc := "()V" } : Jvm.MethodName)) ∈ lw_all := lw_g (lw_at lw_m1 114 rfl) rfl
theorem q221 : (Jvm.Cond.classLink "FerryClocks" (40 : Nat) "java/lang/StringBuilder") ∈ lw_all := lw_g (lw_at lw_m1 130 rfl) rfl
theorem q223 : (Jvm.Cond.methodLink "FerryClocks" (42 : Nat) ({ cls := "java/lang/StringBuilder", name := "<init>", desc := "()V" } : Jvm.MethodName)) ∈ lw_all := lw_g (lw_at lw_m1 132 rfl) rfl
theorem q255 : (Jvm.Cond.fieldLink "FerryClocks" (29 : Nat) "FerryClocks" "desk" "LFerryClocks$Desk;") ∈ lw_all := lw_g (lw_at lw_m1 164 rfl) rfl
theorem q256 : (Jvm.Cond.fieldLink "FerryClocks" (337 : Nat) "FerryClocks" "kept" "LFerryClocks$Desk;") ∈ lw_all := lw_g (lw_at lw_m1 165 rfl) rfl
theorem q257 : (Jvm.Cond.fieldLink "FerryClocks" (36 : Nat) "FerryClocks" "history" "Ljava/util/ArrayDeque;") ∈ lw_all := lw_g (lw_at lw_m1 166 rfl) rfl
theorem q259 : (Jvm.Cond.fieldLink "FerryClocks" (43 : Nat) "FerryClocks" "text" "Ljava/lang/StringBuilder;") ∈ lw_all := lw_g (lw_at lw_m1 168 rfl) rfl
theorem q260 : (Jvm.Cond.lays "FerryClocks" "FerryClocks" "desk" "LFerryClocks$Desk;") ∈ lw_all := lw_g (lw_at lw_m1 169 rfl) rfl
theorem q261 : (Jvm.Cond.soleField "FerryClocks" "desk") ∈ lw_all := lw_g (lw_at lw_m1 170 rfl) rfl
theorem q262 : (Jvm.Cond.lays "FerryClocks" "FerryClocks" "kept" "LFerryClocks$Desk;") ∈ lw_all := lw_g (lw_at lw_m1 171 rfl) rfl
theorem q263 : (Jvm.Cond.soleField "FerryClocks" "kept") ∈ lw_all := lw_g (lw_at lw_m1 172 rfl) rfl
theorem q264 : (Jvm.Cond.laysFinal "FerryClocks" "FerryClocks" "history" "Ljava/util/ArrayDeque;") ∈ lw_all := lw_g (lw_at lw_m1 173 rfl) rfl
theorem q265 : (Jvm.Cond.soleField "FerryClocks" "history") ∈ lw_all := lw_g (lw_at lw_m1 174 rfl) rfl
theorem q266 : (Jvm.Cond.laysFinal "FerryClocks" "FerryClocks" "text" "Ljava/lang/StringBuilder;") ∈ lw_all := lw_g (lw_at lw_m1 175 rfl) rfl
theorem q267 : (Jvm.Cond.soleField "FerryClocks" "text") ∈ lw_all := lw_g (lw_at lw_m1 176 rfl) rfl
theorem q268 : (Jvm.Cond.superclass "FerryClocks" "java/lang/Object") ∈ lw_all := lw_g (lw_at lw_m1 177 rfl) rfl
theorem q270 : (Jvm.Cond.instanceMethod ({ cls := "FerryClocks", name := "forgetAll", desc := "()I" } : Jvm.MethodName)) ∈ lw_all := lw_g (lw_at lw_m1 179 rfl) rfl
theorem q271 : (Jvm.Cond.selects "FerryClocks" ({ cls := "FerryClocks", name := "forgetAll", desc := "()I" } : Jvm.MethodName) ({ cls := "FerryClocks", name := "forgetAll", desc := "()I" } : Jvm.MethodName)) ∈ lw_all := lw_g (lw_at lw_m1 180 rfl) rfl
theorem q272 : (Jvm.Cond.code ({ cls := "FerryClocks", name := "forgetAll", desc := "()I" } : Jvm.MethodName) prog_1_method_17_code (1 : Nat) (Option.some Jvm.ClassFile.FieldType.int)) ∈ lw_all := lw_g (lw_at lw_m1 181 rfl) rfl
theorem q273 : (Jvm.Cond.methodLink "FerryClocks" (144 : Nat) ({ cls := "FerryClocks", name := "act", desc := "(C[I)I" } : Jvm.MethodName)) ∈ lw_all := lw_g (lw_at lw_m1 182 rfl) rfl
theorem q274 : (Jvm.Cond.privateMethod ({ cls := "FerryClocks", name := "act", desc := "(C[I)I" } : Jvm.MethodName)) ∈ lw_tbl := lw_at lw_m1 183 rfl
theorem q275 : (Jvm.Cond.instanceMethod ({ cls := "FerryClocks", name := "act", desc := "(C[I)I" } : Jvm.MethodName)) ∈ lw_all := lw_g (lw_at lw_m1 184 rfl) rfl
theorem q276 : (Jvm.Cond.codeWith ({ cls := "FerryClocks", name := "act", desc := "(C[I)I" } : Jvm.MethodName) prog_1_method_14_code (5 : Nat) (Option.some Jvm.ClassFile.FieldType.int) [((12 : Nat), (23 : Nat), (24 : Nat), (15 : Nat))]) ∈ lw_all := lw_g (lw_at lw_m1 185 rfl) rfl
theorem q277 : (Jvm.Cond.classLink "FerryClocks" (15 : Nat) "FerryClocks$Refused") ∈ lw_all := lw_g (lw_at lw_m1 186 rfl) rfl
theorem q278 : (Jvm.Cond.methodLink "FerryClocks" (118 : Nat) ({ cls := "FerryClocks$Desk", name := "<init>", desc := "(LFerryClocks$Desk;)V" } : Jvm.MethodName)) ∈ lw_all := lw_g (lw_at lw_m1 187 rfl) rfl
theorem q316 : (Jvm.Cond.fieldLinkNest "FerryClocks" (278 : Nat) "FerryClocks$Line" "from" "I" "FerryClocks") ∈ lw_tbl := lw_at lw_m1 225 rfl
theorem q319 : (Jvm.Cond.fieldLinkNest "FerryClocks" (281 : Nat) "FerryClocks$Line" "to" "I" "FerryClocks") ∈ lw_tbl := lw_at lw_m1 228 rfl
theorem q369 : (Jvm.Cond.selects "FerryClocks" ({ cls := "java/lang/Object", name := "getClass", desc := "()Ljava/lang/Class;" } : Jvm.MethodName) ({ cls := "java/lang/Object", name := "getClass", desc := "()Ljava/lang/Class;" } : Jvm.MethodName)) ∈ lw_all := lw_g (lw_at lw_m2 38 rfl) rfl
theorem q403 : (Jvm.Cond.methodLink "FerryClocks" (121 : Nat) ({ cls := "FerryClocks", name := "done", desc := "(LFerryClocks$Desk;C[I)I" } : Jvm.MethodName)) ∈ lw_all := lw_g (lw_at lw_m2 72 rfl) rfl
theorem q404 : (Jvm.Cond.static ({ cls := "FerryClocks", name := "done", desc := "(LFerryClocks$Desk;C[I)I" } : Jvm.MethodName)) ∈ lw_all := lw_g (lw_at lw_m2 73 rfl) rfl
theorem q405 : (Jvm.Cond.code ({ cls := "FerryClocks", name := "done", desc := "(LFerryClocks$Desk;C[I)I" } : Jvm.MethodName) prog_1_method_12_code (3 : Nat) (Option.some Jvm.ClassFile.FieldType.int)) ∈ lw_all := lw_g (lw_at lw_m2 74 rfl) rfl
theorem q406 : (Jvm.Cond.methodLink "FerryClocks" (59 : Nat) ({ cls := "FerryClocks$Desk", name := "tells", desc := "(III)I" } : Jvm.MethodName)) ∈ lw_all := lw_g (lw_at lw_m2 75 rfl) rfl
theorem q411 : (Jvm.Cond.static ({ cls := "FerryClocks", name := "arePair", desc := "(II)Z" } : Jvm.MethodName)) ∈ lw_all := lw_g (lw_at lw_m2 80 rfl) rfl
theorem q412 : (Jvm.Cond.code ({ cls := "FerryClocks", name := "arePair", desc := "(II)Z" } : Jvm.MethodName) prog_1_method_3_code (2 : Nat) (Option.some Jvm.ClassFile.FieldType.boolean)) ∈ lw_all := lw_g (lw_at lw_m2 81 rfl) rfl
theorem q413 : (Jvm.Cond.constantLong "FerryClocks" (9 : Nat) (3 : Int64)) ∈ lw_all := lw_g (lw_at lw_m2 82 rfl) rfl
theorem q414 : (Jvm.Cond.methodLink "FerryClocks" (5 : Nat) ({ cls := "FerryClocks", name := "isBetween", desc := "(JJJ)Z" } : Jvm.MethodName)) ∈ lw_all := lw_g (lw_at lw_m2 83 rfl) rfl
theorem q415 : (Jvm.Cond.static ({ cls := "FerryClocks", name := "isBetween", desc := "(JJJ)Z" } : Jvm.MethodName)) ∈ lw_all := lw_g (lw_at lw_m2 84 rfl) rfl
theorem q416 : (Jvm.Cond.code ({ cls := "FerryClocks", name := "isBetween", desc := "(JJJ)Z" } : Jvm.MethodName) prog_1_method_1_code (6 : Nat) (Option.some Jvm.ClassFile.FieldType.boolean)) ∈ lw_all := lw_g (lw_at lw_m2 85 rfl) rfl
theorem q421 : (Jvm.Cond.static ({ cls := "FerryClocks", name := "need", desc := "(ZI)V" } : Jvm.MethodName)) ∈ lw_all := lw_g (lw_at lw_m2 90 rfl) rfl
theorem q422 : (Jvm.Cond.code ({ cls := "FerryClocks", name := "need", desc := "(ZI)V" } : Jvm.MethodName) prog_1_method_7_code (2 : Nat) (Option.none : Option Jvm.ClassFile.FieldType)) ∈ lw_all := lw_g (lw_at lw_m2 91 rfl) rfl
theorem q462 : (Jvm.Cond.methodLink "FerryClocks" (17 : Nat) ({ cls := "FerryClocks$Refused", name := "<init>", desc := "(I)V" } : Jvm.MethodName)) ∈ lw_all := lw_g (lw_at lw_m2 131 rfl) rfl
theorem q474 : (Jvm.Cond.fieldLinkNest "FerryClocks" (128 : Nat) "FerryClocks$Refused" "kind" "I" "FerryClocks") ∈ lw_tbl := lw_at lw_m2 143 rfl
theorem q537 : (Jvm.Cond.methodLink "FerryClocks" (63 : Nat) ({ cls := "FerryClocks$Desk", name := "forgets", desc := "(II)I" } : Jvm.MethodName)) ∈ lw_all := lw_g (lw_at lw_m2 206 rfl) rfl
theorem q543 : (Jvm.Cond.methodLink "FerryClocks" (67 : Nat) ({ cls := "FerryClocks$Desk", name := "forgetsAll", desc := "()I" } : Jvm.MethodName)) ∈ lw_all := lw_g (lw_at lw_m2 212 rfl) rfl
theorem q547 : (Jvm.Cond.methodLink "FerryClocks" (70 : Nat) ({ cls := "FerryClocks$Desk", name := "tightens", desc := "()I" } : Jvm.MethodName)) ∈ lw_all := lw_g (lw_at lw_m2 216 rfl) rfl
theorem q555 : (Jvm.Cond.methodLink "FerryClocks" (73 : Nat) ({ cls := "FerryClocks$Desk", name := "resets", desc := "(II)I" } : Jvm.MethodName)) ∈ lw_all := lw_g (lw_at lw_m2 224 rfl) rfl
theorem q560 : (Jvm.Cond.static ({ cls := "FerryClocks", name := "isClock", desc := "(I)Z" } : Jvm.MethodName)) ∈ lw_all := lw_g (lw_at lw_m2 229 rfl) rfl
theorem q561 : (Jvm.Cond.code ({ cls := "FerryClocks", name := "isClock", desc := "(I)Z" } : Jvm.MethodName) prog_1_method_2_code (1 : Nat) (Option.some Jvm.ClassFile.FieldType.boolean)) ∈ lw_all := lw_g (lw_at lw_m2 230 rfl) rfl
theorem q562 : (Jvm.Cond.constantLong "FerryClocks" (3 : Nat) (2 : Int64)) ∈ lw_all := lw_g (lw_at lw_m2 231 rfl) rfl
theorem q572 : (Jvm.Cond.methodLink "FerryClocks" (76 : Nat) ({ cls := "FerryClocks$Desk", name := "delays", desc := "()I" } : Jvm.MethodName)) ∈ lw_all := lw_g (lw_at lw_m3 1 rfl) rfl
theorem q580 : (Jvm.Cond.methodLink "FerryClocks" (79 : Nat) ({ cls := "FerryClocks$Desk", name := "goesBack", desc := "()I" } : Jvm.MethodName)) ∈ lw_all := lw_g (lw_at lw_m3 9 rfl) rfl
theorem q588 : (Jvm.Cond.methodLink "FerryClocks" (82 : Nat) ({ cls := "FerryClocks$Desk", name := "frees", desc := "(I)I" } : Jvm.MethodName)) ∈ lw_all := lw_g (lw_at lw_m3 17 rfl) rfl
theorem q596 : (Jvm.Cond.methodLink "FerryClocks" (86 : Nat) ({ cls := "FerryClocks$Desk", name := "copies", desc := "(II)I" } : Jvm.MethodName)) ∈ lw_all := lw_g (lw_at lw_m3 25 rfl) rfl
theorem q604 : (Jvm.Cond.methodLink "FerryClocks" (89 : Nat) ({ cls := "FerryClocks$Desk", name := "shifts", desc := "(II)I" } : Jvm.MethodName)) ∈ lw_all := lw_g (lw_at lw_m3 33 rfl) rfl
theorem q612 : (Jvm.Cond.methodLink "FerryClocks" (92 : Nat) ({ cls := "FerryClocks", name := "doneBeside", desc := "(LFerryClocks$Desk;C[I)I" } : Jvm.MethodName)) ∈ lw_all := lw_g (lw_at lw_m3 41 rfl) rfl
theorem q613 : (Jvm.Cond.static ({ cls := "FerryClocks", name := "doneBeside", desc := "(LFerryClocks$Desk;C[I)I" } : Jvm.MethodName)) ∈ lw_all := lw_g (lw_at lw_m3 42 rfl) rfl
theorem q614 : (Jvm.Cond.code ({ cls := "FerryClocks", name := "doneBeside", desc := "(LFerryClocks$Desk;C[I)I" } : Jvm.MethodName) prog_1_method_13_code (3 : Nat) (Option.some Jvm.ClassFile.FieldType.int)) ∈ lw_all := lw_g (lw_at lw_m3 43 rfl) rfl
theorem q615 : (Jvm.Cond.methodLink "FerryClocks" (96 : Nat) ({ cls := "FerryClocks$Desk", name := "puts", desc := "(I)I" } : Jvm.MethodName)) ∈ lw_all := lw_g (lw_at lw_m3 44 rfl) rfl
theorem q620 : (Jvm.Cond.static ({ cls := "FerryClocks", name := "isShelf", desc := "(I)Z" } : Jvm.MethodName)) ∈ lw_all := lw_g (lw_at lw_m3 49 rfl) rfl
theorem q621 : (Jvm.Cond.code ({ cls := "FerryClocks", name := "isShelf", desc := "(I)Z" } : Jvm.MethodName) prog_1_method_4_code (1 : Nat) (Option.some Jvm.ClassFile.FieldType.boolean)) ∈ lw_all := lw_g (lw_at lw_m3 50 rfl) rfl
theorem q622 : (Jvm.Cond.methodLink "FerryClocks" (99 : Nat) ({ cls := "FerryClocks$Desk", name := "meets", desc := "(I)I" } : Jvm.MethodName)) ∈ lw_all := lw_g (lw_at lw_m3 51 rfl) rfl
theorem q631 : (Jvm.Cond.methodLink "FerryClocks" (102 : Nat) ({ cls := "FerryClocks$Desk", name := "wraps", desc := "(I)I" } : Jvm.MethodName)) ∈ lw_all := lw_g (lw_at lw_m3 60 rfl) rfl
theorem q636 : (Jvm.Cond.methodLink "FerryClocks" (105 : Nat) ({ cls := "FerryClocks$Desk", name := "allows", desc := "(III)I" } : Jvm.MethodName)) ∈ lw_all := lw_g (lw_at lw_m3 65 rfl) rfl
theorem q641 : (Jvm.Cond.static ({ cls := "FerryClocks", name := "isHarbour", desc := "(I)Z" } : Jvm.MethodName)) ∈ lw_all := lw_g (lw_at lw_m3 70 rfl) rfl
theorem q642 : (Jvm.Cond.code ({ cls := "FerryClocks", name := "isHarbour", desc := "(I)Z" } : Jvm.MethodName) prog_1_method_5_code (1 : Nat) (Option.some Jvm.ClassFile.FieldType.boolean)) ∈ lw_all := lw_g (lw_at lw_m3 71 rfl) rfl
theorem q643 : (Jvm.Cond.constantLong "FerryClocks" (11 : Nat) (5 : Int64)) ∈ lw_all := lw_g (lw_at lw_m3 72 rfl) rfl
theorem q649 : (Jvm.Cond.methodLink "FerryClocks" (108 : Nat) ({ cls := "FerryClocks$Desk", name := "getsLine", desc := "(II)I" } : Jvm.MethodName)) ∈ lw_all := lw_g (lw_at lw_m3 78 rfl) rfl
theorem q656 : (Jvm.Cond.methodLink "FerryClocks" (111 : Nat) ({ cls := "FerryClocks$Desk", name := "wants", desc := "(IIII)I" } : Jvm.MethodName)) ∈ lw_all := lw_g (lw_at lw_m3 85 rfl) rfl
theorem q664 : (Jvm.Cond.methodLink "FerryClocks" (115 : Nat) ({ cls := "FerryClocks$Desk", name := "turnsReset", desc := "(II)I" } : Jvm.MethodName)) ∈ lw_all := lw_g (lw_at lw_m3 93 rfl) rfl
theorem q672 : (Jvm.Cond.methodLink "FerryClocks" (124 : Nat) ({ cls := "FerryClocks", name := "changed", desc := "(LFerryClocks$Desk;I)I" } : Jvm.MethodName)) ∈ lw_all := lw_g (lw_at lw_m3 101 rfl) rfl
theorem q673 : (Jvm.Cond.privateMethod ({ cls := "FerryClocks", name := "changed", desc := "(LFerryClocks$Desk;I)I" } : Jvm.MethodName)) ∈ lw_tbl := lw_at lw_m3 102 rfl
theorem q674 : (Jvm.Cond.instanceMethod ({ cls := "FerryClocks", name := "changed", desc := "(LFerryClocks$Desk;I)I" } : Jvm.MethodName)) ∈ lw_all := lw_g (lw_at lw_m3 103 rfl) rfl
theorem q675 : (Jvm.Cond.code ({ cls := "FerryClocks", name := "changed", desc := "(LFerryClocks$Desk;I)I" } : Jvm.MethodName) prog_1_method_11_code (3 : Nat) (Option.some Jvm.ClassFile.FieldType.int)) ∈ lw_all := lw_g (lw_at lw_m3 104 rfl) rfl
theorem q676 : (Jvm.Cond.methodLink "FerryClocks" (47 : Nat) ({ cls := "java/util/ArrayDeque", name := "addLast", desc := "(Ljava/lang/Object;)V" } : Jvm.MethodName)) ∈ lw_all := lw_g (lw_at lw_m3 105 rfl) rfl
theorem q716 : (Jvm.Cond.methodLink "FerryClocks" (51 : Nat) ({ cls := "java/util/ArrayDeque", name := "size", desc := "()I" } : Jvm.MethodName)) ∈ lw_all := lw_g (lw_at lw_m3 145 rfl) rfl
theorem q723 : (Jvm.Cond.methodLink "FerryClocks" (55 : Nat) ({ cls := "java/util/ArrayDeque", name := "removeFirst", desc := "()Ljava/lang/Object;" } : Jvm.MethodName)) ∈ lw_all := lw_g (lw_at lw_m3 152 rfl) rfl
theorem q755 : (Jvm.Cond.classLink "FerryClocks" (132 : Nat) "java/lang/IllegalArgumentException") ∈ lw_all := lw_g (lw_at lw_m3 184 rfl) rfl
theorem q764 : (Jvm.Cond.stringRef "FerryClocks" (134 : Nat) "out of range") ∈ lw_tbl := lw_at lw_m3 193 rfl
theorem q765 : (Jvm.Cond.methodLink "FerryClocks" (136 : Nat) ({ cls := "java/lang/IllegalArgumentException", name := "<init>", desc := "(Ljava/lang/String;)V" } : Jvm.MethodName)) ∈ lw_all := lw_g (lw_at lw_m3 194 rfl) rfl
theorem q771 : (Jvm.Cond.classLink "FerryClocks" (139 : Nat) "java/lang/IllegalStateException") ∈ lw_all := lw_g (lw_at lw_m3 200 rfl) rfl
theorem q772 : (Jvm.Cond.stringRef "FerryClocks" (141 : Nat) "not possible") ∈ lw_tbl := lw_at lw_m3 201 rfl
theorem q773 : (Jvm.Cond.methodLink "FerryClocks" (143 : Nat) ({ cls := "java/lang/IllegalStateException", name := "<init>", desc := "(Ljava/lang/String;)V" } : Jvm.MethodName)) ∈ lw_all := lw_g (lw_at lw_m3 202 rfl) rfl
theorem q775 : (Jvm.Cond.instanceMethod ({ cls := "FerryClocks", name := "isTight", desc := "()Z" } : Jvm.MethodName)) ∈ lw_all := lw_g (lw_at lw_m3 204 rfl) rfl
theorem q776 : (Jvm.Cond.selects "FerryClocks" ({ cls := "FerryClocks", name := "isTight", desc := "()Z" } : Jvm.MethodName) ({ cls := "FerryClocks", name := "isTight", desc := "()Z" } : Jvm.MethodName)) ∈ lw_all := lw_g (lw_at lw_m3 205 rfl) rfl
theorem q777 : (Jvm.Cond.code ({ cls := "FerryClocks", name := "isTight", desc := "()Z" } : Jvm.MethodName) prog_1_method_39_code (2 : Nat) (Option.some Jvm.ClassFile.FieldType.boolean)) ∈ lw_all := lw_g (lw_at lw_m3 206 rfl) rfl
theorem q778 : (Jvm.Cond.methodLink "FerryClocks" (157 : Nat) ({ cls := "FerryClocks$Zone", name := "tight", desc := "()LFerryClocks$Zone;" } : Jvm.MethodName)) ∈ lw_all := lw_g (lw_at lw_m3 207 rfl) rfl
theorem q779 : (Jvm.Cond.methodLink "FerryClocks" (163 : Nat) ({ cls := "FerryClocks$Zone", name := "hasNone", desc := "()Z" } : Jvm.MethodName)) ∈ lw_all := lw_g (lw_at lw_m3 208 rfl) rfl
theorem q780 : (Jvm.Cond.methodLink "FerryClocks" (187 : Nat) ({ cls := "FerryClocks$Zone", name := "unlike", desc := "(LFerryClocks$Zone;)I" } : Jvm.MethodName)) ∈ lw_all := lw_g (lw_at lw_m3 209 rfl) rfl
theorem q782 : (Jvm.Cond.instanceMethod ({ cls := "FerryClocks", name := "isEmpty", desc := "()Z" } : Jvm.MethodName)) ∈ lw_all := lw_g (lw_at lw_m3 211 rfl) rfl
theorem q783 : (Jvm.Cond.selects "FerryClocks" ({ cls := "FerryClocks", name := "isEmpty", desc := "()Z" } : Jvm.MethodName) ({ cls := "FerryClocks", name := "isEmpty", desc := "()Z" } : Jvm.MethodName)) ∈ lw_all := lw_g (lw_at lw_m3 212 rfl) rfl
theorem q784 : (Jvm.Cond.code ({ cls := "FerryClocks", name := "isEmpty", desc := "()Z" } : Jvm.MethodName) prog_1_method_40_code (1 : Nat) (Option.some Jvm.ClassFile.FieldType.boolean)) ∈ lw_all := lw_g (lw_at lw_m3 213 rfl) rfl
theorem q785 : (Jvm.Cond.methodLink "FerryClocks" (191 : Nat) ({ cls := "FerryClocks$Zone", name := "isVoid", desc := "()Z" } : Jvm.MethodName)) ∈ lw_all := lw_g (lw_at lw_m3 214 rfl) rfl
theorem q792 : (Jvm.Cond.instanceMethod ({ cls := "FerryClocks", name := "isEmptyByMoments", desc := "()Z" } : Jvm.MethodName)) ∈ lw_all := lw_g (lw_at lw_m3 221 rfl) rfl
theorem q793 : (Jvm.Cond.selects "FerryClocks" ({ cls := "FerryClocks", name := "isEmptyByMoments", desc := "()Z" } : Jvm.MethodName) ({ cls := "FerryClocks", name := "isEmptyByMoments", desc := "()Z" } : Jvm.MethodName)) ∈ lw_all := lw_g (lw_at lw_m3 222 rfl) rfl
theorem q794 : (Jvm.Cond.code ({ cls := "FerryClocks", name := "isEmptyByMoments", desc := "()Z" } : Jvm.MethodName) prog_1_method_41_code (1 : Nat) (Option.some Jvm.ClassFile.FieldType.boolean)) ∈ lw_all := lw_g (lw_at lw_m3 223 rfl) rfl
theorem q795 : (Jvm.Cond.methodLink "FerryClocks" (194 : Nat) ({ cls := "FerryClocks$Zone", name := "count", desc := "(LFerryClocks$Zone;)I" } : Jvm.MethodName)) ∈ lw_all := lw_g (lw_at lw_m3 224 rfl) rfl
theorem q807 : (Jvm.Cond.instanceMethod ({ cls := "FerryClocks", name := "moments", desc := "()I" } : Jvm.MethodName)) ∈ lw_all := lw_g (lw_at lw_m3 236 rfl) rfl
theorem q808 : (Jvm.Cond.selects "FerryClocks" ({ cls := "FerryClocks", name := "moments", desc := "()I" } : Jvm.MethodName) ({ cls := "FerryClocks", name := "moments", desc := "()I" } : Jvm.MethodName)) ∈ lw_all := lw_g (lw_at lw_m3 237 rfl) rfl
theorem q809 : (Jvm.Cond.code ({ cls := "FerryClocks", name := "moments", desc := "()I" } : Jvm.MethodName) prog_1_method_43_code (1 : Nat) (Option.some Jvm.ClassFile.FieldType.int)) ∈ lw_all := lw_g (lw_at lw_m3 238 rfl) rfl
theorem q811 : (Jvm.Cond.instanceMethod ({ cls := "FerryClocks", name := "momentsTightened", desc := "()I" } : Jvm.MethodName)) ∈ lw_all := lw_g (lw_at lw_m4 0 rfl) rfl
theorem q812 : (Jvm.Cond.selects "FerryClocks" ({ cls := "FerryClocks", name := "momentsTightened", desc := "()I" } : Jvm.MethodName) ({ cls := "FerryClocks", name := "momentsTightened", desc := "()I" } : Jvm.MethodName)) ∈ lw_all := lw_g (lw_at lw_m4 1 rfl) rfl
theorem q813 : (Jvm.Cond.code ({ cls := "FerryClocks", name := "momentsTightened", desc := "()I" } : Jvm.MethodName) prog_1_method_44_code (2 : Nat) (Option.some Jvm.ClassFile.FieldType.int)) ∈ lw_all := lw_g (lw_at lw_m4 2 rfl) rfl
theorem q815 : (Jvm.Cond.instanceMethod ({ cls := "FerryClocks", name := "lines", desc := "()I" } : Jvm.MethodName)) ∈ lw_all := lw_g (lw_at lw_m4 4 rfl) rfl
theorem q816 : (Jvm.Cond.selects "FerryClocks" ({ cls := "FerryClocks", name := "lines", desc := "()I" } : Jvm.MethodName) ({ cls := "FerryClocks", name := "lines", desc := "()I" } : Jvm.MethodName)) ∈ lw_all := lw_g (lw_at lw_m4 5 rfl) rfl
theorem q817 : (Jvm.Cond.code ({ cls := "FerryClocks", name := "lines", desc := "()I" } : Jvm.MethodName) prog_1_method_58_code (1 : Nat) (Option.some Jvm.ClassFile.FieldType.int)) ∈ lw_all := lw_g (lw_at lw_m4 6 rfl) rfl
theorem q818 : (Jvm.Cond.methodLink "FerryClocks" (273 : Nat) ({ cls := "java/util/ArrayList", name := "size", desc := "()I" } : Jvm.MethodName)) ∈ lw_all := lw_g (lw_at lw_m4 7 rfl) rfl
theorem q820 : (Jvm.Cond.instanceMethod ({ cls := "FerryClocks", name := "reachableByMoments", desc := "()I" } : Jvm.MethodName)) ∈ lw_all := lw_g (lw_at lw_m4 9 rfl) rfl
theorem q821 : (Jvm.Cond.selects "FerryClocks" ({ cls := "FerryClocks", name := "reachableByMoments", desc := "()I" } : Jvm.MethodName) ({ cls := "FerryClocks", name := "reachableByMoments", desc := "()I" } : Jvm.MethodName)) ∈ lw_all := lw_g (lw_at lw_m4 10 rfl) rfl
theorem q822 : (Jvm.Cond.code ({ cls := "FerryClocks", name := "reachableByMoments", desc := "()I" } : Jvm.MethodName) prog_1_method_63_code (1 : Nat) (Option.some Jvm.ClassFile.FieldType.int)) ∈ lw_all := lw_g (lw_at lw_m4 11 rfl) rfl
theorem q823 : (Jvm.Cond.methodLink "FerryClocks" (295 : Nat) ({ cls := "FerryClocks$Desk", name := "harboursByMoments", desc := "()I" } : Jvm.MethodName)) ∈ lw_all := lw_g (lw_at lw_m4 12 rfl) rfl
theorem q836 : (Jvm.Cond.static ({ cls := "FerryClocks", name := "clockOf", desc := "(II)I" } : Jvm.MethodName)) ∈ lw_all := lw_g (lw_at lw_m4 25 rfl) rfl
theorem q837 : (Jvm.Cond.code ({ cls := "FerryClocks", name := "clockOf", desc := "(II)I" } : Jvm.MethodName) prog_1_method_8_code (2 : Nat) (Option.some Jvm.ClassFile.FieldType.int)) ∈ lw_all := lw_g (lw_at lw_m4 26 rfl) rfl
theorem q852 : (Jvm.Cond.static ({ cls := "FerryClocks", name := "codeOf", desc := "(IIII)I" } : Jvm.MethodName)) ∈ lw_all := lw_g (lw_at lw_m4 41 rfl) rfl
theorem q853 : (Jvm.Cond.code ({ cls := "FerryClocks", name := "codeOf", desc := "(IIII)I" } : Jvm.MethodName) prog_1_method_9_code (4 : Nat) (Option.some Jvm.ClassFile.FieldType.int)) ∈ lw_all := lw_g (lw_at lw_m4 42 rfl) rfl
theorem q859 : (Jvm.Cond.instanceMethod ({ cls := "FerryClocks", name := "stuckIn", desc := "()I" } : Jvm.MethodName)) ∈ lw_all := lw_g (lw_at lw_m4 48 rfl) rfl
theorem q860 : (Jvm.Cond.selects "FerryClocks" ({ cls := "FerryClocks", name := "stuckIn", desc := "()I" } : Jvm.MethodName) ({ cls := "FerryClocks", name := "stuckIn", desc := "()I" } : Jvm.MethodName)) ∈ lw_all := lw_g (lw_at lw_m4 49 rfl) rfl
theorem q861 : (Jvm.Cond.code ({ cls := "FerryClocks", name := "stuckIn", desc := "()I" } : Jvm.MethodName) prog_1_method_68_code (1 : Nat) (Option.some Jvm.ClassFile.FieldType.int)) ∈ lw_all := lw_g (lw_at lw_m4 50 rfl) rfl
theorem q862 : (Jvm.Cond.methodLink "FerryClocks" (304 : Nat) ({ cls := "FerryClocks$Desk", name := "stuck", desc := "()I" } : Jvm.MethodName)) ∈ lw_all := lw_g (lw_at lw_m4 51 rfl) rfl
theorem q871 : (Jvm.Cond.instanceMethod ({ cls := "FerryClocks", name := "usableLines", desc := "()I" } : Jvm.MethodName)) ∈ lw_all := lw_g (lw_at lw_m4 60 rfl) rfl
theorem q872 : (Jvm.Cond.selects "FerryClocks" ({ cls := "FerryClocks", name := "usableLines", desc := "()I" } : Jvm.MethodName) ({ cls := "FerryClocks", name := "usableLines", desc := "()I" } : Jvm.MethodName)) ∈ lw_all := lw_g (lw_at lw_m4 61 rfl) rfl
theorem q873 : (Jvm.Cond.code ({ cls := "FerryClocks", name := "usableLines", desc := "()I" } : Jvm.MethodName) prog_1_method_69_code (1 : Nat) (Option.some Jvm.ClassFile.FieldType.int)) ∈ lw_all := lw_g (lw_at lw_m4 62 rfl) rfl
theorem q874 : (Jvm.Cond.methodLink "FerryClocks" (307 : Nat) ({ cls := "FerryClocks$Desk", name := "usable", desc := "()I" } : Jvm.MethodName)) ∈ lw_all := lw_g (lw_at lw_m4 63 rfl) rfl
theorem q879 : (Jvm.Cond.instanceMethod ({ cls := "FerryClocks", name := "share", desc := "()F" } : Jvm.MethodName)) ∈ lw_all := lw_g (lw_at lw_m4 68 rfl) rfl
theorem q880 : (Jvm.Cond.selects "FerryClocks" ({ cls := "FerryClocks", name := "share", desc := "()F" } : Jvm.MethodName) ({ cls := "FerryClocks", name := "share", desc := "()F" } : Jvm.MethodName)) ∈ lw_all := lw_g (lw_at lw_m4 69 rfl) rfl
theorem q881 : (Jvm.Cond.code ({ cls := "FerryClocks", name := "share", desc := "()F" } : Jvm.MethodName) prog_1_method_70_code (1 : Nat) (Option.some Jvm.ClassFile.FieldType.float)) ∈ lw_all := lw_g (lw_at lw_m4 70 rfl) rfl
theorem q882 : (Jvm.Cond.methodLink "FerryClocks" (310 : Nat) ({ cls := "FerryClocks", name := "moments", desc := "()I" } : Jvm.MethodName)) ∈ lw_all := lw_g (lw_at lw_m4 71 rfl) rfl
theorem q883 : (Jvm.Cond.constantFloat "FerryClocks" (313 : Nat) (1189658112 : UInt32)) ∈ lw_all := lw_g (lw_at lw_m4 72 rfl) rfl
theorem q885 : (Jvm.Cond.instanceMethod ({ cls := "FerryClocks", name := "shareBits", desc := "()I" } : Jvm.MethodName)) ∈ lw_all := lw_g (lw_at lw_m4 74 rfl) rfl
theorem q886 : (Jvm.Cond.selects "FerryClocks" ({ cls := "FerryClocks", name := "shareBits", desc := "()I" } : Jvm.MethodName) ({ cls := "FerryClocks", name := "shareBits", desc := "()I" } : Jvm.MethodName)) ∈ lw_all := lw_g (lw_at lw_m4 75 rfl) rfl
theorem q887 : (Jvm.Cond.code ({ cls := "FerryClocks", name := "shareBits", desc := "()I" } : Jvm.MethodName) prog_1_method_71_code (1 : Nat) (Option.some Jvm.ClassFile.FieldType.int)) ∈ lw_all := lw_g (lw_at lw_m4 76 rfl) rfl
theorem q888 : (Jvm.Cond.methodLink "FerryClocks" (314 : Nat) ({ cls := "FerryClocks", name := "share", desc := "()F" } : Jvm.MethodName)) ∈ lw_all := lw_g (lw_at lw_m4 77 rfl) rfl
theorem q889 : (Jvm.Cond.methodLink "FerryClocks" (318 : Nat) ({ cls := "java/lang/Float", name := "floatToIntBits", desc := "(F)I" } : Jvm.MethodName)) ∈ lw_all := lw_g (lw_at lw_m4 78 rfl) rfl
theorem q900 : (Jvm.Cond.instanceMethod ({ cls := "FerryClocks", name := "worked", desc := "()I" } : Jvm.MethodName)) ∈ lw_all := lw_g (lw_at lw_m4 89 rfl) rfl
theorem q901 : (Jvm.Cond.selects "FerryClocks" ({ cls := "FerryClocks", name := "worked", desc := "()I" } : Jvm.MethodName) ({ cls := "FerryClocks", name := "worked", desc := "()I" } : Jvm.MethodName)) ∈ lw_all := lw_g (lw_at lw_m4 90 rfl) rfl
theorem q902 : (Jvm.Cond.code ({ cls := "FerryClocks", name := "worked", desc := "()I" } : Jvm.MethodName) prog_1_method_73_code (1 : Nat) (Option.some Jvm.ClassFile.FieldType.int)) ∈ lw_all := lw_g (lw_at lw_m4 91 rfl) rfl
theorem q904 : (Jvm.Cond.instanceMethod ({ cls := "FerryClocks", name := "keep", desc := "()I" } : Jvm.MethodName)) ∈ lw_all := lw_g (lw_at lw_m4 93 rfl) rfl
theorem q905 : (Jvm.Cond.selects "FerryClocks" ({ cls := "FerryClocks", name := "keep", desc := "()I" } : Jvm.MethodName) ({ cls := "FerryClocks", name := "keep", desc := "()I" } : Jvm.MethodName)) ∈ lw_all := lw_g (lw_at lw_m4 94 rfl) rfl
theorem q906 : (Jvm.Cond.code ({ cls := "FerryClocks", name := "keep", desc := "()I" } : Jvm.MethodName) prog_1_method_74_code (1 : Nat) (Option.some Jvm.ClassFile.FieldType.int)) ∈ lw_all := lw_g (lw_at lw_m4 95 rfl) rfl
theorem q908 : (Jvm.Cond.instanceMethod ({ cls := "FerryClocks", name := "states", desc := "()I" } : Jvm.MethodName)) ∈ lw_all := lw_g (lw_at lw_m4 97 rfl) rfl
theorem q909 : (Jvm.Cond.selects "FerryClocks" ({ cls := "FerryClocks", name := "states", desc := "()I" } : Jvm.MethodName) ({ cls := "FerryClocks", name := "states", desc := "()I" } : Jvm.MethodName)) ∈ lw_all := lw_g (lw_at lw_m4 98 rfl) rfl
theorem q910 : (Jvm.Cond.code ({ cls := "FerryClocks", name := "states", desc := "()I" } : Jvm.MethodName) prog_1_method_76_code (1 : Nat) (Option.some Jvm.ClassFile.FieldType.int)) ∈ lw_all := lw_g (lw_at lw_m4 99 rfl) rfl
theorem q912 : (Jvm.Cond.instanceMethod ({ cls := "FerryClocks", name := "clearText", desc := "()I" } : Jvm.MethodName)) ∈ lw_all := lw_g (lw_at lw_m4 101 rfl) rfl
theorem q913 : (Jvm.Cond.selects "FerryClocks" ({ cls := "FerryClocks", name := "clearText", desc := "()I" } : Jvm.MethodName) ({ cls := "FerryClocks", name := "clearText", desc := "()I" } : Jvm.MethodName)) ∈ lw_all := lw_g (lw_at lw_m4 102 rfl) rfl
theorem q914 : (Jvm.Cond.code ({ cls := "FerryClocks", name := "clearText", desc := "()I" } : Jvm.MethodName) prog_1_method_79_code (2 : Nat) (Option.some Jvm.ClassFile.FieldType.int)) ∈ lw_all := lw_g (lw_at lw_m4 103 rfl) rfl
theorem q915 : (Jvm.Cond.methodLink "FerryClocks" (353 : Nat) ({ cls := "java/lang/StringBuilder", name := "length", desc := "()I" } : Jvm.MethodName)) ∈ lw_all := lw_g (lw_at lw_m4 104 rfl) rfl
theorem q922 : (Jvm.Cond.methodLink "FerryClocks" (360 : Nat) ({ cls := "java/lang/StringBuilder", name := "setLength", desc := "(I)V" } : Jvm.MethodName)) ∈ lw_all := lw_g (lw_at lw_m4 111 rfl) rfl
theorem q1137 : (Jvm.Cond.instanceMethod ({ cls := "FerryClocks", name := "tell", desc := "(III)Z" } : Jvm.MethodName)) ∈ lw_all := lw_g (lw_at lw_m5 86 rfl) rfl
theorem q1138 : (Jvm.Cond.selects "FerryClocks" ({ cls := "FerryClocks", name := "tell", desc := "(III)Z" } : Jvm.MethodName) ({ cls := "FerryClocks", name := "tell", desc := "(III)Z" } : Jvm.MethodName)) ∈ lw_all := lw_g (lw_at lw_m5 87 rfl) rfl
theorem q1139 : (Jvm.Cond.code ({ cls := "FerryClocks", name := "tell", desc := "(III)Z" } : Jvm.MethodName) prog_1_method_15_code (4 : Nat) (Option.some Jvm.ClassFile.FieldType.boolean)) ∈ lw_all := lw_g (lw_at lw_m5 88 rfl) rfl
theorem q1144 : (Jvm.Cond.instanceMethod ({ cls := "FerryClocks", name := "forget", desc := "(II)Z" } : Jvm.MethodName)) ∈ lw_all := lw_g (lw_at lw_m5 93 rfl) rfl
theorem q1145 : (Jvm.Cond.selects "FerryClocks" ({ cls := "FerryClocks", name := "forget", desc := "(II)Z" } : Jvm.MethodName) ({ cls := "FerryClocks", name := "forget", desc := "(II)Z" } : Jvm.MethodName)) ∈ lw_all := lw_g (lw_at lw_m5 94 rfl) rfl
theorem q1146 : (Jvm.Cond.code ({ cls := "FerryClocks", name := "forget", desc := "(II)Z" } : Jvm.MethodName) prog_1_method_16_code (3 : Nat) (Option.some Jvm.ClassFile.FieldType.boolean)) ∈ lw_all := lw_g (lw_at lw_m5 95 rfl) rfl
theorem q1151 : (Jvm.Cond.instanceMethod ({ cls := "FerryClocks", name := "tighten", desc := "()I" } : Jvm.MethodName)) ∈ lw_all := lw_g (lw_at lw_m5 100 rfl) rfl
theorem q1152 : (Jvm.Cond.selects "FerryClocks" ({ cls := "FerryClocks", name := "tighten", desc := "()I" } : Jvm.MethodName) ({ cls := "FerryClocks", name := "tighten", desc := "()I" } : Jvm.MethodName)) ∈ lw_all := lw_g (lw_at lw_m5 101 rfl) rfl
theorem q1153 : (Jvm.Cond.code ({ cls := "FerryClocks", name := "tighten", desc := "()I" } : Jvm.MethodName) prog_1_method_18_code (1 : Nat) (Option.some Jvm.ClassFile.FieldType.int)) ∈ lw_all := lw_g (lw_at lw_m5 102 rfl) rfl
theorem q1158 : (Jvm.Cond.instanceMethod ({ cls := "FerryClocks", name := "reset", desc := "(II)I" } : Jvm.MethodName)) ∈ lw_all := lw_g (lw_at lw_m5 107 rfl) rfl
theorem q1159 : (Jvm.Cond.selects "FerryClocks" ({ cls := "FerryClocks", name := "reset", desc := "(II)I" } : Jvm.MethodName) ({ cls := "FerryClocks", name := "reset", desc := "(II)I" } : Jvm.MethodName)) ∈ lw_all := lw_g (lw_at lw_m5 108 rfl) rfl
theorem q1160 : (Jvm.Cond.code ({ cls := "FerryClocks", name := "reset", desc := "(II)I" } : Jvm.MethodName) prog_1_method_19_code (3 : Nat) (Option.some Jvm.ClassFile.FieldType.int)) ∈ lw_all := lw_g (lw_at lw_m5 109 rfl) rfl
theorem q1165 : (Jvm.Cond.instanceMethod ({ cls := "FerryClocks", name := "delay", desc := "()I" } : Jvm.MethodName)) ∈ lw_all := lw_g (lw_at lw_m5 114 rfl) rfl
theorem q1166 : (Jvm.Cond.selects "FerryClocks" ({ cls := "FerryClocks", name := "delay", desc := "()I" } : Jvm.MethodName) ({ cls := "FerryClocks", name := "delay", desc := "()I" } : Jvm.MethodName)) ∈ lw_all := lw_g (lw_at lw_m5 115 rfl) rfl
theorem q1167 : (Jvm.Cond.code ({ cls := "FerryClocks", name := "delay", desc := "()I" } : Jvm.MethodName) prog_1_method_20_code (1 : Nat) (Option.some Jvm.ClassFile.FieldType.int)) ∈ lw_all := lw_g (lw_at lw_m5 116 rfl) rfl
theorem q1172 : (Jvm.Cond.instanceMethod ({ cls := "FerryClocks", name := "goBackInTime", desc := "()I" } : Jvm.MethodName)) ∈ lw_all := lw_g (lw_at lw_m5 121 rfl) rfl
theorem q1173 : (Jvm.Cond.selects "FerryClocks" ({ cls := "FerryClocks", name := "goBackInTime", desc := "()I" } : Jvm.MethodName) ({ cls := "FerryClocks", name := "goBackInTime", desc := "()I" } : Jvm.MethodName)) ∈ lw_all := lw_g (lw_at lw_m5 122 rfl) rfl
theorem q1174 : (Jvm.Cond.code ({ cls := "FerryClocks", name := "goBackInTime", desc := "()I" } : Jvm.MethodName) prog_1_method_21_code (1 : Nat) (Option.some Jvm.ClassFile.FieldType.int)) ∈ lw_all := lw_g (lw_at lw_m5 123 rfl) rfl
theorem q1179 : (Jvm.Cond.instanceMethod ({ cls := "FerryClocks", name := "setFree", desc := "(I)I" } : Jvm.MethodName)) ∈ lw_all := lw_g (lw_at lw_m5 128 rfl) rfl
theorem q1180 : (Jvm.Cond.selects "FerryClocks" ({ cls := "FerryClocks", name := "setFree", desc := "(I)I" } : Jvm.MethodName) ({ cls := "FerryClocks", name := "setFree", desc := "(I)I" } : Jvm.MethodName)) ∈ lw_all := lw_g (lw_at lw_m5 129 rfl) rfl
theorem q1181 : (Jvm.Cond.code ({ cls := "FerryClocks", name := "setFree", desc := "(I)I" } : Jvm.MethodName) prog_1_method_22_code (2 : Nat) (Option.some Jvm.ClassFile.FieldType.int)) ∈ lw_all := lw_g (lw_at lw_m5 130 rfl) rfl
theorem q1186 : (Jvm.Cond.instanceMethod ({ cls := "FerryClocks", name := "copyClock", desc := "(II)I" } : Jvm.MethodName)) ∈ lw_all := lw_g (lw_at lw_m5 135 rfl) rfl
theorem q1187 : (Jvm.Cond.selects "FerryClocks" ({ cls := "FerryClocks", name := "copyClock", desc := "(II)I" } : Jvm.MethodName) ({ cls := "FerryClocks", name := "copyClock", desc := "(II)I" } : Jvm.MethodName)) ∈ lw_all := lw_g (lw_at lw_m5 136 rfl) rfl
theorem q1188 : (Jvm.Cond.code ({ cls := "FerryClocks", name := "copyClock", desc := "(II)I" } : Jvm.MethodName) prog_1_method_23_code (3 : Nat) (Option.some Jvm.ClassFile.FieldType.int)) ∈ lw_all := lw_g (lw_at lw_m5 137 rfl) rfl
theorem q1193 : (Jvm.Cond.instanceMethod ({ cls := "FerryClocks", name := "shift", desc := "(II)I" } : Jvm.MethodName)) ∈ lw_all := lw_g (lw_at lw_m5 142 rfl) rfl
theorem q1194 : (Jvm.Cond.selects "FerryClocks" ({ cls := "FerryClocks", name := "shift", desc := "(II)I" } : Jvm.MethodName) ({ cls := "FerryClocks", name := "shift", desc := "(II)I" } : Jvm.MethodName)) ∈ lw_all := lw_g (lw_at lw_m5 143 rfl) rfl
theorem q1195 : (Jvm.Cond.code ({ cls := "FerryClocks", name := "shift", desc := "(II)I" } : Jvm.MethodName) prog_1_method_24_code (3 : Nat) (Option.some Jvm.ClassFile.FieldType.int)) ∈ lw_all := lw_g (lw_at lw_m5 144 rfl) rfl
theorem q1200 : (Jvm.Cond.instanceMethod ({ cls := "FerryClocks", name := "store", desc := "(I)Z" } : Jvm.MethodName)) ∈ lw_all := lw_g (lw_at lw_m5 149 rfl) rfl
theorem q1201 : (Jvm.Cond.selects "FerryClocks" ({ cls := "FerryClocks", name := "store", desc := "(I)Z" } : Jvm.MethodName) ({ cls := "FerryClocks", name := "store", desc := "(I)Z" } : Jvm.MethodName)) ∈ lw_all := lw_g (lw_at lw_m5 150 rfl) rfl
theorem q1202 : (Jvm.Cond.code ({ cls := "FerryClocks", name := "store", desc := "(I)Z" } : Jvm.MethodName) prog_1_method_25_code (2 : Nat) (Option.some Jvm.ClassFile.FieldType.boolean)) ∈ lw_all := lw_g (lw_at lw_m5 151 rfl) rfl
theorem q1207 : (Jvm.Cond.instanceMethod ({ cls := "FerryClocks", name := "meet", desc := "(I)I" } : Jvm.MethodName)) ∈ lw_all := lw_g (lw_at lw_m5 156 rfl) rfl
theorem q1208 : (Jvm.Cond.selects "FerryClocks" ({ cls := "FerryClocks", name := "meet", desc := "(I)I" } : Jvm.MethodName) ({ cls := "FerryClocks", name := "meet", desc := "(I)I" } : Jvm.MethodName)) ∈ lw_all := lw_g (lw_at lw_m5 157 rfl) rfl
theorem q1209 : (Jvm.Cond.code ({ cls := "FerryClocks", name := "meet", desc := "(I)I" } : Jvm.MethodName) prog_1_method_26_code (2 : Nat) (Option.some Jvm.ClassFile.FieldType.int)) ∈ lw_all := lw_g (lw_at lw_m5 158 rfl) rfl
theorem q1214 : (Jvm.Cond.instanceMethod ({ cls := "FerryClocks", name := "wrap", desc := "(I)I" } : Jvm.MethodName)) ∈ lw_all := lw_g (lw_at lw_m5 163 rfl) rfl
theorem q1215 : (Jvm.Cond.selects "FerryClocks" ({ cls := "FerryClocks", name := "wrap", desc := "(I)I" } : Jvm.MethodName) ({ cls := "FerryClocks", name := "wrap", desc := "(I)I" } : Jvm.MethodName)) ∈ lw_all := lw_g (lw_at lw_m5 164 rfl) rfl
theorem q1216 : (Jvm.Cond.code ({ cls := "FerryClocks", name := "wrap", desc := "(I)I" } : Jvm.MethodName) prog_1_method_27_code (2 : Nat) (Option.some Jvm.ClassFile.FieldType.int)) ∈ lw_all := lw_g (lw_at lw_m5 165 rfl) rfl
theorem q1221 : (Jvm.Cond.instanceMethod ({ cls := "FerryClocks", name := "setStay", desc := "(III)I" } : Jvm.MethodName)) ∈ lw_all := lw_g (lw_at lw_m5 170 rfl) rfl
theorem q1222 : (Jvm.Cond.selects "FerryClocks" ({ cls := "FerryClocks", name := "setStay", desc := "(III)I" } : Jvm.MethodName) ({ cls := "FerryClocks", name := "setStay", desc := "(III)I" } : Jvm.MethodName)) ∈ lw_all := lw_g (lw_at lw_m5 171 rfl) rfl
theorem q1223 : (Jvm.Cond.code ({ cls := "FerryClocks", name := "setStay", desc := "(III)I" } : Jvm.MethodName) prog_1_method_28_code (4 : Nat) (Option.some Jvm.ClassFile.FieldType.int)) ∈ lw_all := lw_g (lw_at lw_m5 172 rfl) rfl
theorem q1228 : (Jvm.Cond.instanceMethod ({ cls := "FerryClocks", name := "addLine", desc := "(II)I" } : Jvm.MethodName)) ∈ lw_all := lw_g (lw_at lw_m5 177 rfl) rfl
theorem q1229 : (Jvm.Cond.selects "FerryClocks" ({ cls := "FerryClocks", name := "addLine", desc := "(II)I" } : Jvm.MethodName) ({ cls := "FerryClocks", name := "addLine", desc := "(II)I" } : Jvm.MethodName)) ∈ lw_all := lw_g (lw_at lw_m5 178 rfl) rfl
theorem q1230 : (Jvm.Cond.code ({ cls := "FerryClocks", name := "addLine", desc := "(II)I" } : Jvm.MethodName) prog_1_method_29_code (3 : Nat) (Option.some Jvm.ClassFile.FieldType.int)) ∈ lw_all := lw_g (lw_at lw_m5 179 rfl) rfl
theorem q1235 : (Jvm.Cond.instanceMethod ({ cls := "FerryClocks", name := "setNeed", desc := "(IIII)I" } : Jvm.MethodName)) ∈ lw_all := lw_g (lw_at lw_m5 184 rfl) rfl
theorem q1236 : (Jvm.Cond.selects "FerryClocks" ({ cls := "FerryClocks", name := "setNeed", desc := "(IIII)I" } : Jvm.MethodName) ({ cls := "FerryClocks", name := "setNeed", desc := "(IIII)I" } : Jvm.MethodName)) ∈ lw_all := lw_g (lw_at lw_m5 185 rfl) rfl
theorem q1237 : (Jvm.Cond.code ({ cls := "FerryClocks", name := "setNeed", desc := "(IIII)I" } : Jvm.MethodName) prog_1_method_30_code (5 : Nat) (Option.some Jvm.ClassFile.FieldType.int)) ∈ lw_all := lw_g (lw_at lw_m5 186 rfl) rfl
theorem q1242 : (Jvm.Cond.instanceMethod ({ cls := "FerryClocks", name := "turnReset", desc := "(II)Z" } : Jvm.MethodName)) ∈ lw_all := lw_g (lw_at lw_m5 191 rfl) rfl
theorem q1243 : (Jvm.Cond.selects "FerryClocks" ({ cls := "FerryClocks", name := "turnReset", desc := "(II)Z" } : Jvm.MethodName) ({ cls := "FerryClocks", name := "turnReset", desc := "(II)Z" } : Jvm.MethodName)) ∈ lw_all := lw_g (lw_at lw_m5 192 rfl) rfl
theorem q1244 : (Jvm.Cond.code ({ cls := "FerryClocks", name := "turnReset", desc := "(II)Z" } : Jvm.MethodName) prog_1_method_31_code (3 : Nat) (Option.some Jvm.ClassFile.FieldType.boolean)) ∈ lw_all := lw_g (lw_at lw_m5 193 rfl) rfl
theorem q1250 : (Jvm.Cond.instanceMethod ({ cls := "FerryClocks", name := "told", desc := "(II)I" } : Jvm.MethodName)) ∈ lw_all := lw_g (lw_at lw_m5 199 rfl) rfl
theorem q1251 : (Jvm.Cond.selects "FerryClocks" ({ cls := "FerryClocks", name := "told", desc := "(II)I" } : Jvm.MethodName) ({ cls := "FerryClocks", name := "told", desc := "(II)I" } : Jvm.MethodName)) ∈ lw_all := lw_g (lw_at lw_m5 200 rfl) rfl
theorem q1252 : (Jvm.Cond.code ({ cls := "FerryClocks", name := "told", desc := "(II)I" } : Jvm.MethodName) prog_1_method_37_code (3 : Nat) (Option.some Jvm.ClassFile.FieldType.int)) ∈ lw_all := lw_g (lw_at lw_m5 201 rfl) rfl
theorem q1253 : (Jvm.Cond.methodLink "FerryClocks" (171 : Nat) ({ cls := "FerryClocks", name := "arePair", desc := "(II)Z" } : Jvm.MethodName)) ∈ lw_all := lw_g (lw_at lw_m5 202 rfl) rfl
theorem q1254 : (Jvm.Cond.methodLink "FerryClocks" (175 : Nat) ({ cls := "FerryClocks", name := "needArgument", desc := "(Z)V" } : Jvm.MethodName)) ∈ lw_all := lw_g (lw_at lw_m5 203 rfl) rfl
theorem q1255 : (Jvm.Cond.static ({ cls := "FerryClocks", name := "needArgument", desc := "(Z)V" } : Jvm.MethodName)) ∈ lw_all := lw_g (lw_at lw_m5 204 rfl) rfl
theorem q1256 : (Jvm.Cond.code ({ cls := "FerryClocks", name := "needArgument", desc := "(Z)V" } : Jvm.MethodName) prog_1_method_32_code (1 : Nat) (Option.none : Option Jvm.ClassFile.FieldType)) ∈ lw_all := lw_g (lw_at lw_m5 205 rfl) rfl
theorem q1257 : (Jvm.Cond.methodLink "FerryClocks" (178 : Nat) ({ cls := "FerryClocks$Zone", name := "at", desc := "(II)I" } : Jvm.MethodName)) ∈ lw_all := lw_g (lw_at lw_m5 206 rfl) rfl
theorem q1258 : (Jvm.Cond.methodLink "FerryClocks" (181 : Nat) ({ cls := "FerryClocks", name := "there", desc := "(I)I" } : Jvm.MethodName)) ∈ lw_all := lw_g (lw_at lw_m5 207 rfl) rfl
theorem q1259 : (Jvm.Cond.static ({ cls := "FerryClocks", name := "there", desc := "(I)I" } : Jvm.MethodName)) ∈ lw_all := lw_g (lw_at lw_m5 208 rfl) rfl
theorem q1260 : (Jvm.Cond.code ({ cls := "FerryClocks", name := "there", desc := "(I)I" } : Jvm.MethodName) prog_1_method_36_code (1 : Nat) (Option.some Jvm.ClassFile.FieldType.int)) ∈ lw_all := lw_g (lw_at lw_m5 209 rfl) rfl
theorem q1261 : (Jvm.Cond.methodLink "FerryClocks" (167 : Nat) ({ cls := "FerryClocks", name := "needSuch", desc := "(Z)V" } : Jvm.MethodName)) ∈ lw_all := lw_g (lw_at lw_m5 210 rfl) rfl
theorem q1262 : (Jvm.Cond.static ({ cls := "FerryClocks", name := "needSuch", desc := "(Z)V" } : Jvm.MethodName)) ∈ lw_all := lw_g (lw_at lw_m5 211 rfl) rfl
theorem q1263 : (Jvm.Cond.code ({ cls := "FerryClocks", name := "needSuch", desc := "(Z)V" } : Jvm.MethodName) prog_1_method_33_code (1 : Nat) (Option.none : Option Jvm.ClassFile.FieldType)) ∈ lw_all := lw_g (lw_at lw_m5 212 rfl) rfl
theorem q1264 : (Jvm.Cond.classLink "FerryClocks" (148 : Nat) "java/util/NoSuchElementException") ∈ lw_all := lw_g (lw_at lw_m5 213 rfl) rfl
theorem q1265 : (Jvm.Cond.stringRef "FerryClocks" (150 : Nat) "there is none") ∈ lw_tbl := lw_at lw_m5 214 rfl
theorem q1266 : (Jvm.Cond.methodLink "FerryClocks" (152 : Nat) ({ cls := "java/util/NoSuchElementException", name := "<init>", desc := "(Ljava/lang/String;)V" } : Jvm.MethodName)) ∈ lw_all := lw_g (lw_at lw_m5 215 rfl) rfl
theorem q1274 : (Jvm.Cond.instanceMethod ({ cls := "FerryClocks", name := "tightened", desc := "(II)I" } : Jvm.MethodName)) ∈ lw_all := lw_g (lw_at lw_m5 223 rfl) rfl
theorem q1275 : (Jvm.Cond.selects "FerryClocks" ({ cls := "FerryClocks", name := "tightened", desc := "(II)I" } : Jvm.MethodName) ({ cls := "FerryClocks", name := "tightened", desc := "(II)I" } : Jvm.MethodName)) ∈ lw_all := lw_g (lw_at lw_m5 224 rfl) rfl
theorem q1276 : (Jvm.Cond.code ({ cls := "FerryClocks", name := "tightened", desc := "(II)I" } : Jvm.MethodName) prog_1_method_38_code (3 : Nat) (Option.some Jvm.ClassFile.FieldType.int)) ∈ lw_all := lw_g (lw_at lw_m5 225 rfl) rfl
theorem q1277 : (Jvm.Cond.methodLink "FerryClocks" (184 : Nat) ({ cls := "FerryClocks", name := "tightOne", desc := "()LFerryClocks$Zone;" } : Jvm.MethodName)) ∈ lw_all := lw_g (lw_at lw_m5 226 rfl) rfl
theorem q1278 : (Jvm.Cond.privateMethod ({ cls := "FerryClocks", name := "tightOne", desc := "()LFerryClocks$Zone;" } : Jvm.MethodName)) ∈ lw_tbl := lw_at lw_m5 227 rfl
theorem q1279 : (Jvm.Cond.instanceMethod ({ cls := "FerryClocks", name := "tightOne", desc := "()LFerryClocks$Zone;" } : Jvm.MethodName)) ∈ lw_all := lw_g (lw_at lw_m5 228 rfl) rfl
theorem q1280 : (Jvm.Cond.code ({ cls := "FerryClocks", name := "tightOne", desc := "()LFerryClocks$Zone;" } : Jvm.MethodName) prog_1_method_35_code (2 : Nat) (Option.some (Jvm.ClassFile.FieldType.object "FerryClocks$Zone"))) ∈ lw_all := lw_g (lw_at lw_m5 229 rfl) rfl
theorem q1285 : (Jvm.Cond.instanceMethod ({ cls := "FerryClocks", name := "hasMoment", desc := "(III)Z" } : Jvm.MethodName)) ∈ lw_all := lw_g (lw_at lw_m5 234 rfl) rfl
theorem q1286 : (Jvm.Cond.selects "FerryClocks" ({ cls := "FerryClocks", name := "hasMoment", desc := "(III)Z" } : Jvm.MethodName) ({ cls := "FerryClocks", name := "hasMoment", desc := "(III)Z" } : Jvm.MethodName)) ∈ lw_all := lw_g (lw_at lw_m5 235 rfl) rfl
theorem q1287 : (Jvm.Cond.code ({ cls := "FerryClocks", name := "hasMoment", desc := "(III)Z" } : Jvm.MethodName) prog_1_method_42_code (4 : Nat) (Option.some Jvm.ClassFile.FieldType.boolean)) ∈ lw_all := lw_g (lw_at lw_m5 236 rfl) rfl
theorem q1288 : (Jvm.Cond.methodLink "FerryClocks" (197 : Nat) ({ cls := "FerryClocks", name := "isMoment", desc := "([I)Z" } : Jvm.MethodName)) ∈ lw_all := lw_g (lw_at lw_m5 237 rfl) rfl
theorem q1289 : (Jvm.Cond.static ({ cls := "FerryClocks", name := "isMoment", desc := "([I)Z" } : Jvm.MethodName)) ∈ lw_all := lw_g (lw_at lw_m5 238 rfl) rfl
theorem q1290 : (Jvm.Cond.code ({ cls := "FerryClocks", name := "isMoment", desc := "([I)Z" } : Jvm.MethodName) prog_1_method_6_code (6 : Nat) (Option.some Jvm.ClassFile.FieldType.boolean)) ∈ lw_all := lw_g (lw_at lw_m5 239 rfl) rfl
theorem q1291 : (Jvm.Cond.constantLong "FerryClocks" (13 : Nat) (999 : Int64)) ∈ lw_all := lw_g (lw_at lw_m6 0 rfl) rfl
theorem q1292 : (Jvm.Cond.methodLink "FerryClocks" (201 : Nat) ({ cls := "FerryClocks$Zone", name := "has", desc := "([I)Z" } : Jvm.MethodName)) ∈ lw_all := lw_g (lw_at lw_m6 1 rfl) rfl
theorem q1297 : (Jvm.Cond.instanceMethod ({ cls := "FerryClocks", name := "leastOf", desc := "(I)I" } : Jvm.MethodName)) ∈ lw_all := lw_g (lw_at lw_m6 6 rfl) rfl
theorem q1298 : (Jvm.Cond.selects "FerryClocks" ({ cls := "FerryClocks", name := "leastOf", desc := "(I)I" } : Jvm.MethodName) ({ cls := "FerryClocks", name := "leastOf", desc := "(I)I" } : Jvm.MethodName)) ∈ lw_all := lw_g (lw_at lw_m6 7 rfl) rfl
theorem q1299 : (Jvm.Cond.code ({ cls := "FerryClocks", name := "leastOf", desc := "(I)I" } : Jvm.MethodName) prog_1_method_45_code (2 : Nat) (Option.some Jvm.ClassFile.FieldType.int)) ∈ lw_all := lw_g (lw_at lw_m6 8 rfl) rfl
theorem q1300 : (Jvm.Cond.methodLink "FerryClocks" (204 : Nat) ({ cls := "FerryClocks", name := "isClock", desc := "(I)Z" } : Jvm.MethodName)) ∈ lw_all := lw_g (lw_at lw_m6 9 rfl) rfl
theorem q1305 : (Jvm.Cond.instanceMethod ({ cls := "FerryClocks", name := "mostOf", desc := "(I)I" } : Jvm.MethodName)) ∈ lw_all := lw_g (lw_at lw_m6 14 rfl) rfl
theorem q1306 : (Jvm.Cond.selects "FerryClocks" ({ cls := "FerryClocks", name := "mostOf", desc := "(I)I" } : Jvm.MethodName) ({ cls := "FerryClocks", name := "mostOf", desc := "(I)I" } : Jvm.MethodName)) ∈ lw_all := lw_g (lw_at lw_m6 15 rfl) rfl
theorem q1307 : (Jvm.Cond.code ({ cls := "FerryClocks", name := "mostOf", desc := "(I)I" } : Jvm.MethodName) prog_1_method_46_code (2 : Nat) (Option.some Jvm.ClassFile.FieldType.int)) ∈ lw_all := lw_g (lw_at lw_m6 16 rfl) rfl
theorem q1312 : (Jvm.Cond.instanceMethod ({ cls := "FerryClocks", name := "longestDelay", desc := "(III)I" } : Jvm.MethodName)) ∈ lw_all := lw_g (lw_at lw_m6 21 rfl) rfl
theorem q1313 : (Jvm.Cond.selects "FerryClocks" ({ cls := "FerryClocks", name := "longestDelay", desc := "(III)I" } : Jvm.MethodName) ({ cls := "FerryClocks", name := "longestDelay", desc := "(III)I" } : Jvm.MethodName)) ∈ lw_all := lw_g (lw_at lw_m6 22 rfl) rfl
theorem q1314 : (Jvm.Cond.code ({ cls := "FerryClocks", name := "longestDelay", desc := "(III)I" } : Jvm.MethodName) prog_1_method_47_code (7 : Nat) (Option.some Jvm.ClassFile.FieldType.int)) ∈ lw_all := lw_g (lw_at lw_m6 23 rfl) rfl
theorem q1315 : (Jvm.Cond.methodLink "FerryClocks" (208 : Nat) ({ cls := "FerryClocks", name := "mostTold", desc := "()I" } : Jvm.MethodName)) ∈ lw_all := lw_g (lw_at lw_m6 24 rfl) rfl
theorem q1316 : (Jvm.Cond.privateMethod ({ cls := "FerryClocks", name := "mostTold", desc := "()I" } : Jvm.MethodName)) ∈ lw_tbl := lw_at lw_m6 25 rfl
theorem q1317 : (Jvm.Cond.instanceMethod ({ cls := "FerryClocks", name := "mostTold", desc := "()I" } : Jvm.MethodName)) ∈ lw_all := lw_g (lw_at lw_m6 26 rfl) rfl
theorem q1318 : (Jvm.Cond.code ({ cls := "FerryClocks", name := "mostTold", desc := "()I" } : Jvm.MethodName) prog_1_method_48_code (4 : Nat) (Option.some Jvm.ClassFile.FieldType.int)) ∈ lw_all := lw_g (lw_at lw_m6 27 rfl) rfl
theorem q1319 : (Jvm.Cond.methodLink "FerryClocks" (211 : Nat) ({ cls := "java/lang/Math", name := "max", desc := "(II)I" } : Jvm.MethodName)) ∈ lw_all := lw_g (lw_at lw_m6 28 rfl) rfl
theorem q1324 : (Jvm.Cond.instanceMethod ({ cls := "FerryClocks", name := "needless", desc := "()I" } : Jvm.MethodName)) ∈ lw_all := lw_g (lw_at lw_m6 33 rfl) rfl
theorem q1325 : (Jvm.Cond.selects "FerryClocks" ({ cls := "FerryClocks", name := "needless", desc := "()I" } : Jvm.MethodName) ({ cls := "FerryClocks", name := "needless", desc := "()I" } : Jvm.MethodName)) ∈ lw_all := lw_g (lw_at lw_m6 34 rfl) rfl
theorem q1326 : (Jvm.Cond.code ({ cls := "FerryClocks", name := "needless", desc := "()I" } : Jvm.MethodName) prog_1_method_49_code (8 : Nat) (Option.some Jvm.ClassFile.FieldType.int)) ∈ lw_all := lw_g (lw_at lw_m6 35 rfl) rfl
theorem q1327 : (Jvm.Cond.methodLinkNest "FerryClocks" (216 : Nat) ({ cls := "FerryClocks$Zone", name := "plain", desc := "(I)I" } : Jvm.MethodName) "FerryClocks") ∈ lw_tbl := lw_at lw_m6 36 rfl
theorem q1328 : (Jvm.Cond.classLink "FerryClocks" (158 : Nat) "FerryClocks$Zone") ∈ lw_all := lw_g (lw_at lw_m6 37 rfl) rfl
theorem q1329 : (Jvm.Cond.methodLink "FerryClocks" (219 : Nat) ({ cls := "FerryClocks$Zone", name := "<init>", desc := "(LFerryClocks$Zone;)V" } : Jvm.MethodName)) ∈ lw_all := lw_g (lw_at lw_m6 38 rfl) rfl
theorem q1330 : (Jvm.Cond.methodLink "FerryClocks" (222 : Nat) ({ cls := "FerryClocks$Zone", name := "sets", desc := "(III)V" } : Jvm.MethodName)) ∈ lw_all := lw_g (lw_at lw_m6 39 rfl) rfl
theorem q1335 : (Jvm.Cond.instanceMethod ({ cls := "FerryClocks", name := "isShelfEmpty", desc := "(I)Z" } : Jvm.MethodName)) ∈ lw_all := lw_g (lw_at lw_m6 44 rfl) rfl
theorem q1336 : (Jvm.Cond.selects "FerryClocks" ({ cls := "FerryClocks", name := "isShelfEmpty", desc := "(I)Z" } : Jvm.MethodName) ({ cls := "FerryClocks", name := "isShelfEmpty", desc := "(I)Z" } : Jvm.MethodName)) ∈ lw_all := lw_g (lw_at lw_m6 45 rfl) rfl
theorem q1337 : (Jvm.Cond.code ({ cls := "FerryClocks", name := "isShelfEmpty", desc := "(I)Z" } : Jvm.MethodName) prog_1_method_51_code (2 : Nat) (Option.some Jvm.ClassFile.FieldType.boolean)) ∈ lw_all := lw_g (lw_at lw_m6 46 rfl) rfl
theorem q1338 : (Jvm.Cond.methodLink "FerryClocks" (226 : Nat) ({ cls := "FerryClocks", name := "isShelf", desc := "(I)Z" } : Jvm.MethodName)) ∈ lw_all := lw_g (lw_at lw_m6 47 rfl) rfl
theorem q1343 : (Jvm.Cond.instanceMethod ({ cls := "FerryClocks", name := "isWithin", desc := "(I)Z" } : Jvm.MethodName)) ∈ lw_all := lw_g (lw_at lw_m6 52 rfl) rfl
theorem q1344 : (Jvm.Cond.selects "FerryClocks" ({ cls := "FerryClocks", name := "isWithin", desc := "(I)Z" } : Jvm.MethodName) ({ cls := "FerryClocks", name := "isWithin", desc := "(I)Z" } : Jvm.MethodName)) ∈ lw_all := lw_g (lw_at lw_m6 53 rfl) rfl
theorem q1345 : (Jvm.Cond.code ({ cls := "FerryClocks", name := "isWithin", desc := "(I)Z" } : Jvm.MethodName) prog_1_method_52_code (4 : Nat) (Option.some Jvm.ClassFile.FieldType.boolean)) ∈ lw_all := lw_g (lw_at lw_m6 54 rfl) rfl
theorem q1346 : (Jvm.Cond.methodLink "FerryClocks" (233 : Nat) ({ cls := "FerryClocks", name := "shelved", desc := "(I)LFerryClocks$Zone;" } : Jvm.MethodName)) ∈ lw_all := lw_g (lw_at lw_m6 55 rfl) rfl
theorem q1347 : (Jvm.Cond.privateMethod ({ cls := "FerryClocks", name := "shelved", desc := "(I)LFerryClocks$Zone;" } : Jvm.MethodName)) ∈ lw_tbl := lw_at lw_m6 56 rfl
theorem q1348 : (Jvm.Cond.instanceMethod ({ cls := "FerryClocks", name := "shelved", desc := "(I)LFerryClocks$Zone;" } : Jvm.MethodName)) ∈ lw_all := lw_g (lw_at lw_m6 57 rfl) rfl
theorem q1349 : (Jvm.Cond.code ({ cls := "FerryClocks", name := "shelved", desc := "(I)LFerryClocks$Zone;" } : Jvm.MethodName) prog_1_method_50_code (2 : Nat) (Option.some (Jvm.ClassFile.FieldType.object "FerryClocks$Zone"))) ∈ lw_all := lw_g (lw_at lw_m6 58 rfl) rfl
theorem q1350 : (Jvm.Cond.methodLink "FerryClocks" (237 : Nat) ({ cls := "FerryClocks$Zone", name := "isInside", desc := "(LFerryClocks$Zone;)Z" } : Jvm.MethodName)) ∈ lw_all := lw_g (lw_at lw_m6 59 rfl) rfl
theorem q1358 : (Jvm.Cond.instanceMethod ({ cls := "FerryClocks", name := "momentsBeyond", desc := "(I)I" } : Jvm.MethodName)) ∈ lw_all := lw_g (lw_at lw_m6 67 rfl) rfl
theorem q1359 : (Jvm.Cond.selects "FerryClocks" ({ cls := "FerryClocks", name := "momentsBeyond", desc := "(I)I" } : Jvm.MethodName) ({ cls := "FerryClocks", name := "momentsBeyond", desc := "(I)I" } : Jvm.MethodName)) ∈ lw_all := lw_g (lw_at lw_m6 68 rfl) rfl
theorem q1360 : (Jvm.Cond.code ({ cls := "FerryClocks", name := "momentsBeyond", desc := "(I)I" } : Jvm.MethodName) prog_1_method_53_code (2 : Nat) (Option.some Jvm.ClassFile.FieldType.int)) ∈ lw_all := lw_g (lw_at lw_m6 69 rfl) rfl
theorem q1365 : (Jvm.Cond.instanceMethod ({ cls := "FerryClocks", name := "doMeet", desc := "(I)Z" } : Jvm.MethodName)) ∈ lw_all := lw_g (lw_at lw_m6 74 rfl) rfl
theorem q1366 : (Jvm.Cond.selects "FerryClocks" ({ cls := "FerryClocks", name := "doMeet", desc := "(I)Z" } : Jvm.MethodName) ({ cls := "FerryClocks", name := "doMeet", desc := "(I)Z" } : Jvm.MethodName)) ∈ lw_all := lw_g (lw_at lw_m6 75 rfl) rfl
theorem q1367 : (Jvm.Cond.code ({ cls := "FerryClocks", name := "doMeet", desc := "(I)Z" } : Jvm.MethodName) prog_1_method_54_code (4 : Nat) (Option.some Jvm.ClassFile.FieldType.boolean)) ∈ lw_all := lw_g (lw_at lw_m6 76 rfl) rfl
theorem q1368 : (Jvm.Cond.methodLink "FerryClocks" (245 : Nat) ({ cls := "java/lang/Math", name := "min", desc := "(II)I" } : Jvm.MethodName)) ∈ lw_all := lw_g (lw_at lw_m6 77 rfl) rfl
theorem q1373 : (Jvm.Cond.instanceMethod ({ cls := "FerryClocks", name := "stayOf", desc := "(II)I" } : Jvm.MethodName)) ∈ lw_all := lw_g (lw_at lw_m6 82 rfl) rfl
theorem q1374 : (Jvm.Cond.selects "FerryClocks" ({ cls := "FerryClocks", name := "stayOf", desc := "(II)I" } : Jvm.MethodName) ({ cls := "FerryClocks", name := "stayOf", desc := "(II)I" } : Jvm.MethodName)) ∈ lw_all := lw_g (lw_at lw_m6 83 rfl) rfl
theorem q1375 : (Jvm.Cond.code ({ cls := "FerryClocks", name := "stayOf", desc := "(II)I" } : Jvm.MethodName) prog_1_method_57_code (3 : Nat) (Option.some Jvm.ClassFile.FieldType.int)) ∈ lw_all := lw_g (lw_at lw_m6 84 rfl) rfl
theorem q1376 : (Jvm.Cond.methodLink "FerryClocks" (267 : Nat) ({ cls := "FerryClocks", name := "isHarbour", desc := "(I)Z" } : Jvm.MethodName)) ∈ lw_all := lw_g (lw_at lw_m6 85 rfl) rfl
theorem q1377 : (Jvm.Cond.methodLink "FerryClocks" (270 : Nat) ({ cls := "FerryClocks$Desk", name := "stay", desc := "(II)I" } : Jvm.MethodName)) ∈ lw_all := lw_g (lw_at lw_m6 86 rfl) rfl
theorem q1382 : (Jvm.Cond.instanceMethod ({ cls := "FerryClocks", name := "fromOf", desc := "(I)I" } : Jvm.MethodName)) ∈ lw_all := lw_g (lw_at lw_m6 91 rfl) rfl
theorem q1383 : (Jvm.Cond.selects "FerryClocks" ({ cls := "FerryClocks", name := "fromOf", desc := "(I)I" } : Jvm.MethodName) ({ cls := "FerryClocks", name := "fromOf", desc := "(I)I" } : Jvm.MethodName)) ∈ lw_all := lw_g (lw_at lw_m6 92 rfl) rfl
theorem q1384 : (Jvm.Cond.code ({ cls := "FerryClocks", name := "fromOf", desc := "(I)I" } : Jvm.MethodName) prog_1_method_59_code (2 : Nat) (Option.some Jvm.ClassFile.FieldType.int)) ∈ lw_all := lw_g (lw_at lw_m6 93 rfl) rfl
theorem q1385 : (Jvm.Cond.methodLink "FerryClocks" (274 : Nat) ({ cls := "FerryClocks", name := "lineAt", desc := "(I)LFerryClocks$Line;" } : Jvm.MethodName)) ∈ lw_all := lw_g (lw_at lw_m6 94 rfl) rfl
theorem q1386 : (Jvm.Cond.privateMethod ({ cls := "FerryClocks", name := "lineAt", desc := "(I)LFerryClocks$Line;" } : Jvm.MethodName)) ∈ lw_tbl := lw_at lw_m6 95 rfl
theorem q1387 : (Jvm.Cond.instanceMethod ({ cls := "FerryClocks", name := "lineAt", desc := "(I)LFerryClocks$Line;" } : Jvm.MethodName)) ∈ lw_all := lw_g (lw_at lw_m6 96 rfl) rfl
theorem q1388 : (Jvm.Cond.code ({ cls := "FerryClocks", name := "lineAt", desc := "(I)LFerryClocks$Line;" } : Jvm.MethodName) prog_1_method_55_code (2 : Nat) (Option.some (Jvm.ClassFile.FieldType.object "FerryClocks$Line"))) ∈ lw_all := lw_g (lw_at lw_m6 97 rfl) rfl
theorem q1389 : (Jvm.Cond.methodLink "FerryClocks" (248 : Nat) ({ cls := "FerryClocks$Desk", name := "isLine", desc := "(I)Z" } : Jvm.MethodName)) ∈ lw_all := lw_g (lw_at lw_m6 98 rfl) rfl
theorem q1390 : (Jvm.Cond.methodLink "FerryClocks" (255 : Nat) ({ cls := "java/util/ArrayList", name := "get", desc := "(I)Ljava/lang/Object;" } : Jvm.MethodName)) ∈ lw_all := lw_g (lw_at lw_m6 99 rfl) rfl
theorem q1391 : (Jvm.Cond.classLink "FerryClocks" (261 : Nat) "FerryClocks$Line") ∈ lw_all := lw_g (lw_at lw_m6 100 rfl) rfl
theorem q1396 : (Jvm.Cond.instanceMethod ({ cls := "FerryClocks", name := "toOf", desc := "(I)I" } : Jvm.MethodName)) ∈ lw_all := lw_g (lw_at lw_m6 105 rfl) rfl
theorem q1397 : (Jvm.Cond.selects "FerryClocks" ({ cls := "FerryClocks", name := "toOf", desc := "(I)I" } : Jvm.MethodName) ({ cls := "FerryClocks", name := "toOf", desc := "(I)I" } : Jvm.MethodName)) ∈ lw_all := lw_g (lw_at lw_m6 106 rfl) rfl
theorem q1398 : (Jvm.Cond.code ({ cls := "FerryClocks", name := "toOf", desc := "(I)I" } : Jvm.MethodName) prog_1_method_60_code (2 : Nat) (Option.some Jvm.ClassFile.FieldType.int)) ∈ lw_all := lw_g (lw_at lw_m6 107 rfl) rfl
theorem q1403 : (Jvm.Cond.instanceMethod ({ cls := "FerryClocks", name := "doesReset", desc := "(II)Z" } : Jvm.MethodName)) ∈ lw_all := lw_g (lw_at lw_m6 112 rfl) rfl
theorem q1404 : (Jvm.Cond.selects "FerryClocks" ({ cls := "FerryClocks", name := "doesReset", desc := "(II)Z" } : Jvm.MethodName) ({ cls := "FerryClocks", name := "doesReset", desc := "(II)Z" } : Jvm.MethodName)) ∈ lw_all := lw_g (lw_at lw_m6 113 rfl) rfl
theorem q1405 : (Jvm.Cond.code ({ cls := "FerryClocks", name := "doesReset", desc := "(II)Z" } : Jvm.MethodName) prog_1_method_61_code (3 : Nat) (Option.some Jvm.ClassFile.FieldType.boolean)) ∈ lw_all := lw_g (lw_at lw_m6 114 rfl) rfl
theorem q1406 : (Jvm.Cond.methodLink "FerryClocks" (284 : Nat) ({ cls := "FerryClocks$Line", name := "isReset", desc := "(I)Z" } : Jvm.MethodName)) ∈ lw_all := lw_g (lw_at lw_m6 115 rfl) rfl
theorem q1411 : (Jvm.Cond.instanceMethod ({ cls := "FerryClocks", name := "reachable", desc := "()I" } : Jvm.MethodName)) ∈ lw_all := lw_g (lw_at lw_m6 120 rfl) rfl
theorem q1412 : (Jvm.Cond.selects "FerryClocks" ({ cls := "FerryClocks", name := "reachable", desc := "()I" } : Jvm.MethodName) ({ cls := "FerryClocks", name := "reachable", desc := "()I" } : Jvm.MethodName)) ∈ lw_all := lw_g (lw_at lw_m6 121 rfl) rfl
theorem q1413 : (Jvm.Cond.code ({ cls := "FerryClocks", name := "reachable", desc := "()I" } : Jvm.MethodName) prog_1_method_62_code (4 : Nat) (Option.some Jvm.ClassFile.FieldType.int)) ∈ lw_all := lw_g (lw_at lw_m6 122 rfl) rfl
theorem q1414 : (Jvm.Cond.methodLink "FerryClocks" (287 : Nat) ({ cls := "FerryClocks", name := "allStops", desc := "()Ljava/util/ArrayList;" } : Jvm.MethodName)) ∈ lw_all := lw_g (lw_at lw_m6 123 rfl) rfl
theorem q1415 : (Jvm.Cond.privateMethod ({ cls := "FerryClocks", name := "allStops", desc := "()Ljava/util/ArrayList;" } : Jvm.MethodName)) ∈ lw_tbl := lw_at lw_m6 124 rfl
theorem q1416 : (Jvm.Cond.instanceMethod ({ cls := "FerryClocks", name := "allStops", desc := "()Ljava/util/ArrayList;" } : Jvm.MethodName)) ∈ lw_all := lw_g (lw_at lw_m6 125 rfl) rfl
theorem q1417 : (Jvm.Cond.code ({ cls := "FerryClocks", name := "allStops", desc := "()Ljava/util/ArrayList;" } : Jvm.MethodName) prog_1_method_56_code (2 : Nat) (Option.some (Jvm.ClassFile.FieldType.object "java/util/ArrayList"))) ∈ lw_all := lw_g (lw_at lw_m6 126 rfl) rfl
theorem q1418 : (Jvm.Cond.methodLink "FerryClocks" (263 : Nat) ({ cls := "FerryClocks$Desk", name := "gathered", desc := "()Ljava/util/ArrayList;" } : Jvm.MethodName)) ∈ lw_all := lw_g (lw_at lw_m6 127 rfl) rfl
theorem q1447 : (Jvm.Cond.fieldLinkNest "FerryClocks" (292 : Nat) "FerryClocks$Stop" "harbour" "I" "FerryClocks") ∈ lw_tbl := lw_at lw_m6 156 rfl
theorem q1452 : (Jvm.Cond.fieldLinkNest "FerryClocks" (298 : Nat) "FerryClocks$Stop" "way" "I" "FerryClocks") ∈ lw_tbl := lw_at lw_m6 161 rfl
theorem q1479 : (Jvm.Cond.classLink "FerryClocks" (290 : Nat) "FerryClocks$Stop") ∈ lw_all := lw_g (lw_at lw_m6 188 rfl) rfl
theorem q1484 : (Jvm.Cond.instanceMethod ({ cls := "FerryClocks", name := "zones", desc := "()I" } : Jvm.MethodName)) ∈ lw_all := lw_g (lw_at lw_m6 193 rfl) rfl
theorem q1485 : (Jvm.Cond.selects "FerryClocks" ({ cls := "FerryClocks", name := "zones", desc := "()I" } : Jvm.MethodName) ({ cls := "FerryClocks", name := "zones", desc := "()I" } : Jvm.MethodName)) ∈ lw_all := lw_g (lw_at lw_m6 194 rfl) rfl
theorem q1486 : (Jvm.Cond.code ({ cls := "FerryClocks", name := "zones", desc := "()I" } : Jvm.MethodName) prog_1_method_64_code (1 : Nat) (Option.some Jvm.ClassFile.FieldType.int)) ∈ lw_all := lw_g (lw_at lw_m6 195 rfl) rfl
theorem q1491 : (Jvm.Cond.instanceMethod ({ cls := "FerryClocks", name := "zonesOf", desc := "(I)I" } : Jvm.MethodName)) ∈ lw_all := lw_g (lw_at lw_m6 200 rfl) rfl
theorem q1492 : (Jvm.Cond.selects "FerryClocks" ({ cls := "FerryClocks", name := "zonesOf", desc := "(I)I" } : Jvm.MethodName) ({ cls := "FerryClocks", name := "zonesOf", desc := "(I)I" } : Jvm.MethodName)) ∈ lw_all := lw_g (lw_at lw_m6 201 rfl) rfl
theorem q1493 : (Jvm.Cond.code ({ cls := "FerryClocks", name := "zonesOf", desc := "(I)I" } : Jvm.MethodName) prog_1_method_65_code (5 : Nat) (Option.some Jvm.ClassFile.FieldType.int)) ∈ lw_all := lw_g (lw_at lw_m6 202 rfl) rfl
theorem q1498 : (Jvm.Cond.instanceMethod ({ cls := "FerryClocks", name := "fewestLines", desc := "(I)I" } : Jvm.MethodName)) ∈ lw_all := lw_g (lw_at lw_m6 207 rfl) rfl
theorem q1499 : (Jvm.Cond.selects "FerryClocks" ({ cls := "FerryClocks", name := "fewestLines", desc := "(I)I" } : Jvm.MethodName) ({ cls := "FerryClocks", name := "fewestLines", desc := "(I)I" } : Jvm.MethodName)) ∈ lw_all := lw_g (lw_at lw_m6 208 rfl) rfl
theorem q1500 : (Jvm.Cond.code ({ cls := "FerryClocks", name := "fewestLines", desc := "(I)I" } : Jvm.MethodName) prog_1_method_66_code (5 : Nat) (Option.some Jvm.ClassFile.FieldType.int)) ∈ lw_all := lw_g (lw_at lw_m6 209 rfl) rfl
theorem q1505 : (Jvm.Cond.instanceMethod ({ cls := "FerryClocks", name := "fewestTicks", desc := "(I)I" } : Jvm.MethodName)) ∈ lw_all := lw_g (lw_at lw_m6 214 rfl) rfl
theorem q1506 : (Jvm.Cond.selects "FerryClocks" ({ cls := "FerryClocks", name := "fewestTicks", desc := "(I)I" } : Jvm.MethodName) ({ cls := "FerryClocks", name := "fewestTicks", desc := "(I)I" } : Jvm.MethodName)) ∈ lw_all := lw_g (lw_at lw_m6 215 rfl) rfl
theorem q1507 : (Jvm.Cond.code ({ cls := "FerryClocks", name := "fewestTicks", desc := "(I)I" } : Jvm.MethodName) prog_1_method_67_code (3 : Nat) (Option.some Jvm.ClassFile.FieldType.int)) ∈ lw_all := lw_g (lw_at lw_m6 216 rfl) rfl
theorem q1508 : (Jvm.Cond.methodLink "FerryClocks" (301 : Nat) ({ cls := "FerryClocks$Desk", name := "fewestTicksTo", desc := "(I)I" } : Jvm.MethodName)) ∈ lw_all := lw_g (lw_at lw_m6 217 rfl) rfl
theorem q1516 : (Jvm.Cond.instanceMethod ({ cls := "FerryClocks", name := "meanBits", desc := "(I)J" } : Jvm.MethodName)) ∈ lw_all := lw_g (lw_at lw_m6 225 rfl) rfl
theorem q1517 : (Jvm.Cond.selects "FerryClocks" ({ cls := "FerryClocks", name := "meanBits", desc := "(I)J" } : Jvm.MethodName) ({ cls := "FerryClocks", name := "meanBits", desc := "(I)J" } : Jvm.MethodName)) ∈ lw_all := lw_g (lw_at lw_m6 226 rfl) rfl
theorem q1518 : (Jvm.Cond.code ({ cls := "FerryClocks", name := "meanBits", desc := "(I)J" } : Jvm.MethodName) prog_1_method_72_code (3 : Nat) (Option.some Jvm.ClassFile.FieldType.long)) ∈ lw_all := lw_g (lw_at lw_m6 227 rfl) rfl
theorem q1519 : (Jvm.Cond.methodLink "FerryClocks" (324 : Nat) ({ cls := "FerryClocks$Zone", name := "sum", desc := "(I)J" } : Jvm.MethodName)) ∈ lw_all := lw_g (lw_at lw_m6 228 rfl) rfl
theorem q1523 : (Jvm.Cond.methodLink "FerryClocks" (328 : Nat) ({ cls := "java/lang/Double", name := "doubleToLongBits", desc := "(D)J" } : Jvm.MethodName)) ∈ lw_all := lw_g (lw_at lw_m6 232 rfl) rfl
theorem q1537 : (Jvm.Cond.instanceMethod ({ cls := "FerryClocks", name := "goBack", desc := "()I" } : Jvm.MethodName)) ∈ lw_all := lw_g (lw_at lw_m7 6 rfl) rfl
theorem q1538 : (Jvm.Cond.selects "FerryClocks" ({ cls := "FerryClocks", name := "goBack", desc := "()I" } : Jvm.MethodName) ({ cls := "FerryClocks", name := "goBack", desc := "()I" } : Jvm.MethodName)) ∈ lw_all := lw_g (lw_at lw_m7 7 rfl) rfl
theorem q1539 : (Jvm.Cond.code ({ cls := "FerryClocks", name := "goBack", desc := "()I" } : Jvm.MethodName) prog_1_method_75_code (1 : Nat) (Option.some Jvm.ClassFile.FieldType.int)) ∈ lw_all := lw_g (lw_at lw_m7 8 rfl) rfl
theorem q1540 : (Jvm.Cond.methodLink "FerryClocks" (340 : Nat) ({ cls := "FerryClocks", name := "needState", desc := "(Z)V" } : Jvm.MethodName)) ∈ lw_all := lw_g (lw_at lw_m7 9 rfl) rfl
theorem q1541 : (Jvm.Cond.static ({ cls := "FerryClocks", name := "needState", desc := "(Z)V" } : Jvm.MethodName)) ∈ lw_all := lw_g (lw_at lw_m7 10 rfl) rfl
theorem q1542 : (Jvm.Cond.code ({ cls := "FerryClocks", name := "needState", desc := "(Z)V" } : Jvm.MethodName) prog_1_method_34_code (1 : Nat) (Option.none : Option Jvm.ClassFile.FieldType)) ∈ lw_all := lw_g (lw_at lw_m7 11 rfl) rfl
theorem q1547 : (Jvm.Cond.instanceMethod ({ cls := "FerryClocks", name := "undo", desc := "()I" } : Jvm.MethodName)) ∈ lw_all := lw_g (lw_at lw_m7 16 rfl) rfl
theorem q1548 : (Jvm.Cond.selects "FerryClocks" ({ cls := "FerryClocks", name := "undo", desc := "()I" } : Jvm.MethodName) ({ cls := "FerryClocks", name := "undo", desc := "()I" } : Jvm.MethodName)) ∈ lw_all := lw_g (lw_at lw_m7 17 rfl) rfl
theorem q1549 : (Jvm.Cond.code ({ cls := "FerryClocks", name := "undo", desc := "()I" } : Jvm.MethodName) prog_1_method_77_code (1 : Nat) (Option.some Jvm.ClassFile.FieldType.int)) ∈ lw_all := lw_g (lw_at lw_m7 18 rfl) rfl
theorem q1550 : (Jvm.Cond.methodLink "FerryClocks" (343 : Nat) ({ cls := "java/util/ArrayDeque", name := "isEmpty", desc := "()Z" } : Jvm.MethodName)) ∈ lw_all := lw_g (lw_at lw_m7 19 rfl) rfl
theorem q1554 : (Jvm.Cond.methodLink "FerryClocks" (346 : Nat) ({ cls := "java/util/ArrayDeque", name := "removeLast", desc := "()Ljava/lang/Object;" } : Jvm.MethodName)) ∈ lw_all := lw_g (lw_at lw_m7 23 rfl) rfl
theorem q1569 : (Jvm.Cond.instanceMethod ({ cls := "FerryClocks", name := "type", desc := "(I)I" } : Jvm.MethodName)) ∈ lw_all := lw_g (lw_at lw_m7 38 rfl) rfl
theorem q1570 : (Jvm.Cond.selects "FerryClocks" ({ cls := "FerryClocks", name := "type", desc := "(I)I" } : Jvm.MethodName) ({ cls := "FerryClocks", name := "type", desc := "(I)I" } : Jvm.MethodName)) ∈ lw_all := lw_g (lw_at lw_m7 39 rfl) rfl
theorem q1571 : (Jvm.Cond.code ({ cls := "FerryClocks", name := "type", desc := "(I)I" } : Jvm.MethodName) prog_1_method_78_code (2 : Nat) (Option.some Jvm.ClassFile.FieldType.int)) ∈ lw_all := lw_g (lw_at lw_m7 40 rfl) rfl
theorem q1572 : (Jvm.Cond.constantLong "FerryClocks" (349 : Nat) (32 : Int64)) ∈ lw_all := lw_g (lw_at lw_m7 41 rfl) rfl
theorem q1573 : (Jvm.Cond.constantLong "FerryClocks" (351 : Nat) (126 : Int64)) ∈ lw_all := lw_g (lw_at lw_m7 42 rfl) rfl
theorem q1574 : (Jvm.Cond.methodLink "FerryClocks" (356 : Nat) ({ cls := "java/lang/StringBuilder", name := "append", desc := "(C)Ljava/lang/StringBuilder;" } : Jvm.MethodName)) ∈ lw_all := lw_g (lw_at lw_m7 43 rfl) rfl
theorem q1598 : (Jvm.Cond.instanceMethod ({ cls := "FerryClocks", name := "faultPosition", desc := "()I" } : Jvm.MethodName)) ∈ lw_all := lw_g (lw_at lw_m7 67 rfl) rfl
theorem q1599 : (Jvm.Cond.selects "FerryClocks" ({ cls := "FerryClocks", name := "faultPosition", desc := "()I" } : Jvm.MethodName) ({ cls := "FerryClocks", name := "faultPosition", desc := "()I" } : Jvm.MethodName)) ∈ lw_all := lw_g (lw_at lw_m7 68 rfl) rfl
theorem q1600 : (Jvm.Cond.code ({ cls := "FerryClocks", name := "faultPosition", desc := "()I" } : Jvm.MethodName) prog_1_method_81_code (1 : Nat) (Option.some Jvm.ClassFile.FieldType.int)) ∈ lw_all := lw_g (lw_at lw_m7 69 rfl) rfl
theorem q1601 : (Jvm.Cond.methodLink "FerryClocks" (371 : Nat) ({ cls := "FerryClocks", name := "faulty", desc := "()LFerryClocks$Reader;" } : Jvm.MethodName)) ∈ lw_all := lw_g (lw_at lw_m7 70 rfl) rfl
theorem q1602 : (Jvm.Cond.privateMethod ({ cls := "FerryClocks", name := "faulty", desc := "()LFerryClocks$Reader;" } : Jvm.MethodName)) ∈ lw_tbl := lw_at lw_m7 71 rfl
theorem q1603 : (Jvm.Cond.instanceMethod ({ cls := "FerryClocks", name := "faulty", desc := "()LFerryClocks$Reader;" } : Jvm.MethodName)) ∈ lw_all := lw_g (lw_at lw_m7 72 rfl) rfl
theorem q1604 : (Jvm.Cond.code ({ cls := "FerryClocks", name := "faulty", desc := "()LFerryClocks$Reader;" } : Jvm.MethodName) prog_1_method_80_code (2 : Nat) (Option.some (Jvm.ClassFile.FieldType.object "FerryClocks$Reader"))) ∈ lw_all := lw_g (lw_at lw_m7 73 rfl) rfl
theorem q1605 : (Jvm.Cond.classLink "FerryClocks" (363 : Nat) "FerryClocks$Reader") ∈ lw_all := lw_g (lw_at lw_m7 74 rfl) rfl
theorem q1607 : (Jvm.Cond.methodLinkNest "FerryClocks" (365 : Nat) ({ cls := "FerryClocks$Reader", name := "<init>", desc := "(LFerryClocks;)V" } : Jvm.MethodName) "FerryClocks") ∈ lw_tbl := lw_at lw_m7 76 rfl
theorem q1614 : (Jvm.Cond.fieldLinkNest "FerryClocks" (384 : Nat) "FerryClocks$Reader" "trial" "LFerryClocks$Desk;" "FerryClocks") ∈ lw_tbl := lw_at lw_m7 83 rfl
theorem q1618 : (Jvm.Cond.fieldLinkNest "FerryClocks" (375 : Nat) "FerryClocks$Reader" "begins" "I" "FerryClocks") ∈ lw_tbl := lw_at lw_m7 87 rfl
theorem q1620 : (Jvm.Cond.fieldLinkNest "FerryClocks" (378 : Nat) "FerryClocks$Reader" "reason" "I" "FerryClocks") ∈ lw_tbl := lw_at lw_m7 89 rfl
theorem q1622 : (Jvm.Cond.fieldLinkNest "FerryClocks" (381 : Nat) "FerryClocks$Reader" "cause" "I" "FerryClocks") ∈ lw_tbl := lw_at lw_m7 91 rfl
theorem q1624 : (Jvm.Cond.fieldLinkNest "FerryClocks" (387 : Nat) "FerryClocks$Reader" "many" "I" "FerryClocks") ∈ lw_tbl := lw_at lw_m7 93 rfl
theorem q1643 : (Jvm.Cond.methodLink "FerryClocks" (368 : Nat) ({ cls := "FerryClocks$Reader", name := "isWell", desc := "()Z" } : Jvm.MethodName)) ∈ lw_all := lw_g (lw_at lw_m7 112 rfl) rfl
theorem q1735 : (Jvm.Cond.instanceMethod ({ cls := "FerryClocks", name := "faultReason", desc := "()I" } : Jvm.MethodName)) ∈ lw_all := lw_g (lw_at lw_m7 204 rfl) rfl
theorem q1736 : (Jvm.Cond.selects "FerryClocks" ({ cls := "FerryClocks", name := "faultReason", desc := "()I" } : Jvm.MethodName) ({ cls := "FerryClocks", name := "faultReason", desc := "()I" } : Jvm.MethodName)) ∈ lw_all := lw_g (lw_at lw_m7 205 rfl) rfl
theorem q1737 : (Jvm.Cond.code ({ cls := "FerryClocks", name := "faultReason", desc := "()I" } : Jvm.MethodName) prog_1_method_82_code (1 : Nat) (Option.some Jvm.ClassFile.FieldType.int)) ∈ lw_all := lw_g (lw_at lw_m7 206 rfl) rfl
theorem q1742 : (Jvm.Cond.instanceMethod ({ cls := "FerryClocks", name := "faultCause", desc := "()I" } : Jvm.MethodName)) ∈ lw_all := lw_g (lw_at lw_m7 211 rfl) rfl
theorem q1743 : (Jvm.Cond.selects "FerryClocks" ({ cls := "FerryClocks", name := "faultCause", desc := "()I" } : Jvm.MethodName) ({ cls := "FerryClocks", name := "faultCause", desc := "()I" } : Jvm.MethodName)) ∈ lw_all := lw_g (lw_at lw_m7 212 rfl) rfl
theorem q1744 : (Jvm.Cond.code ({ cls := "FerryClocks", name := "faultCause", desc := "()I" } : Jvm.MethodName) prog_1_method_83_code (1 : Nat) (Option.some Jvm.ClassFile.FieldType.int)) ∈ lw_all := lw_g (lw_at lw_m7 213 rfl) rfl
theorem q1749 : (Jvm.Cond.instanceMethod ({ cls := "FerryClocks", name := "play", desc := "()I" } : Jvm.MethodName)) ∈ lw_all := lw_g (lw_at lw_m7 218 rfl) rfl
theorem q1750 : (Jvm.Cond.selects "FerryClocks" ({ cls := "FerryClocks", name := "play", desc := "()I" } : Jvm.MethodName) ({ cls := "FerryClocks", name := "play", desc := "()I" } : Jvm.MethodName)) ∈ lw_all := lw_g (lw_at lw_m7 219 rfl) rfl
theorem q1751 : (Jvm.Cond.code ({ cls := "FerryClocks", name := "play", desc := "()I" } : Jvm.MethodName) prog_1_method_84_code (2 : Nat) (Option.some Jvm.ClassFile.FieldType.int)) ∈ lw_all := lw_g (lw_at lw_m7 220 rfl) rfl
theorem q2404 : (Jvm.Cond.castable "FerryClocks" "java/lang/Object") ∈ lw_tbl := lw_at lw_m10 153 rfl
theorem in_X1 : ∀ w ∈ wsX10, w ∈ lw_all := lw_in wsX10 [260, 262, 264, 266] (by decide +kernel) (by decide +kernel)
/-! FerryClocks$Desk -/
set_option maxRecDepth 100000
def RX2 : String := "FerryClocks$Desk"
def TX2 : u_T := fun k => match k with
  | 0 => ("FerryClocks$Desk", "stays", "[I", true)
  | 1 => ("FerryClocks$Desk", "all", "Ljava/util/ArrayList;", true)
  | 2 => ("FerryClocks$Desk", "shelves", "[LFerryClocks$Zone;", true)
  | 3 => ("FerryClocks$Desk", "zone", "LFerryClocks$Zone;", false)
  | _ => ("FerryClocks$Desk", "works", "I", false)
def tyX2 : Nat → FieldType := fun k => match k with
  | 0 => .array .int
  | 1 => .object "java/util/ArrayList"
  | 2 => .array (.object "FerryClocks$Zone")
  | 3 => .object "FerryClocks$Zone"
  | _ => .int
abbrev wsX20 : List Cond := u_ws RX2 TX2 5
theorem nmX2 : ∀ a, a < 5 → ∀ b, b < 5 → a ≠ b → (TX2 a).2.1 ≠ (TX2 b).2.1 := by decide +kernel
theorem tyX2_ok : ∀ k, k < 5 → parseFieldDescriptor (TX2 k).2.2.1 = some (tyX2 k) := by decide +kernel
abbrev cX2_init : ByteArray := prog_2_method_1_code
def yX2_init : MethodName := ⟨RX2, "<init>", "()V"⟩
def dkwX2_init_2 : List UInt8 := [180, 0, 29, 190, 162, 0, 17, 42, 180, 0, 29, 27, 16, 10, 79, 132, 1, 1, 167, 255, 236, 177]
abbrev dktX2_init_2 : List UInt8 := dkwX2_init_2 ++ []
def dkwX2_init_1 : List UInt8 := [187, 0, 18, 89, 183, 0, 24, 181, 0, 25, 42, 16, 18, 188, 10, 181, 0, 29, 3, 60, 27, 42]
abbrev dktX2_init_1 : List UInt8 := dkwX2_init_1 ++ dktX2_init_2
def dkwX2_init_0 : List UInt8 := [42, 183, 0, 3, 42, 187, 0, 9, 89, 183, 0, 11, 181, 0, 12, 42, 7, 189, 0, 18, 181, 0, 20, 42]
abbrev dktX2_init_0 : List UInt8 := dkwX2_init_0 ++ dktX2_init_1
theorem dksX2_init_0 : cX2_init.data.toList.drop 0 = dktX2_init_0 := by decide +kernel
theorem dksX2_init_1 : cX2_init.data.toList.drop 24 = dktX2_init_1 := dk_seg dksX2_init_0 24 rfl rfl
theorem dksX2_init_2 : cX2_init.data.toList.drop 46 = dktX2_init_2 := dk_seg dksX2_init_1 22 rfl rfl
theorem dX2_init_0 : decode cX2_init 0 = .ok (.aload_n 0, 1) := dk_42 (dk_at dksX2_init_0 0 rfl rfl)
theorem dX2_init_1 : decode cX2_init 1 = .ok (.invokespecial 3, 3) := dk_183 0 3 (dk_at dksX2_init_0 1 rfl rfl)
theorem dX2_init_4 : decode cX2_init 4 = .ok (.aload_n 0, 1) := dk_42 (dk_at dksX2_init_0 4 rfl rfl)
theorem dX2_init_5 : decode cX2_init 5 = .ok (.new 9, 3) := dk_187 0 9 (dk_at dksX2_init_0 5 rfl rfl)
theorem dX2_init_8 : decode cX2_init 8 = .ok (.dup, 1) := dk_89 (dk_at dksX2_init_0 8 rfl rfl)
theorem dX2_init_9 : decode cX2_init 9 = .ok (.invokespecial 11, 3) := dk_183 0 11 (dk_at dksX2_init_0 9 rfl rfl)
theorem dX2_init_12 : decode cX2_init 12 = .ok (.putfield 12, 3) := dk_181 0 12 (dk_at dksX2_init_0 12 rfl rfl)
theorem dX2_init_15 : decode cX2_init 15 = .ok (.aload_n 0, 1) := dk_42 (dk_at dksX2_init_0 15 rfl rfl)
theorem dX2_init_16 : decode cX2_init 16 = .ok (.iconst 4, 1) := dk_7 (dk_at dksX2_init_0 16 rfl rfl)
theorem dX2_init_17 : decode cX2_init 17 = .ok (.anewarray 18, 3) := dk_189 0 18 (dk_at dksX2_init_0 17 rfl rfl)
theorem dX2_init_20 : decode cX2_init 20 = .ok (.putfield 20, 3) := dk_181 0 20 (dk_at dksX2_init_0 20 rfl rfl)
theorem dX2_init_23 : decode cX2_init 23 = .ok (.aload_n 0, 1) := dk_42 (dk_at dksX2_init_0 23 rfl rfl)
theorem dX2_init_24 : decode cX2_init 24 = .ok (.new 18, 3) := dk_187 0 18 (dk_at dksX2_init_1 0 rfl rfl)
theorem dX2_init_27 : decode cX2_init 27 = .ok (.dup, 1) := dk_89 (dk_at dksX2_init_1 3 rfl rfl)
theorem dX2_init_28 : decode cX2_init 28 = .ok (.invokespecial 24, 3) := dk_183 0 24 (dk_at dksX2_init_1 4 rfl rfl)
theorem dX2_init_31 : decode cX2_init 31 = .ok (.putfield 25, 3) := dk_181 0 25 (dk_at dksX2_init_1 7 rfl rfl)
theorem dX2_init_34 : decode cX2_init 34 = .ok (.aload_n 0, 1) := dk_42 (dk_at dksX2_init_1 10 rfl rfl)
theorem dX2_init_35 : decode cX2_init 35 = .ok (.bipush 18, 2) := dk_16 18 (dk_at dksX2_init_1 11 rfl rfl)
theorem dX2_init_37 : decode cX2_init 37 = .ok (.newarray .int, 2) := dk_188_10 (dk_at dksX2_init_1 13 rfl rfl)
theorem dX2_init_39 : decode cX2_init 39 = .ok (.putfield 29, 3) := dk_181 0 29 (dk_at dksX2_init_1 15 rfl rfl)
theorem dX2_init_42 : decode cX2_init 42 = .ok (.iconst 0, 1) := dk_3 (dk_at dksX2_init_1 18 rfl rfl)
theorem dX2_init_43 : decode cX2_init 43 = .ok (.istore_n 1, 1) := dk_60 (dk_at dksX2_init_1 19 rfl rfl)
theorem dX2_init_44 : decode cX2_init 44 = .ok (.iload_n 1, 1) := dk_27 (dk_at dksX2_init_1 20 rfl rfl)
theorem dX2_init_45 : decode cX2_init 45 = .ok (.aload_n 0, 1) := dk_42 (dk_at dksX2_init_1 21 rfl rfl)
theorem dX2_init_46 : decode cX2_init 46 = .ok (.getfield 29, 3) := dk_180 0 29 (dk_at dksX2_init_2 0 rfl rfl)
theorem dX2_init_49 : decode cX2_init 49 = .ok (.arraylength, 1) := dk_190 (dk_at dksX2_init_2 3 rfl rfl)
theorem dX2_init_50 : decode cX2_init 50 = .ok (.if_icmp .ge 17, 3) := dk_162 0 17 (dk_at dksX2_init_2 4 rfl rfl)
theorem dX2_init_53 : decode cX2_init 53 = .ok (.aload_n 0, 1) := dk_42 (dk_at dksX2_init_2 7 rfl rfl)
theorem dX2_init_54 : decode cX2_init 54 = .ok (.getfield 29, 3) := dk_180 0 29 (dk_at dksX2_init_2 8 rfl rfl)
theorem dX2_init_57 : decode cX2_init 57 = .ok (.iload_n 1, 1) := dk_27 (dk_at dksX2_init_2 11 rfl rfl)
theorem dX2_init_58 : decode cX2_init 58 = .ok (.bipush 10, 2) := dk_16 10 (dk_at dksX2_init_2 12 rfl rfl)
theorem dX2_init_60 : decode cX2_init 60 = .ok (.iastore, 1) := dk_79 (dk_at dksX2_init_2 14 rfl rfl)
theorem dX2_init_61 : decode cX2_init 61 = .ok (.iinc 1 1, 3) := dk_132 1 1 (dk_at dksX2_init_2 15 rfl rfl)
theorem dX2_init_64 : decode cX2_init 64 = .ok (.goto (-20), 3) := dk_167 255 236 (dk_at dksX2_init_2 18 rfl rfl)
theorem dX2_init_67 : decode cX2_init 67 = .ok (.return_, 1) := dk_177 (dk_at dksX2_init_2 21 rfl rfl)
abbrev cX2_init_2 : ByteArray := prog_2_method_2_code
def yX2_init_2 : MethodName := ⟨RX2, "<init>", "(LFerryClocks$Desk;)V"⟩
def dkwX2_init_2_5 : List UInt8 := [42, 187, 0, 18, 89, 43, 180, 0, 25, 183, 0, 55, 181, 0, 25, 42, 43, 180, 0, 58, 181, 0, 58, 177]
abbrev dktX2_init_2_5 : List UInt8 := dkwX2_init_2_5 ++ []
def dkwX2_init_2_4 : List UInt8 := [61, 28, 7, 162, 0, 21, 42, 180, 0, 20, 28, 43, 180, 0, 20, 28, 50, 83, 132, 2, 1, 167, 255, 236]
abbrev dktX2_init_2_4 : List UInt8 := dkwX2_init_2_4 ++ dktX2_init_2_5
def dkwX2_init_2_3 : List UInt8 := [180, 0, 12, 28, 182, 0, 44, 192, 0, 42, 183, 0, 48, 182, 0, 51, 87, 132, 2, 1, 167, 255, 216, 3]
abbrev dktX2_init_2_3 : List UInt8 := dkwX2_init_2_3 ++ dktX2_init_2_4
def dkwX2_init_2_2 : List UInt8 := [3, 61, 28, 43, 180, 0, 12, 182, 0, 38, 162, 0, 35, 42, 180, 0, 12, 187, 0, 42, 89, 43]
abbrev dktX2_init_2_2 : List UInt8 := dkwX2_init_2_2 ++ dktX2_init_2_3
def dkwX2_init_2_1 : List UInt8 := [187, 0, 18, 89, 183, 0, 24, 181, 0, 25, 42, 43, 180, 0, 29, 182, 0, 33, 192, 0, 34, 181, 0, 29]
abbrev dktX2_init_2_1 : List UInt8 := dkwX2_init_2_1 ++ dktX2_init_2_2
def dkwX2_init_2_0 : List UInt8 := [42, 183, 0, 3, 42, 187, 0, 9, 89, 183, 0, 11, 181, 0, 12, 42, 7, 189, 0, 18, 181, 0, 20, 42]
abbrev dktX2_init_2_0 : List UInt8 := dkwX2_init_2_0 ++ dktX2_init_2_1
theorem dksX2_init_2_0 : cX2_init_2.data.toList.drop 0 = dktX2_init_2_0 := by decide +kernel
theorem dksX2_init_2_1 : cX2_init_2.data.toList.drop 24 = dktX2_init_2_1 := dk_seg dksX2_init_2_0 24 rfl rfl
theorem dksX2_init_2_2 : cX2_init_2.data.toList.drop 48 = dktX2_init_2_2 := dk_seg dksX2_init_2_1 24 rfl rfl
theorem dksX2_init_2_3 : cX2_init_2.data.toList.drop 70 = dktX2_init_2_3 := dk_seg dksX2_init_2_2 22 rfl rfl
theorem dksX2_init_2_4 : cX2_init_2.data.toList.drop 94 = dktX2_init_2_4 := dk_seg dksX2_init_2_3 24 rfl rfl
theorem dksX2_init_2_5 : cX2_init_2.data.toList.drop 118 = dktX2_init_2_5 := dk_seg dksX2_init_2_4 24 rfl rfl
theorem dX2_init_2_0 : decode cX2_init_2 0 = .ok (.aload_n 0, 1) := dk_42 (dk_at dksX2_init_2_0 0 rfl rfl)
theorem dX2_init_2_1 : decode cX2_init_2 1 = .ok (.invokespecial 3, 3) := dk_183 0 3 (dk_at dksX2_init_2_0 1 rfl rfl)
theorem dX2_init_2_4 : decode cX2_init_2 4 = .ok (.aload_n 0, 1) := dk_42 (dk_at dksX2_init_2_0 4 rfl rfl)
theorem dX2_init_2_5 : decode cX2_init_2 5 = .ok (.new 9, 3) := dk_187 0 9 (dk_at dksX2_init_2_0 5 rfl rfl)
theorem dX2_init_2_8 : decode cX2_init_2 8 = .ok (.dup, 1) := dk_89 (dk_at dksX2_init_2_0 8 rfl rfl)
theorem dX2_init_2_9 : decode cX2_init_2 9 = .ok (.invokespecial 11, 3) := dk_183 0 11 (dk_at dksX2_init_2_0 9 rfl rfl)
theorem dX2_init_2_12 : decode cX2_init_2 12 = .ok (.putfield 12, 3) := dk_181 0 12 (dk_at dksX2_init_2_0 12 rfl rfl)
theorem dX2_init_2_15 : decode cX2_init_2 15 = .ok (.aload_n 0, 1) := dk_42 (dk_at dksX2_init_2_0 15 rfl rfl)
theorem dX2_init_2_16 : decode cX2_init_2 16 = .ok (.iconst 4, 1) := dk_7 (dk_at dksX2_init_2_0 16 rfl rfl)
theorem dX2_init_2_17 : decode cX2_init_2 17 = .ok (.anewarray 18, 3) := dk_189 0 18 (dk_at dksX2_init_2_0 17 rfl rfl)
theorem dX2_init_2_20 : decode cX2_init_2 20 = .ok (.putfield 20, 3) := dk_181 0 20 (dk_at dksX2_init_2_0 20 rfl rfl)
theorem dX2_init_2_23 : decode cX2_init_2 23 = .ok (.aload_n 0, 1) := dk_42 (dk_at dksX2_init_2_0 23 rfl rfl)
theorem dX2_init_2_24 : decode cX2_init_2 24 = .ok (.new 18, 3) := dk_187 0 18 (dk_at dksX2_init_2_1 0 rfl rfl)
theorem dX2_init_2_27 : decode cX2_init_2 27 = .ok (.dup, 1) := dk_89 (dk_at dksX2_init_2_1 3 rfl rfl)
theorem dX2_init_2_28 : decode cX2_init_2 28 = .ok (.invokespecial 24, 3) := dk_183 0 24 (dk_at dksX2_init_2_1 4 rfl rfl)
theorem dX2_init_2_31 : decode cX2_init_2 31 = .ok (.putfield 25, 3) := dk_181 0 25 (dk_at dksX2_init_2_1 7 rfl rfl)
theorem dX2_init_2_34 : decode cX2_init_2 34 = .ok (.aload_n 0, 1) := dk_42 (dk_at dksX2_init_2_1 10 rfl rfl)
theorem dX2_init_2_35 : decode cX2_init_2 35 = .ok (.aload_n 1, 1) := dk_43 (dk_at dksX2_init_2_1 11 rfl rfl)
theorem dX2_init_2_36 : decode cX2_init_2 36 = .ok (.getfield 29, 3) := dk_180 0 29 (dk_at dksX2_init_2_1 12 rfl rfl)
theorem dX2_init_2_39 : decode cX2_init_2 39 = .ok (.invokevirtual 33, 3) := dk_182 0 33 (dk_at dksX2_init_2_1 15 rfl rfl)
theorem dX2_init_2_42 : decode cX2_init_2 42 = .ok (.checkcast 34, 3) := dk_192 0 34 (dk_at dksX2_init_2_1 18 rfl rfl)
theorem dX2_init_2_45 : decode cX2_init_2 45 = .ok (.putfield 29, 3) := dk_181 0 29 (dk_at dksX2_init_2_1 21 rfl rfl)
theorem dX2_init_2_48 : decode cX2_init_2 48 = .ok (.iconst 0, 1) := dk_3 (dk_at dksX2_init_2_2 0 rfl rfl)
theorem dX2_init_2_49 : decode cX2_init_2 49 = .ok (.istore_n 2, 1) := dk_61 (dk_at dksX2_init_2_2 1 rfl rfl)
theorem dX2_init_2_50 : decode cX2_init_2 50 = .ok (.iload_n 2, 1) := dk_28 (dk_at dksX2_init_2_2 2 rfl rfl)
theorem dX2_init_2_51 : decode cX2_init_2 51 = .ok (.aload_n 1, 1) := dk_43 (dk_at dksX2_init_2_2 3 rfl rfl)
theorem dX2_init_2_52 : decode cX2_init_2 52 = .ok (.getfield 12, 3) := dk_180 0 12 (dk_at dksX2_init_2_2 4 rfl rfl)
theorem dX2_init_2_55 : decode cX2_init_2 55 = .ok (.invokevirtual 38, 3) := dk_182 0 38 (dk_at dksX2_init_2_2 7 rfl rfl)
theorem dX2_init_2_58 : decode cX2_init_2 58 = .ok (.if_icmp .ge 35, 3) := dk_162 0 35 (dk_at dksX2_init_2_2 10 rfl rfl)
theorem dX2_init_2_61 : decode cX2_init_2 61 = .ok (.aload_n 0, 1) := dk_42 (dk_at dksX2_init_2_2 13 rfl rfl)
theorem dX2_init_2_62 : decode cX2_init_2 62 = .ok (.getfield 12, 3) := dk_180 0 12 (dk_at dksX2_init_2_2 14 rfl rfl)
theorem dX2_init_2_65 : decode cX2_init_2 65 = .ok (.new 42, 3) := dk_187 0 42 (dk_at dksX2_init_2_2 17 rfl rfl)
theorem dX2_init_2_68 : decode cX2_init_2 68 = .ok (.dup, 1) := dk_89 (dk_at dksX2_init_2_2 20 rfl rfl)
theorem dX2_init_2_69 : decode cX2_init_2 69 = .ok (.aload_n 1, 1) := dk_43 (dk_at dksX2_init_2_2 21 rfl rfl)
theorem dX2_init_2_70 : decode cX2_init_2 70 = .ok (.getfield 12, 3) := dk_180 0 12 (dk_at dksX2_init_2_3 0 rfl rfl)
theorem dX2_init_2_73 : decode cX2_init_2 73 = .ok (.iload_n 2, 1) := dk_28 (dk_at dksX2_init_2_3 3 rfl rfl)
theorem dX2_init_2_74 : decode cX2_init_2 74 = .ok (.invokevirtual 44, 3) := dk_182 0 44 (dk_at dksX2_init_2_3 4 rfl rfl)
theorem dX2_init_2_77 : decode cX2_init_2 77 = .ok (.checkcast 42, 3) := dk_192 0 42 (dk_at dksX2_init_2_3 7 rfl rfl)
theorem dX2_init_2_80 : decode cX2_init_2 80 = .ok (.invokespecial 48, 3) := dk_183 0 48 (dk_at dksX2_init_2_3 10 rfl rfl)
theorem dX2_init_2_83 : decode cX2_init_2 83 = .ok (.invokevirtual 51, 3) := dk_182 0 51 (dk_at dksX2_init_2_3 13 rfl rfl)
theorem dX2_init_2_86 : decode cX2_init_2 86 = .ok (.pop, 1) := dk_87 (dk_at dksX2_init_2_3 16 rfl rfl)
theorem dX2_init_2_87 : decode cX2_init_2 87 = .ok (.iinc 2 1, 3) := dk_132 2 1 (dk_at dksX2_init_2_3 17 rfl rfl)
theorem dX2_init_2_90 : decode cX2_init_2 90 = .ok (.goto (-40), 3) := dk_167 255 216 (dk_at dksX2_init_2_3 20 rfl rfl)
theorem dX2_init_2_93 : decode cX2_init_2 93 = .ok (.iconst 0, 1) := dk_3 (dk_at dksX2_init_2_3 23 rfl rfl)
theorem dX2_init_2_94 : decode cX2_init_2 94 = .ok (.istore_n 2, 1) := dk_61 (dk_at dksX2_init_2_4 0 rfl rfl)
theorem dX2_init_2_95 : decode cX2_init_2 95 = .ok (.iload_n 2, 1) := dk_28 (dk_at dksX2_init_2_4 1 rfl rfl)
theorem dX2_init_2_96 : decode cX2_init_2 96 = .ok (.iconst 4, 1) := dk_7 (dk_at dksX2_init_2_4 2 rfl rfl)
theorem dX2_init_2_97 : decode cX2_init_2 97 = .ok (.if_icmp .ge 21, 3) := dk_162 0 21 (dk_at dksX2_init_2_4 3 rfl rfl)
theorem dX2_init_2_100 : decode cX2_init_2 100 = .ok (.aload_n 0, 1) := dk_42 (dk_at dksX2_init_2_4 6 rfl rfl)
theorem dX2_init_2_101 : decode cX2_init_2 101 = .ok (.getfield 20, 3) := dk_180 0 20 (dk_at dksX2_init_2_4 7 rfl rfl)
theorem dX2_init_2_104 : decode cX2_init_2 104 = .ok (.iload_n 2, 1) := dk_28 (dk_at dksX2_init_2_4 10 rfl rfl)
theorem dX2_init_2_105 : decode cX2_init_2 105 = .ok (.aload_n 1, 1) := dk_43 (dk_at dksX2_init_2_4 11 rfl rfl)
theorem dX2_init_2_106 : decode cX2_init_2 106 = .ok (.getfield 20, 3) := dk_180 0 20 (dk_at dksX2_init_2_4 12 rfl rfl)
theorem dX2_init_2_109 : decode cX2_init_2 109 = .ok (.iload_n 2, 1) := dk_28 (dk_at dksX2_init_2_4 15 rfl rfl)
theorem dX2_init_2_110 : decode cX2_init_2 110 = .ok (.aaload, 1) := dk_50 (dk_at dksX2_init_2_4 16 rfl rfl)
theorem dX2_init_2_111 : decode cX2_init_2 111 = .ok (.aastore, 1) := dk_83 (dk_at dksX2_init_2_4 17 rfl rfl)
theorem dX2_init_2_112 : decode cX2_init_2 112 = .ok (.iinc 2 1, 3) := dk_132 2 1 (dk_at dksX2_init_2_4 18 rfl rfl)
theorem dX2_init_2_115 : decode cX2_init_2 115 = .ok (.goto (-20), 3) := dk_167 255 236 (dk_at dksX2_init_2_4 21 rfl rfl)
theorem dX2_init_2_118 : decode cX2_init_2 118 = .ok (.aload_n 0, 1) := dk_42 (dk_at dksX2_init_2_5 0 rfl rfl)
theorem dX2_init_2_119 : decode cX2_init_2 119 = .ok (.new 18, 3) := dk_187 0 18 (dk_at dksX2_init_2_5 1 rfl rfl)
theorem dX2_init_2_122 : decode cX2_init_2 122 = .ok (.dup, 1) := dk_89 (dk_at dksX2_init_2_5 4 rfl rfl)
theorem dX2_init_2_123 : decode cX2_init_2 123 = .ok (.aload_n 1, 1) := dk_43 (dk_at dksX2_init_2_5 5 rfl rfl)
theorem dX2_init_2_124 : decode cX2_init_2 124 = .ok (.getfield 25, 3) := dk_180 0 25 (dk_at dksX2_init_2_5 6 rfl rfl)
theorem dX2_init_2_127 : decode cX2_init_2 127 = .ok (.invokespecial 55, 3) := dk_183 0 55 (dk_at dksX2_init_2_5 9 rfl rfl)
theorem dX2_init_2_130 : decode cX2_init_2 130 = .ok (.putfield 25, 3) := dk_181 0 25 (dk_at dksX2_init_2_5 12 rfl rfl)
theorem dX2_init_2_133 : decode cX2_init_2 133 = .ok (.aload_n 0, 1) := dk_42 (dk_at dksX2_init_2_5 15 rfl rfl)
theorem dX2_init_2_134 : decode cX2_init_2 134 = .ok (.aload_n 1, 1) := dk_43 (dk_at dksX2_init_2_5 16 rfl rfl)
theorem dX2_init_2_135 : decode cX2_init_2 135 = .ok (.getfield 58, 3) := dk_180 0 58 (dk_at dksX2_init_2_5 17 rfl rfl)
theorem dX2_init_2_138 : decode cX2_init_2 138 = .ok (.putfield 58, 3) := dk_181 0 58 (dk_at dksX2_init_2_5 20 rfl rfl)
theorem dX2_init_2_141 : decode cX2_init_2 141 = .ok (.return_, 1) := dk_177 (dk_at dksX2_init_2_5 23 rfl rfl)
abbrev cX2_tells : ByteArray := prog_2_method_24_code
def yX2_tells : MethodName := ⟨RX2, "tells", "(III)I"⟩
def dkwX2_tells_2 : List UInt8 := [180, 0, 25, 183, 0, 55, 58, 4, 25, 4, 27, 28, 29, 182, 0, 70, 42, 25, 4, 182, 0, 194, 172]
abbrev dktX2_tells_2 : List UInt8 := dkwX2_tells_2 ++ []
def dkwX2_tells_1 : List UInt8 := [20, 0, 203, 184, 0, 62, 153, 0, 7, 4, 167, 0, 4, 3, 4, 184, 0, 180, 187, 0, 18, 89, 42]
abbrev dktX2_tells_1 : List UInt8 := dkwX2_tells_1 ++ dktX2_tells_2
def dkwX2_tells_0 : List UInt8 := [27, 28, 184, 0, 197, 153, 0, 30, 29, 133, 20, 0, 201, 27, 6, 160, 0, 7, 9, 167, 0, 6]
abbrev dktX2_tells_0 : List UInt8 := dkwX2_tells_0 ++ dktX2_tells_1
theorem dksX2_tells_0 : cX2_tells.data.toList.drop 0 = dktX2_tells_0 := by decide +kernel
theorem dksX2_tells_1 : cX2_tells.data.toList.drop 22 = dktX2_tells_1 := dk_seg dksX2_tells_0 22 rfl rfl
theorem dksX2_tells_2 : cX2_tells.data.toList.drop 45 = dktX2_tells_2 := dk_seg dksX2_tells_1 23 rfl rfl
theorem dX2_tells_0 : decode cX2_tells 0 = .ok (.iload_n 1, 1) := dk_27 (dk_at dksX2_tells_0 0 rfl rfl)
theorem dX2_tells_1 : decode cX2_tells 1 = .ok (.iload_n 2, 1) := dk_28 (dk_at dksX2_tells_0 1 rfl rfl)
theorem dX2_tells_2 : decode cX2_tells 2 = .ok (.invokestatic 197, 3) := dk_184 0 197 (dk_at dksX2_tells_0 2 rfl rfl)
theorem dX2_tells_5 : decode cX2_tells 5 = .ok (.ifCond .eq 30, 3) := dk_153 0 30 (dk_at dksX2_tells_0 5 rfl rfl)
theorem dX2_tells_8 : decode cX2_tells 8 = .ok (.iload_n 3, 1) := dk_29 (dk_at dksX2_tells_0 8 rfl rfl)
theorem dX2_tells_9 : decode cX2_tells 9 = .ok (.i2l, 1) := dk_133 (dk_at dksX2_tells_0 9 rfl rfl)
theorem dX2_tells_10 : decode cX2_tells 10 = .ok (.ldc2_w 201, 3) := dk_20 0 201 (dk_at dksX2_tells_0 10 rfl rfl)
theorem dX2_tells_13 : decode cX2_tells 13 = .ok (.iload_n 1, 1) := dk_27 (dk_at dksX2_tells_0 13 rfl rfl)
theorem dX2_tells_14 : decode cX2_tells 14 = .ok (.iconst 3, 1) := dk_6 (dk_at dksX2_tells_0 14 rfl rfl)
theorem dX2_tells_15 : decode cX2_tells 15 = .ok (.if_icmp .ne 7, 3) := dk_160 0 7 (dk_at dksX2_tells_0 15 rfl rfl)
theorem dX2_tells_18 : decode cX2_tells 18 = .ok (.lconst 0, 1) := dk_9 (dk_at dksX2_tells_0 18 rfl rfl)
theorem dX2_tells_19 : decode cX2_tells 19 = .ok (.goto 6, 3) := dk_167 0 6 (dk_at dksX2_tells_0 19 rfl rfl)
theorem dX2_tells_22 : decode cX2_tells 22 = .ok (.ldc2_w 203, 3) := dk_20 0 203 (dk_at dksX2_tells_1 0 rfl rfl)
theorem dX2_tells_25 : decode cX2_tells 25 = .ok (.invokestatic 62, 3) := dk_184 0 62 (dk_at dksX2_tells_1 3 rfl rfl)
theorem dX2_tells_28 : decode cX2_tells 28 = .ok (.ifCond .eq 7, 3) := dk_153 0 7 (dk_at dksX2_tells_1 6 rfl rfl)
theorem dX2_tells_31 : decode cX2_tells 31 = .ok (.iconst 1, 1) := dk_4 (dk_at dksX2_tells_1 9 rfl rfl)
theorem dX2_tells_32 : decode cX2_tells 32 = .ok (.goto 4, 3) := dk_167 0 4 (dk_at dksX2_tells_1 10 rfl rfl)
theorem dX2_tells_35 : decode cX2_tells 35 = .ok (.iconst 0, 1) := dk_3 (dk_at dksX2_tells_1 13 rfl rfl)
theorem dX2_tells_36 : decode cX2_tells 36 = .ok (.iconst 1, 1) := dk_4 (dk_at dksX2_tells_1 14 rfl rfl)
theorem dX2_tells_37 : decode cX2_tells 37 = .ok (.invokestatic 180, 3) := dk_184 0 180 (dk_at dksX2_tells_1 15 rfl rfl)
theorem dX2_tells_40 : decode cX2_tells 40 = .ok (.new 18, 3) := dk_187 0 18 (dk_at dksX2_tells_1 18 rfl rfl)
theorem dX2_tells_43 : decode cX2_tells 43 = .ok (.dup, 1) := dk_89 (dk_at dksX2_tells_1 21 rfl rfl)
theorem dX2_tells_44 : decode cX2_tells 44 = .ok (.aload_n 0, 1) := dk_42 (dk_at dksX2_tells_1 22 rfl rfl)
theorem dX2_tells_45 : decode cX2_tells 45 = .ok (.getfield 25, 3) := dk_180 0 25 (dk_at dksX2_tells_2 0 rfl rfl)
theorem dX2_tells_48 : decode cX2_tells 48 = .ok (.invokespecial 55, 3) := dk_183 0 55 (dk_at dksX2_tells_2 3 rfl rfl)
theorem dX2_tells_51 : decode cX2_tells 51 = .ok (.astore 4, 2) := dk_58 4 (dk_at dksX2_tells_2 6 rfl rfl)
theorem dX2_tells_53 : decode cX2_tells 53 = .ok (.aload 4, 2) := dk_25 4 (dk_at dksX2_tells_2 8 rfl rfl)
theorem dX2_tells_55 : decode cX2_tells 55 = .ok (.iload_n 1, 1) := dk_27 (dk_at dksX2_tells_2 10 rfl rfl)
theorem dX2_tells_56 : decode cX2_tells 56 = .ok (.iload_n 2, 1) := dk_28 (dk_at dksX2_tells_2 11 rfl rfl)
theorem dX2_tells_57 : decode cX2_tells 57 = .ok (.iload_n 3, 1) := dk_29 (dk_at dksX2_tells_2 12 rfl rfl)
theorem dX2_tells_58 : decode cX2_tells 58 = .ok (.invokevirtual 70, 3) := dk_182 0 70 (dk_at dksX2_tells_2 13 rfl rfl)
theorem dX2_tells_61 : decode cX2_tells 61 = .ok (.aload_n 0, 1) := dk_42 (dk_at dksX2_tells_2 16 rfl rfl)
theorem dX2_tells_62 : decode cX2_tells 62 = .ok (.aload 4, 2) := dk_25 4 (dk_at dksX2_tells_2 17 rfl rfl)
theorem dX2_tells_64 : decode cX2_tells 64 = .ok (.invokevirtual 194, 3) := dk_182 0 194 (dk_at dksX2_tells_2 19 rfl rfl)
theorem dX2_tells_67 : decode cX2_tells 67 = .ok (.ireturn, 1) := dk_172 (dk_at dksX2_tells_2 22 rfl rfl)
abbrev cX2_takes : ByteArray := prog_2_method_22_code
def yX2_takes : MethodName := ⟨RX2, "takes", "(LFerryClocks$Zone;)I"⟩
def dkwX2_takes_2 : List UInt8 := [43, 182, 0, 190, 62, 42, 43, 181, 0, 25, 29, 172]
abbrev dktX2_takes_2 : List UInt8 := dkwX2_takes_2 ++ []
def dkwX2_takes_1 : List UInt8 := [5, 184, 0, 180, 43, 182, 0, 187, 154, 0, 7, 4, 167, 0, 4, 3, 5, 184, 0, 180, 42, 180, 0, 25]
abbrev dktX2_takes_1 : List UInt8 := dkwX2_takes_1 ++ dktX2_takes_2
def dkwX2_takes_0 : List UInt8 := [43, 182, 0, 177, 77, 44, 182, 0, 81, 154, 0, 10, 44, 182, 0, 184, 154, 0, 7, 4, 167, 0, 4, 3]
abbrev dktX2_takes_0 : List UInt8 := dkwX2_takes_0 ++ dktX2_takes_1
theorem dksX2_takes_0 : cX2_takes.data.toList.drop 0 = dktX2_takes_0 := by decide +kernel
theorem dksX2_takes_1 : cX2_takes.data.toList.drop 24 = dktX2_takes_1 := dk_seg dksX2_takes_0 24 rfl rfl
theorem dksX2_takes_2 : cX2_takes.data.toList.drop 48 = dktX2_takes_2 := dk_seg dksX2_takes_1 24 rfl rfl
theorem dX2_takes_0 : decode cX2_takes 0 = .ok (.aload_n 1, 1) := dk_43 (dk_at dksX2_takes_0 0 rfl rfl)
theorem dX2_takes_1 : decode cX2_takes 1 = .ok (.invokevirtual 177, 3) := dk_182 0 177 (dk_at dksX2_takes_0 1 rfl rfl)
theorem dX2_takes_4 : decode cX2_takes 4 = .ok (.astore_n 2, 1) := dk_77 (dk_at dksX2_takes_0 4 rfl rfl)
theorem dX2_takes_5 : decode cX2_takes 5 = .ok (.aload_n 2, 1) := dk_44 (dk_at dksX2_takes_0 5 rfl rfl)
theorem dX2_takes_6 : decode cX2_takes 6 = .ok (.invokevirtual 81, 3) := dk_182 0 81 (dk_at dksX2_takes_0 6 rfl rfl)
theorem dX2_takes_9 : decode cX2_takes 9 = .ok (.ifCond .ne 10, 3) := dk_154 0 10 (dk_at dksX2_takes_0 9 rfl rfl)
theorem dX2_takes_12 : decode cX2_takes 12 = .ok (.aload_n 2, 1) := dk_44 (dk_at dksX2_takes_0 12 rfl rfl)
theorem dX2_takes_13 : decode cX2_takes 13 = .ok (.invokevirtual 184, 3) := dk_182 0 184 (dk_at dksX2_takes_0 13 rfl rfl)
theorem dX2_takes_16 : decode cX2_takes 16 = .ok (.ifCond .ne 7, 3) := dk_154 0 7 (dk_at dksX2_takes_0 16 rfl rfl)
theorem dX2_takes_19 : decode cX2_takes 19 = .ok (.iconst 1, 1) := dk_4 (dk_at dksX2_takes_0 19 rfl rfl)
theorem dX2_takes_20 : decode cX2_takes 20 = .ok (.goto 4, 3) := dk_167 0 4 (dk_at dksX2_takes_0 20 rfl rfl)
theorem dX2_takes_23 : decode cX2_takes 23 = .ok (.iconst 0, 1) := dk_3 (dk_at dksX2_takes_0 23 rfl rfl)
theorem dX2_takes_24 : decode cX2_takes 24 = .ok (.iconst 2, 1) := dk_5 (dk_at dksX2_takes_1 0 rfl rfl)
theorem dX2_takes_25 : decode cX2_takes 25 = .ok (.invokestatic 180, 3) := dk_184 0 180 (dk_at dksX2_takes_1 1 rfl rfl)
theorem dX2_takes_28 : decode cX2_takes 28 = .ok (.aload_n 1, 1) := dk_43 (dk_at dksX2_takes_1 4 rfl rfl)
theorem dX2_takes_29 : decode cX2_takes 29 = .ok (.invokevirtual 187, 3) := dk_182 0 187 (dk_at dksX2_takes_1 5 rfl rfl)
theorem dX2_takes_32 : decode cX2_takes 32 = .ok (.ifCond .ne 7, 3) := dk_154 0 7 (dk_at dksX2_takes_1 8 rfl rfl)
theorem dX2_takes_35 : decode cX2_takes 35 = .ok (.iconst 1, 1) := dk_4 (dk_at dksX2_takes_1 11 rfl rfl)
theorem dX2_takes_36 : decode cX2_takes 36 = .ok (.goto 4, 3) := dk_167 0 4 (dk_at dksX2_takes_1 12 rfl rfl)
theorem dX2_takes_39 : decode cX2_takes 39 = .ok (.iconst 0, 1) := dk_3 (dk_at dksX2_takes_1 15 rfl rfl)
theorem dX2_takes_40 : decode cX2_takes 40 = .ok (.iconst 2, 1) := dk_5 (dk_at dksX2_takes_1 16 rfl rfl)
theorem dX2_takes_41 : decode cX2_takes 41 = .ok (.invokestatic 180, 3) := dk_184 0 180 (dk_at dksX2_takes_1 17 rfl rfl)
theorem dX2_takes_44 : decode cX2_takes 44 = .ok (.aload_n 0, 1) := dk_42 (dk_at dksX2_takes_1 20 rfl rfl)
theorem dX2_takes_45 : decode cX2_takes 45 = .ok (.getfield 25, 3) := dk_180 0 25 (dk_at dksX2_takes_1 21 rfl rfl)
theorem dX2_takes_48 : decode cX2_takes 48 = .ok (.aload_n 1, 1) := dk_43 (dk_at dksX2_takes_2 0 rfl rfl)
theorem dX2_takes_49 : decode cX2_takes 49 = .ok (.invokevirtual 190, 3) := dk_182 0 190 (dk_at dksX2_takes_2 1 rfl rfl)
theorem dX2_takes_52 : decode cX2_takes 52 = .ok (.istore_n 3, 1) := dk_62 (dk_at dksX2_takes_2 4 rfl rfl)
theorem dX2_takes_53 : decode cX2_takes 53 = .ok (.aload_n 0, 1) := dk_42 (dk_at dksX2_takes_2 5 rfl rfl)
theorem dX2_takes_54 : decode cX2_takes 54 = .ok (.aload_n 1, 1) := dk_43 (dk_at dksX2_takes_2 6 rfl rfl)
theorem dX2_takes_55 : decode cX2_takes 55 = .ok (.putfield 25, 3) := dk_181 0 25 (dk_at dksX2_takes_2 7 rfl rfl)
theorem dX2_takes_58 : decode cX2_takes 58 = .ok (.iload_n 3, 1) := dk_29 (dk_at dksX2_takes_2 10 rfl rfl)
theorem dX2_takes_59 : decode cX2_takes 59 = .ok (.ireturn, 1) := dk_172 (dk_at dksX2_takes_2 11 rfl rfl)
abbrev cX2_forgets : ByteArray := prog_2_method_25_code
def yX2_forgets : MethodName := ⟨RX2, "forgets", "(II)I"⟩
def dkwX2_forgets_1 : List UInt8 := [27, 184, 0, 205, 182, 0, 101, 42, 45, 182, 0, 194, 172]
abbrev dktX2_forgets_1 : List UInt8 := dkwX2_forgets_1 ++ []
def dkwX2_forgets_0 : List UInt8 := [27, 28, 184, 0, 197, 4, 184, 0, 180, 187, 0, 18, 89, 42, 180, 0, 25, 183, 0, 55, 78, 45, 27, 28]
abbrev dktX2_forgets_0 : List UInt8 := dkwX2_forgets_0 ++ dktX2_forgets_1
theorem dksX2_forgets_0 : cX2_forgets.data.toList.drop 0 = dktX2_forgets_0 := by decide +kernel
theorem dksX2_forgets_1 : cX2_forgets.data.toList.drop 24 = dktX2_forgets_1 := dk_seg dksX2_forgets_0 24 rfl rfl
theorem dX2_forgets_0 : decode cX2_forgets 0 = .ok (.iload_n 1, 1) := dk_27 (dk_at dksX2_forgets_0 0 rfl rfl)
theorem dX2_forgets_1 : decode cX2_forgets 1 = .ok (.iload_n 2, 1) := dk_28 (dk_at dksX2_forgets_0 1 rfl rfl)
theorem dX2_forgets_2 : decode cX2_forgets 2 = .ok (.invokestatic 197, 3) := dk_184 0 197 (dk_at dksX2_forgets_0 2 rfl rfl)
theorem dX2_forgets_5 : decode cX2_forgets 5 = .ok (.iconst 1, 1) := dk_4 (dk_at dksX2_forgets_0 5 rfl rfl)
theorem dX2_forgets_6 : decode cX2_forgets 6 = .ok (.invokestatic 180, 3) := dk_184 0 180 (dk_at dksX2_forgets_0 6 rfl rfl)
theorem dX2_forgets_9 : decode cX2_forgets 9 = .ok (.new 18, 3) := dk_187 0 18 (dk_at dksX2_forgets_0 9 rfl rfl)
theorem dX2_forgets_12 : decode cX2_forgets 12 = .ok (.dup, 1) := dk_89 (dk_at dksX2_forgets_0 12 rfl rfl)
theorem dX2_forgets_13 : decode cX2_forgets 13 = .ok (.aload_n 0, 1) := dk_42 (dk_at dksX2_forgets_0 13 rfl rfl)
theorem dX2_forgets_14 : decode cX2_forgets 14 = .ok (.getfield 25, 3) := dk_180 0 25 (dk_at dksX2_forgets_0 14 rfl rfl)
theorem dX2_forgets_17 : decode cX2_forgets 17 = .ok (.invokespecial 55, 3) := dk_183 0 55 (dk_at dksX2_forgets_0 17 rfl rfl)
theorem dX2_forgets_20 : decode cX2_forgets 20 = .ok (.astore_n 3, 1) := dk_78 (dk_at dksX2_forgets_0 20 rfl rfl)
theorem dX2_forgets_21 : decode cX2_forgets 21 = .ok (.aload_n 3, 1) := dk_45 (dk_at dksX2_forgets_0 21 rfl rfl)
theorem dX2_forgets_22 : decode cX2_forgets 22 = .ok (.iload_n 1, 1) := dk_27 (dk_at dksX2_forgets_0 22 rfl rfl)
theorem dX2_forgets_23 : decode cX2_forgets 23 = .ok (.iload_n 2, 1) := dk_28 (dk_at dksX2_forgets_0 23 rfl rfl)
theorem dX2_forgets_24 : decode cX2_forgets 24 = .ok (.iload_n 1, 1) := dk_27 (dk_at dksX2_forgets_1 0 rfl rfl)
theorem dX2_forgets_25 : decode cX2_forgets 25 = .ok (.invokestatic 205, 3) := dk_184 0 205 (dk_at dksX2_forgets_1 1 rfl rfl)
theorem dX2_forgets_28 : decode cX2_forgets 28 = .ok (.invokevirtual 101, 3) := dk_182 0 101 (dk_at dksX2_forgets_1 4 rfl rfl)
theorem dX2_forgets_31 : decode cX2_forgets 31 = .ok (.aload_n 0, 1) := dk_42 (dk_at dksX2_forgets_1 7 rfl rfl)
theorem dX2_forgets_32 : decode cX2_forgets 32 = .ok (.aload_n 3, 1) := dk_45 (dk_at dksX2_forgets_1 8 rfl rfl)
theorem dX2_forgets_33 : decode cX2_forgets 33 = .ok (.invokevirtual 194, 3) := dk_182 0 194 (dk_at dksX2_forgets_1 9 rfl rfl)
theorem dX2_forgets_36 : decode cX2_forgets 36 = .ok (.ireturn, 1) := dk_172 (dk_at dksX2_forgets_1 12 rfl rfl)
abbrev cX2_forgetsAll : ByteArray := prog_2_method_26_code
def yX2_forgetsAll : MethodName := ⟨RX2, "forgetsAll", "()I"⟩
def dkwX2_forgetsAll_0 : List UInt8 := [42, 187, 0, 18, 89, 183, 0, 24, 182, 0, 194, 172]
abbrev dktX2_forgetsAll_0 : List UInt8 := dkwX2_forgetsAll_0 ++ []
theorem dksX2_forgetsAll_0 : cX2_forgetsAll.data.toList.drop 0 = dktX2_forgetsAll_0 := by decide +kernel
theorem dX2_forgetsAll_0 : decode cX2_forgetsAll 0 = .ok (.aload_n 0, 1) := dk_42 (dk_at dksX2_forgetsAll_0 0 rfl rfl)
theorem dX2_forgetsAll_1 : decode cX2_forgetsAll 1 = .ok (.new 18, 3) := dk_187 0 18 (dk_at dksX2_forgetsAll_0 1 rfl rfl)
theorem dX2_forgetsAll_4 : decode cX2_forgetsAll 4 = .ok (.dup, 1) := dk_89 (dk_at dksX2_forgetsAll_0 4 rfl rfl)
theorem dX2_forgetsAll_5 : decode cX2_forgetsAll 5 = .ok (.invokespecial 24, 3) := dk_183 0 24 (dk_at dksX2_forgetsAll_0 5 rfl rfl)
theorem dX2_forgetsAll_8 : decode cX2_forgetsAll 8 = .ok (.invokevirtual 194, 3) := dk_182 0 194 (dk_at dksX2_forgetsAll_0 8 rfl rfl)
theorem dX2_forgetsAll_11 : decode cX2_forgetsAll 11 = .ok (.ireturn, 1) := dk_172 (dk_at dksX2_forgetsAll_0 11 rfl rfl)
abbrev cX2_tightens : ByteArray := prog_2_method_27_code
def yX2_tightens : MethodName := ⟨RX2, "tightens", "()I"⟩
def dkwX2_tightens_0 : List UInt8 := [42, 42, 182, 0, 208, 182, 0, 194, 172]
abbrev dktX2_tightens_0 : List UInt8 := dkwX2_tightens_0 ++ []
theorem dksX2_tightens_0 : cX2_tightens.data.toList.drop 0 = dktX2_tightens_0 := by decide +kernel
theorem dX2_tightens_0 : decode cX2_tightens 0 = .ok (.aload_n 0, 1) := dk_42 (dk_at dksX2_tightens_0 0 rfl rfl)
theorem dX2_tightens_1 : decode cX2_tightens 1 = .ok (.aload_n 0, 1) := dk_42 (dk_at dksX2_tightens_0 1 rfl rfl)
theorem dX2_tightens_2 : decode cX2_tightens 2 = .ok (.invokevirtual 208, 3) := dk_182 0 208 (dk_at dksX2_tightens_0 2 rfl rfl)
theorem dX2_tightens_5 : decode cX2_tightens 5 = .ok (.invokevirtual 194, 3) := dk_182 0 194 (dk_at dksX2_tightens_0 5 rfl rfl)
theorem dX2_tightens_8 : decode cX2_tightens 8 = .ok (.ireturn, 1) := dk_172 (dk_at dksX2_tightens_0 8 rfl rfl)
abbrev cX2_readied : ByteArray := prog_2_method_21_code
def yX2_readied : MethodName := ⟨RX2, "readied", "()LFerryClocks$Zone;"⟩
def dkwX2_readied_1 : List UInt8 := [43, 176]
abbrev dktX2_readied_1 : List UInt8 := dkwX2_readied_1 ++ []
def dkwX2_readied_0 : List UInt8 := [42, 180, 0, 25, 182, 0, 177, 76, 43, 182, 0, 81, 154, 0, 7, 4, 167, 0, 4, 3, 5, 184, 0, 180]
abbrev dktX2_readied_0 : List UInt8 := dkwX2_readied_0 ++ dktX2_readied_1
theorem dksX2_readied_0 : cX2_readied.data.toList.drop 0 = dktX2_readied_0 := by decide +kernel
theorem dksX2_readied_1 : cX2_readied.data.toList.drop 24 = dktX2_readied_1 := dk_seg dksX2_readied_0 24 rfl rfl
theorem dX2_readied_0 : decode cX2_readied 0 = .ok (.aload_n 0, 1) := dk_42 (dk_at dksX2_readied_0 0 rfl rfl)
theorem dX2_readied_1 : decode cX2_readied 1 = .ok (.getfield 25, 3) := dk_180 0 25 (dk_at dksX2_readied_0 1 rfl rfl)
theorem dX2_readied_4 : decode cX2_readied 4 = .ok (.invokevirtual 177, 3) := dk_182 0 177 (dk_at dksX2_readied_0 4 rfl rfl)
theorem dX2_readied_7 : decode cX2_readied 7 = .ok (.astore_n 1, 1) := dk_76 (dk_at dksX2_readied_0 7 rfl rfl)
theorem dX2_readied_8 : decode cX2_readied 8 = .ok (.aload_n 1, 1) := dk_43 (dk_at dksX2_readied_0 8 rfl rfl)
theorem dX2_readied_9 : decode cX2_readied 9 = .ok (.invokevirtual 81, 3) := dk_182 0 81 (dk_at dksX2_readied_0 9 rfl rfl)
theorem dX2_readied_12 : decode cX2_readied 12 = .ok (.ifCond .ne 7, 3) := dk_154 0 7 (dk_at dksX2_readied_0 12 rfl rfl)
theorem dX2_readied_15 : decode cX2_readied 15 = .ok (.iconst 1, 1) := dk_4 (dk_at dksX2_readied_0 15 rfl rfl)
theorem dX2_readied_16 : decode cX2_readied 16 = .ok (.goto 4, 3) := dk_167 0 4 (dk_at dksX2_readied_0 16 rfl rfl)
theorem dX2_readied_19 : decode cX2_readied 19 = .ok (.iconst 0, 1) := dk_3 (dk_at dksX2_readied_0 19 rfl rfl)
theorem dX2_readied_20 : decode cX2_readied 20 = .ok (.iconst 2, 1) := dk_5 (dk_at dksX2_readied_0 20 rfl rfl)
theorem dX2_readied_21 : decode cX2_readied 21 = .ok (.invokestatic 180, 3) := dk_184 0 180 (dk_at dksX2_readied_0 21 rfl rfl)
theorem dX2_readied_24 : decode cX2_readied 24 = .ok (.aload_n 1, 1) := dk_43 (dk_at dksX2_readied_1 0 rfl rfl)
theorem dX2_readied_25 : decode cX2_readied 25 = .ok (.areturn, 1) := dk_176 (dk_at dksX2_readied_1 1 rfl rfl)
abbrev cX2_resets : ByteArray := prog_2_method_28_code
def yX2_resets : MethodName := ⟨RX2, "resets", "(II)I"⟩
def dkwX2_resets_2 : List UInt8 := [45, 182, 0, 221, 54, 5, 21, 4, 17, 39, 15, 160, 0, 8, 16, 31, 167, 0, 5, 21, 4, 172]
abbrev dktX2_resets_2 : List UInt8 := dkwX2_resets_2 ++ []
def dkwX2_resets_1 : List UInt8 := [4, 184, 0, 180, 42, 182, 0, 208, 78, 45, 27, 6, 182, 0, 214, 54, 4, 45, 27, 28, 182, 0, 217, 42]
abbrev dktX2_resets_1 : List UInt8 := dkwX2_resets_1 ++ dktX2_resets_2
def dkwX2_resets_0 : List UInt8 := [27, 184, 0, 211, 153, 0, 19, 28, 133, 9, 20, 0, 203, 184, 0, 62, 153, 0, 7, 4, 167, 0, 4, 3]
abbrev dktX2_resets_0 : List UInt8 := dkwX2_resets_0 ++ dktX2_resets_1
theorem dksX2_resets_0 : cX2_resets.data.toList.drop 0 = dktX2_resets_0 := by decide +kernel
theorem dksX2_resets_1 : cX2_resets.data.toList.drop 24 = dktX2_resets_1 := dk_seg dksX2_resets_0 24 rfl rfl
theorem dksX2_resets_2 : cX2_resets.data.toList.drop 48 = dktX2_resets_2 := dk_seg dksX2_resets_1 24 rfl rfl
theorem dX2_resets_0 : decode cX2_resets 0 = .ok (.iload_n 1, 1) := dk_27 (dk_at dksX2_resets_0 0 rfl rfl)
theorem dX2_resets_1 : decode cX2_resets 1 = .ok (.invokestatic 211, 3) := dk_184 0 211 (dk_at dksX2_resets_0 1 rfl rfl)
theorem dX2_resets_4 : decode cX2_resets 4 = .ok (.ifCond .eq 19, 3) := dk_153 0 19 (dk_at dksX2_resets_0 4 rfl rfl)
theorem dX2_resets_7 : decode cX2_resets 7 = .ok (.iload_n 2, 1) := dk_28 (dk_at dksX2_resets_0 7 rfl rfl)
theorem dX2_resets_8 : decode cX2_resets 8 = .ok (.i2l, 1) := dk_133 (dk_at dksX2_resets_0 8 rfl rfl)
theorem dX2_resets_9 : decode cX2_resets 9 = .ok (.lconst 0, 1) := dk_9 (dk_at dksX2_resets_0 9 rfl rfl)
theorem dX2_resets_10 : decode cX2_resets 10 = .ok (.ldc2_w 203, 3) := dk_20 0 203 (dk_at dksX2_resets_0 10 rfl rfl)
theorem dX2_resets_13 : decode cX2_resets 13 = .ok (.invokestatic 62, 3) := dk_184 0 62 (dk_at dksX2_resets_0 13 rfl rfl)
theorem dX2_resets_16 : decode cX2_resets 16 = .ok (.ifCond .eq 7, 3) := dk_153 0 7 (dk_at dksX2_resets_0 16 rfl rfl)
theorem dX2_resets_19 : decode cX2_resets 19 = .ok (.iconst 1, 1) := dk_4 (dk_at dksX2_resets_0 19 rfl rfl)
theorem dX2_resets_20 : decode cX2_resets 20 = .ok (.goto 4, 3) := dk_167 0 4 (dk_at dksX2_resets_0 20 rfl rfl)
theorem dX2_resets_23 : decode cX2_resets 23 = .ok (.iconst 0, 1) := dk_3 (dk_at dksX2_resets_0 23 rfl rfl)
theorem dX2_resets_24 : decode cX2_resets 24 = .ok (.iconst 1, 1) := dk_4 (dk_at dksX2_resets_1 0 rfl rfl)
theorem dX2_resets_25 : decode cX2_resets 25 = .ok (.invokestatic 180, 3) := dk_184 0 180 (dk_at dksX2_resets_1 1 rfl rfl)
theorem dX2_resets_28 : decode cX2_resets 28 = .ok (.aload_n 0, 1) := dk_42 (dk_at dksX2_resets_1 4 rfl rfl)
theorem dX2_resets_29 : decode cX2_resets 29 = .ok (.invokevirtual 208, 3) := dk_182 0 208 (dk_at dksX2_resets_1 5 rfl rfl)
theorem dX2_resets_32 : decode cX2_resets 32 = .ok (.astore_n 3, 1) := dk_78 (dk_at dksX2_resets_1 8 rfl rfl)
theorem dX2_resets_33 : decode cX2_resets 33 = .ok (.aload_n 3, 1) := dk_45 (dk_at dksX2_resets_1 9 rfl rfl)
theorem dX2_resets_34 : decode cX2_resets 34 = .ok (.iload_n 1, 1) := dk_27 (dk_at dksX2_resets_1 10 rfl rfl)
theorem dX2_resets_35 : decode cX2_resets 35 = .ok (.iconst 3, 1) := dk_6 (dk_at dksX2_resets_1 11 rfl rfl)
theorem dX2_resets_36 : decode cX2_resets 36 = .ok (.invokevirtual 214, 3) := dk_182 0 214 (dk_at dksX2_resets_1 12 rfl rfl)
theorem dX2_resets_39 : decode cX2_resets 39 = .ok (.istore 4, 2) := dk_54 4 (dk_at dksX2_resets_1 15 rfl rfl)
theorem dX2_resets_41 : decode cX2_resets 41 = .ok (.aload_n 3, 1) := dk_45 (dk_at dksX2_resets_1 17 rfl rfl)
theorem dX2_resets_42 : decode cX2_resets 42 = .ok (.iload_n 1, 1) := dk_27 (dk_at dksX2_resets_1 18 rfl rfl)
theorem dX2_resets_43 : decode cX2_resets 43 = .ok (.iload_n 2, 1) := dk_28 (dk_at dksX2_resets_1 19 rfl rfl)
theorem dX2_resets_44 : decode cX2_resets 44 = .ok (.invokevirtual 217, 3) := dk_182 0 217 (dk_at dksX2_resets_1 20 rfl rfl)
theorem dX2_resets_47 : decode cX2_resets 47 = .ok (.aload_n 0, 1) := dk_42 (dk_at dksX2_resets_1 23 rfl rfl)
theorem dX2_resets_48 : decode cX2_resets 48 = .ok (.aload_n 3, 1) := dk_45 (dk_at dksX2_resets_2 0 rfl rfl)
theorem dX2_resets_49 : decode cX2_resets 49 = .ok (.invokevirtual 221, 3) := dk_182 0 221 (dk_at dksX2_resets_2 1 rfl rfl)
theorem dX2_resets_52 : decode cX2_resets 52 = .ok (.istore 5, 2) := dk_54 5 (dk_at dksX2_resets_2 4 rfl rfl)
theorem dX2_resets_54 : decode cX2_resets 54 = .ok (.iload 4, 2) := dk_21 4 (dk_at dksX2_resets_2 6 rfl rfl)
theorem dX2_resets_56 : decode cX2_resets 56 = .ok (.sipush 9999, 3) := dk_17 39 15 (dk_at dksX2_resets_2 8 rfl rfl)
theorem dX2_resets_59 : decode cX2_resets 59 = .ok (.if_icmp .ne 8, 3) := dk_160 0 8 (dk_at dksX2_resets_2 11 rfl rfl)
theorem dX2_resets_62 : decode cX2_resets 62 = .ok (.bipush 31, 2) := dk_16 31 (dk_at dksX2_resets_2 14 rfl rfl)
theorem dX2_resets_64 : decode cX2_resets 64 = .ok (.goto 5, 3) := dk_167 0 5 (dk_at dksX2_resets_2 16 rfl rfl)
theorem dX2_resets_67 : decode cX2_resets 67 = .ok (.iload 4, 2) := dk_21 4 (dk_at dksX2_resets_2 19 rfl rfl)
theorem dX2_resets_69 : decode cX2_resets 69 = .ok (.ireturn, 1) := dk_172 (dk_at dksX2_resets_2 21 rfl rfl)
abbrev cX2_takesWorked : ByteArray := prog_2_method_23_code
def yX2_takesWorked : MethodName := ⟨RX2, "takesWorked", "(LFerryClocks$Zone;)I"⟩
def dkwX2_takesWorked_0 : List UInt8 := [42, 89, 180, 0, 58, 4, 96, 181, 0, 58, 42, 43, 182, 0, 177, 182, 0, 194, 172]
abbrev dktX2_takesWorked_0 : List UInt8 := dkwX2_takesWorked_0 ++ []
theorem dksX2_takesWorked_0 : cX2_takesWorked.data.toList.drop 0 = dktX2_takesWorked_0 := by decide +kernel
theorem dX2_takesWorked_0 : decode cX2_takesWorked 0 = .ok (.aload_n 0, 1) := dk_42 (dk_at dksX2_takesWorked_0 0 rfl rfl)
theorem dX2_takesWorked_1 : decode cX2_takesWorked 1 = .ok (.dup, 1) := dk_89 (dk_at dksX2_takesWorked_0 1 rfl rfl)
theorem dX2_takesWorked_2 : decode cX2_takesWorked 2 = .ok (.getfield 58, 3) := dk_180 0 58 (dk_at dksX2_takesWorked_0 2 rfl rfl)
theorem dX2_takesWorked_5 : decode cX2_takesWorked 5 = .ok (.iconst 1, 1) := dk_4 (dk_at dksX2_takesWorked_0 5 rfl rfl)
theorem dX2_takesWorked_6 : decode cX2_takesWorked 6 = .ok (.iadd, 1) := dk_96 (dk_at dksX2_takesWorked_0 6 rfl rfl)
theorem dX2_takesWorked_7 : decode cX2_takesWorked 7 = .ok (.putfield 58, 3) := dk_181 0 58 (dk_at dksX2_takesWorked_0 7 rfl rfl)
theorem dX2_takesWorked_10 : decode cX2_takesWorked 10 = .ok (.aload_n 0, 1) := dk_42 (dk_at dksX2_takesWorked_0 10 rfl rfl)
theorem dX2_takesWorked_11 : decode cX2_takesWorked 11 = .ok (.aload_n 1, 1) := dk_43 (dk_at dksX2_takesWorked_0 11 rfl rfl)
theorem dX2_takesWorked_12 : decode cX2_takesWorked 12 = .ok (.invokevirtual 177, 3) := dk_182 0 177 (dk_at dksX2_takesWorked_0 12 rfl rfl)
theorem dX2_takesWorked_15 : decode cX2_takesWorked 15 = .ok (.invokevirtual 194, 3) := dk_182 0 194 (dk_at dksX2_takesWorked_0 15 rfl rfl)
theorem dX2_takesWorked_18 : decode cX2_takesWorked 18 = .ok (.ireturn, 1) := dk_172 (dk_at dksX2_takesWorked_0 18 rfl rfl)
abbrev cX2_delays : ByteArray := prog_2_method_29_code
def yX2_delays : MethodName := ⟨RX2, "delays", "()I"⟩
def dkwX2_delays_0 : List UInt8 := [42, 182, 0, 208, 76, 43, 182, 0, 85, 61, 42, 43, 182, 0, 221, 62, 28, 172]
abbrev dktX2_delays_0 : List UInt8 := dkwX2_delays_0 ++ []
theorem dksX2_delays_0 : cX2_delays.data.toList.drop 0 = dktX2_delays_0 := by decide +kernel
theorem dX2_delays_0 : decode cX2_delays 0 = .ok (.aload_n 0, 1) := dk_42 (dk_at dksX2_delays_0 0 rfl rfl)
theorem dX2_delays_1 : decode cX2_delays 1 = .ok (.invokevirtual 208, 3) := dk_182 0 208 (dk_at dksX2_delays_0 1 rfl rfl)
theorem dX2_delays_4 : decode cX2_delays 4 = .ok (.astore_n 1, 1) := dk_76 (dk_at dksX2_delays_0 4 rfl rfl)
theorem dX2_delays_5 : decode cX2_delays 5 = .ok (.aload_n 1, 1) := dk_43 (dk_at dksX2_delays_0 5 rfl rfl)
theorem dX2_delays_6 : decode cX2_delays 6 = .ok (.invokevirtual 85, 3) := dk_182 0 85 (dk_at dksX2_delays_0 6 rfl rfl)
theorem dX2_delays_9 : decode cX2_delays 9 = .ok (.istore_n 2, 1) := dk_61 (dk_at dksX2_delays_0 9 rfl rfl)
theorem dX2_delays_10 : decode cX2_delays 10 = .ok (.aload_n 0, 1) := dk_42 (dk_at dksX2_delays_0 10 rfl rfl)
theorem dX2_delays_11 : decode cX2_delays 11 = .ok (.aload_n 1, 1) := dk_43 (dk_at dksX2_delays_0 11 rfl rfl)
theorem dX2_delays_12 : decode cX2_delays 12 = .ok (.invokevirtual 221, 3) := dk_182 0 221 (dk_at dksX2_delays_0 12 rfl rfl)
theorem dX2_delays_15 : decode cX2_delays 15 = .ok (.istore_n 3, 1) := dk_62 (dk_at dksX2_delays_0 15 rfl rfl)
theorem dX2_delays_16 : decode cX2_delays 16 = .ok (.iload_n 2, 1) := dk_28 (dk_at dksX2_delays_0 16 rfl rfl)
theorem dX2_delays_17 : decode cX2_delays 17 = .ok (.ireturn, 1) := dk_172 (dk_at dksX2_delays_0 17 rfl rfl)
abbrev cX2_goesBack : ByteArray := prog_2_method_30_code
def yX2_goesBack : MethodName := ⟨RX2, "goesBack", "()I"⟩
def dkwX2_goesBack_0 : List UInt8 := [42, 182, 0, 208, 76, 43, 182, 0, 224, 42, 43, 182, 0, 221, 172]
abbrev dktX2_goesBack_0 : List UInt8 := dkwX2_goesBack_0 ++ []
theorem dksX2_goesBack_0 : cX2_goesBack.data.toList.drop 0 = dktX2_goesBack_0 := by decide +kernel
theorem dX2_goesBack_0 : decode cX2_goesBack 0 = .ok (.aload_n 0, 1) := dk_42 (dk_at dksX2_goesBack_0 0 rfl rfl)
theorem dX2_goesBack_1 : decode cX2_goesBack 1 = .ok (.invokevirtual 208, 3) := dk_182 0 208 (dk_at dksX2_goesBack_0 1 rfl rfl)
theorem dX2_goesBack_4 : decode cX2_goesBack 4 = .ok (.astore_n 1, 1) := dk_76 (dk_at dksX2_goesBack_0 4 rfl rfl)
theorem dX2_goesBack_5 : decode cX2_goesBack 5 = .ok (.aload_n 1, 1) := dk_43 (dk_at dksX2_goesBack_0 5 rfl rfl)
theorem dX2_goesBack_6 : decode cX2_goesBack 6 = .ok (.invokevirtual 224, 3) := dk_182 0 224 (dk_at dksX2_goesBack_0 6 rfl rfl)
theorem dX2_goesBack_9 : decode cX2_goesBack 9 = .ok (.aload_n 0, 1) := dk_42 (dk_at dksX2_goesBack_0 9 rfl rfl)
theorem dX2_goesBack_10 : decode cX2_goesBack 10 = .ok (.aload_n 1, 1) := dk_43 (dk_at dksX2_goesBack_0 10 rfl rfl)
theorem dX2_goesBack_11 : decode cX2_goesBack 11 = .ok (.invokevirtual 221, 3) := dk_182 0 221 (dk_at dksX2_goesBack_0 11 rfl rfl)
theorem dX2_goesBack_14 : decode cX2_goesBack 14 = .ok (.ireturn, 1) := dk_172 (dk_at dksX2_goesBack_0 14 rfl rfl)
abbrev cX2_frees : ByteArray := prog_2_method_31_code
def yX2_frees : MethodName := ⟨RX2, "frees", "(I)I"⟩
def dkwX2_frees_0 : List UInt8 := [27, 184, 0, 211, 4, 184, 0, 180, 42, 182, 0, 208, 77, 44, 27, 182, 0, 227, 42, 44, 182, 0, 221, 172]
abbrev dktX2_frees_0 : List UInt8 := dkwX2_frees_0 ++ []
theorem dksX2_frees_0 : cX2_frees.data.toList.drop 0 = dktX2_frees_0 := by decide +kernel
theorem dX2_frees_0 : decode cX2_frees 0 = .ok (.iload_n 1, 1) := dk_27 (dk_at dksX2_frees_0 0 rfl rfl)
theorem dX2_frees_1 : decode cX2_frees 1 = .ok (.invokestatic 211, 3) := dk_184 0 211 (dk_at dksX2_frees_0 1 rfl rfl)
theorem dX2_frees_4 : decode cX2_frees 4 = .ok (.iconst 1, 1) := dk_4 (dk_at dksX2_frees_0 4 rfl rfl)
theorem dX2_frees_5 : decode cX2_frees 5 = .ok (.invokestatic 180, 3) := dk_184 0 180 (dk_at dksX2_frees_0 5 rfl rfl)
theorem dX2_frees_8 : decode cX2_frees 8 = .ok (.aload_n 0, 1) := dk_42 (dk_at dksX2_frees_0 8 rfl rfl)
theorem dX2_frees_9 : decode cX2_frees 9 = .ok (.invokevirtual 208, 3) := dk_182 0 208 (dk_at dksX2_frees_0 9 rfl rfl)
theorem dX2_frees_12 : decode cX2_frees 12 = .ok (.astore_n 2, 1) := dk_77 (dk_at dksX2_frees_0 12 rfl rfl)
theorem dX2_frees_13 : decode cX2_frees 13 = .ok (.aload_n 2, 1) := dk_44 (dk_at dksX2_frees_0 13 rfl rfl)
theorem dX2_frees_14 : decode cX2_frees 14 = .ok (.iload_n 1, 1) := dk_27 (dk_at dksX2_frees_0 14 rfl rfl)
theorem dX2_frees_15 : decode cX2_frees 15 = .ok (.invokevirtual 227, 3) := dk_182 0 227 (dk_at dksX2_frees_0 15 rfl rfl)
theorem dX2_frees_18 : decode cX2_frees 18 = .ok (.aload_n 0, 1) := dk_42 (dk_at dksX2_frees_0 18 rfl rfl)
theorem dX2_frees_19 : decode cX2_frees 19 = .ok (.aload_n 2, 1) := dk_44 (dk_at dksX2_frees_0 19 rfl rfl)
theorem dX2_frees_20 : decode cX2_frees 20 = .ok (.invokevirtual 221, 3) := dk_182 0 221 (dk_at dksX2_frees_0 20 rfl rfl)
theorem dX2_frees_23 : decode cX2_frees 23 = .ok (.ireturn, 1) := dk_172 (dk_at dksX2_frees_0 23 rfl rfl)
abbrev cX2_copies : ByteArray := prog_2_method_32_code
def yX2_copies : MethodName := ⟨RX2, "copies", "(II)I"⟩
def dkwX2_copies_2 : List UInt8 := [180, 0, 25, 6, 27, 182, 0, 214, 116, 172]
abbrev dktX2_copies_2 : List UInt8 := dkwX2_copies_2 ++ []
def dkwX2_copies_1 : List UInt8 := [4, 184, 0, 180, 42, 182, 0, 208, 78, 45, 27, 28, 182, 0, 231, 42, 45, 182, 0, 221, 54, 4, 42]
abbrev dktX2_copies_1 : List UInt8 := dkwX2_copies_1 ++ dktX2_copies_2
def dkwX2_copies_0 : List UInt8 := [27, 184, 0, 211, 153, 0, 19, 28, 184, 0, 211, 153, 0, 12, 27, 28, 159, 0, 7, 4, 167, 0, 4, 3]
abbrev dktX2_copies_0 : List UInt8 := dkwX2_copies_0 ++ dktX2_copies_1
theorem dksX2_copies_0 : cX2_copies.data.toList.drop 0 = dktX2_copies_0 := by decide +kernel
theorem dksX2_copies_1 : cX2_copies.data.toList.drop 24 = dktX2_copies_1 := dk_seg dksX2_copies_0 24 rfl rfl
theorem dksX2_copies_2 : cX2_copies.data.toList.drop 47 = dktX2_copies_2 := dk_seg dksX2_copies_1 23 rfl rfl
theorem dX2_copies_0 : decode cX2_copies 0 = .ok (.iload_n 1, 1) := dk_27 (dk_at dksX2_copies_0 0 rfl rfl)
theorem dX2_copies_1 : decode cX2_copies 1 = .ok (.invokestatic 211, 3) := dk_184 0 211 (dk_at dksX2_copies_0 1 rfl rfl)
theorem dX2_copies_4 : decode cX2_copies 4 = .ok (.ifCond .eq 19, 3) := dk_153 0 19 (dk_at dksX2_copies_0 4 rfl rfl)
theorem dX2_copies_7 : decode cX2_copies 7 = .ok (.iload_n 2, 1) := dk_28 (dk_at dksX2_copies_0 7 rfl rfl)
theorem dX2_copies_8 : decode cX2_copies 8 = .ok (.invokestatic 211, 3) := dk_184 0 211 (dk_at dksX2_copies_0 8 rfl rfl)
theorem dX2_copies_11 : decode cX2_copies 11 = .ok (.ifCond .eq 12, 3) := dk_153 0 12 (dk_at dksX2_copies_0 11 rfl rfl)
theorem dX2_copies_14 : decode cX2_copies 14 = .ok (.iload_n 1, 1) := dk_27 (dk_at dksX2_copies_0 14 rfl rfl)
theorem dX2_copies_15 : decode cX2_copies 15 = .ok (.iload_n 2, 1) := dk_28 (dk_at dksX2_copies_0 15 rfl rfl)
theorem dX2_copies_16 : decode cX2_copies 16 = .ok (.if_icmp .eq 7, 3) := dk_159 0 7 (dk_at dksX2_copies_0 16 rfl rfl)
theorem dX2_copies_19 : decode cX2_copies 19 = .ok (.iconst 1, 1) := dk_4 (dk_at dksX2_copies_0 19 rfl rfl)
theorem dX2_copies_20 : decode cX2_copies 20 = .ok (.goto 4, 3) := dk_167 0 4 (dk_at dksX2_copies_0 20 rfl rfl)
theorem dX2_copies_23 : decode cX2_copies 23 = .ok (.iconst 0, 1) := dk_3 (dk_at dksX2_copies_0 23 rfl rfl)
theorem dX2_copies_24 : decode cX2_copies 24 = .ok (.iconst 1, 1) := dk_4 (dk_at dksX2_copies_1 0 rfl rfl)
theorem dX2_copies_25 : decode cX2_copies 25 = .ok (.invokestatic 180, 3) := dk_184 0 180 (dk_at dksX2_copies_1 1 rfl rfl)
theorem dX2_copies_28 : decode cX2_copies 28 = .ok (.aload_n 0, 1) := dk_42 (dk_at dksX2_copies_1 4 rfl rfl)
theorem dX2_copies_29 : decode cX2_copies 29 = .ok (.invokevirtual 208, 3) := dk_182 0 208 (dk_at dksX2_copies_1 5 rfl rfl)
theorem dX2_copies_32 : decode cX2_copies 32 = .ok (.astore_n 3, 1) := dk_78 (dk_at dksX2_copies_1 8 rfl rfl)
theorem dX2_copies_33 : decode cX2_copies 33 = .ok (.aload_n 3, 1) := dk_45 (dk_at dksX2_copies_1 9 rfl rfl)
theorem dX2_copies_34 : decode cX2_copies 34 = .ok (.iload_n 1, 1) := dk_27 (dk_at dksX2_copies_1 10 rfl rfl)
theorem dX2_copies_35 : decode cX2_copies 35 = .ok (.iload_n 2, 1) := dk_28 (dk_at dksX2_copies_1 11 rfl rfl)
theorem dX2_copies_36 : decode cX2_copies 36 = .ok (.invokevirtual 231, 3) := dk_182 0 231 (dk_at dksX2_copies_1 12 rfl rfl)
theorem dX2_copies_39 : decode cX2_copies 39 = .ok (.aload_n 0, 1) := dk_42 (dk_at dksX2_copies_1 15 rfl rfl)
theorem dX2_copies_40 : decode cX2_copies 40 = .ok (.aload_n 3, 1) := dk_45 (dk_at dksX2_copies_1 16 rfl rfl)
theorem dX2_copies_41 : decode cX2_copies 41 = .ok (.invokevirtual 221, 3) := dk_182 0 221 (dk_at dksX2_copies_1 17 rfl rfl)
theorem dX2_copies_44 : decode cX2_copies 44 = .ok (.istore 4, 2) := dk_54 4 (dk_at dksX2_copies_1 20 rfl rfl)
theorem dX2_copies_46 : decode cX2_copies 46 = .ok (.aload_n 0, 1) := dk_42 (dk_at dksX2_copies_1 22 rfl rfl)
theorem dX2_copies_47 : decode cX2_copies 47 = .ok (.getfield 25, 3) := dk_180 0 25 (dk_at dksX2_copies_2 0 rfl rfl)
theorem dX2_copies_50 : decode cX2_copies 50 = .ok (.iconst 3, 1) := dk_6 (dk_at dksX2_copies_2 3 rfl rfl)
theorem dX2_copies_51 : decode cX2_copies 51 = .ok (.iload_n 1, 1) := dk_27 (dk_at dksX2_copies_2 4 rfl rfl)
theorem dX2_copies_52 : decode cX2_copies 52 = .ok (.invokevirtual 214, 3) := dk_182 0 214 (dk_at dksX2_copies_2 5 rfl rfl)
theorem dX2_copies_55 : decode cX2_copies 55 = .ok (.ineg, 1) := dk_116 (dk_at dksX2_copies_2 8 rfl rfl)
theorem dX2_copies_56 : decode cX2_copies 56 = .ok (.ireturn, 1) := dk_172 (dk_at dksX2_copies_2 9 rfl rfl)
abbrev cX2_shifts : ByteArray := prog_2_method_33_code
def yX2_shifts : MethodName := ⟨RX2, "shifts", "(II)I"⟩
def dkwX2_shifts_2 : List UInt8 := [180, 0, 25, 6, 27, 182, 0, 214, 116, 172]
abbrev dktX2_shifts_2 : List UInt8 := dkwX2_shifts_2 ++ []
def dkwX2_shifts_1 : List UInt8 := [4, 184, 0, 180, 42, 182, 0, 208, 78, 45, 27, 28, 182, 0, 234, 42, 45, 182, 0, 221, 54, 4, 42]
abbrev dktX2_shifts_1 : List UInt8 := dkwX2_shifts_1 ++ dktX2_shifts_2
def dkwX2_shifts_0 : List UInt8 := [27, 184, 0, 211, 153, 0, 19, 28, 133, 10, 20, 0, 203, 184, 0, 62, 153, 0, 7, 4, 167, 0, 4, 3]
abbrev dktX2_shifts_0 : List UInt8 := dkwX2_shifts_0 ++ dktX2_shifts_1
theorem dksX2_shifts_0 : cX2_shifts.data.toList.drop 0 = dktX2_shifts_0 := by decide +kernel
theorem dksX2_shifts_1 : cX2_shifts.data.toList.drop 24 = dktX2_shifts_1 := dk_seg dksX2_shifts_0 24 rfl rfl
theorem dksX2_shifts_2 : cX2_shifts.data.toList.drop 47 = dktX2_shifts_2 := dk_seg dksX2_shifts_1 23 rfl rfl
theorem dX2_shifts_0 : decode cX2_shifts 0 = .ok (.iload_n 1, 1) := dk_27 (dk_at dksX2_shifts_0 0 rfl rfl)
theorem dX2_shifts_1 : decode cX2_shifts 1 = .ok (.invokestatic 211, 3) := dk_184 0 211 (dk_at dksX2_shifts_0 1 rfl rfl)
theorem dX2_shifts_4 : decode cX2_shifts 4 = .ok (.ifCond .eq 19, 3) := dk_153 0 19 (dk_at dksX2_shifts_0 4 rfl rfl)
theorem dX2_shifts_7 : decode cX2_shifts 7 = .ok (.iload_n 2, 1) := dk_28 (dk_at dksX2_shifts_0 7 rfl rfl)
theorem dX2_shifts_8 : decode cX2_shifts 8 = .ok (.i2l, 1) := dk_133 (dk_at dksX2_shifts_0 8 rfl rfl)
theorem dX2_shifts_9 : decode cX2_shifts 9 = .ok (.lconst 1, 1) := dk_10 (dk_at dksX2_shifts_0 9 rfl rfl)
theorem dX2_shifts_10 : decode cX2_shifts 10 = .ok (.ldc2_w 203, 3) := dk_20 0 203 (dk_at dksX2_shifts_0 10 rfl rfl)
theorem dX2_shifts_13 : decode cX2_shifts 13 = .ok (.invokestatic 62, 3) := dk_184 0 62 (dk_at dksX2_shifts_0 13 rfl rfl)
theorem dX2_shifts_16 : decode cX2_shifts 16 = .ok (.ifCond .eq 7, 3) := dk_153 0 7 (dk_at dksX2_shifts_0 16 rfl rfl)
theorem dX2_shifts_19 : decode cX2_shifts 19 = .ok (.iconst 1, 1) := dk_4 (dk_at dksX2_shifts_0 19 rfl rfl)
theorem dX2_shifts_20 : decode cX2_shifts 20 = .ok (.goto 4, 3) := dk_167 0 4 (dk_at dksX2_shifts_0 20 rfl rfl)
theorem dX2_shifts_23 : decode cX2_shifts 23 = .ok (.iconst 0, 1) := dk_3 (dk_at dksX2_shifts_0 23 rfl rfl)
theorem dX2_shifts_24 : decode cX2_shifts 24 = .ok (.iconst 1, 1) := dk_4 (dk_at dksX2_shifts_1 0 rfl rfl)
theorem dX2_shifts_25 : decode cX2_shifts 25 = .ok (.invokestatic 180, 3) := dk_184 0 180 (dk_at dksX2_shifts_1 1 rfl rfl)
theorem dX2_shifts_28 : decode cX2_shifts 28 = .ok (.aload_n 0, 1) := dk_42 (dk_at dksX2_shifts_1 4 rfl rfl)
theorem dX2_shifts_29 : decode cX2_shifts 29 = .ok (.invokevirtual 208, 3) := dk_182 0 208 (dk_at dksX2_shifts_1 5 rfl rfl)
theorem dX2_shifts_32 : decode cX2_shifts 32 = .ok (.astore_n 3, 1) := dk_78 (dk_at dksX2_shifts_1 8 rfl rfl)
theorem dX2_shifts_33 : decode cX2_shifts 33 = .ok (.aload_n 3, 1) := dk_45 (dk_at dksX2_shifts_1 9 rfl rfl)
theorem dX2_shifts_34 : decode cX2_shifts 34 = .ok (.iload_n 1, 1) := dk_27 (dk_at dksX2_shifts_1 10 rfl rfl)
theorem dX2_shifts_35 : decode cX2_shifts 35 = .ok (.iload_n 2, 1) := dk_28 (dk_at dksX2_shifts_1 11 rfl rfl)
theorem dX2_shifts_36 : decode cX2_shifts 36 = .ok (.invokevirtual 234, 3) := dk_182 0 234 (dk_at dksX2_shifts_1 12 rfl rfl)
theorem dX2_shifts_39 : decode cX2_shifts 39 = .ok (.aload_n 0, 1) := dk_42 (dk_at dksX2_shifts_1 15 rfl rfl)
theorem dX2_shifts_40 : decode cX2_shifts 40 = .ok (.aload_n 3, 1) := dk_45 (dk_at dksX2_shifts_1 16 rfl rfl)
theorem dX2_shifts_41 : decode cX2_shifts 41 = .ok (.invokevirtual 221, 3) := dk_182 0 221 (dk_at dksX2_shifts_1 17 rfl rfl)
theorem dX2_shifts_44 : decode cX2_shifts 44 = .ok (.istore 4, 2) := dk_54 4 (dk_at dksX2_shifts_1 20 rfl rfl)
theorem dX2_shifts_46 : decode cX2_shifts 46 = .ok (.aload_n 0, 1) := dk_42 (dk_at dksX2_shifts_1 22 rfl rfl)
theorem dX2_shifts_47 : decode cX2_shifts 47 = .ok (.getfield 25, 3) := dk_180 0 25 (dk_at dksX2_shifts_2 0 rfl rfl)
theorem dX2_shifts_50 : decode cX2_shifts 50 = .ok (.iconst 3, 1) := dk_6 (dk_at dksX2_shifts_2 3 rfl rfl)
theorem dX2_shifts_51 : decode cX2_shifts 51 = .ok (.iload_n 1, 1) := dk_27 (dk_at dksX2_shifts_2 4 rfl rfl)
theorem dX2_shifts_52 : decode cX2_shifts 52 = .ok (.invokevirtual 214, 3) := dk_182 0 214 (dk_at dksX2_shifts_2 5 rfl rfl)
theorem dX2_shifts_55 : decode cX2_shifts 55 = .ok (.ineg, 1) := dk_116 (dk_at dksX2_shifts_2 8 rfl rfl)
theorem dX2_shifts_56 : decode cX2_shifts 56 = .ok (.ireturn, 1) := dk_172 (dk_at dksX2_shifts_2 9 rfl rfl)
abbrev cX2_puts : ByteArray := prog_2_method_34_code
def yX2_puts : MethodName := ⟨RX2, "puts", "(I)I"⟩
def dkwX2_puts_1 : List UInt8 := [180, 0, 20, 27, 187, 0, 18, 89, 42, 180, 0, 25, 183, 0, 55, 83, 28, 172]
abbrev dktX2_puts_1 : List UInt8 := dkwX2_puts_1 ++ []
def dkwX2_puts_0 : List UInt8 := [27, 184, 0, 237, 4, 184, 0, 180, 42, 180, 0, 20, 27, 50, 199, 0, 7, 3, 167, 0, 4, 4, 61, 42]
abbrev dktX2_puts_0 : List UInt8 := dkwX2_puts_0 ++ dktX2_puts_1
theorem dksX2_puts_0 : cX2_puts.data.toList.drop 0 = dktX2_puts_0 := by decide +kernel
theorem dksX2_puts_1 : cX2_puts.data.toList.drop 24 = dktX2_puts_1 := dk_seg dksX2_puts_0 24 rfl rfl
theorem dX2_puts_0 : decode cX2_puts 0 = .ok (.iload_n 1, 1) := dk_27 (dk_at dksX2_puts_0 0 rfl rfl)
theorem dX2_puts_1 : decode cX2_puts 1 = .ok (.invokestatic 237, 3) := dk_184 0 237 (dk_at dksX2_puts_0 1 rfl rfl)
theorem dX2_puts_4 : decode cX2_puts 4 = .ok (.iconst 1, 1) := dk_4 (dk_at dksX2_puts_0 4 rfl rfl)
theorem dX2_puts_5 : decode cX2_puts 5 = .ok (.invokestatic 180, 3) := dk_184 0 180 (dk_at dksX2_puts_0 5 rfl rfl)
theorem dX2_puts_8 : decode cX2_puts 8 = .ok (.aload_n 0, 1) := dk_42 (dk_at dksX2_puts_0 8 rfl rfl)
theorem dX2_puts_9 : decode cX2_puts 9 = .ok (.getfield 20, 3) := dk_180 0 20 (dk_at dksX2_puts_0 9 rfl rfl)
theorem dX2_puts_12 : decode cX2_puts 12 = .ok (.iload_n 1, 1) := dk_27 (dk_at dksX2_puts_0 12 rfl rfl)
theorem dX2_puts_13 : decode cX2_puts 13 = .ok (.aaload, 1) := dk_50 (dk_at dksX2_puts_0 13 rfl rfl)
theorem dX2_puts_14 : decode cX2_puts 14 = .ok (.ifnonnull 7, 3) := dk_199 0 7 (dk_at dksX2_puts_0 14 rfl rfl)
theorem dX2_puts_17 : decode cX2_puts 17 = .ok (.iconst 0, 1) := dk_3 (dk_at dksX2_puts_0 17 rfl rfl)
theorem dX2_puts_18 : decode cX2_puts 18 = .ok (.goto 4, 3) := dk_167 0 4 (dk_at dksX2_puts_0 18 rfl rfl)
theorem dX2_puts_21 : decode cX2_puts 21 = .ok (.iconst 1, 1) := dk_4 (dk_at dksX2_puts_0 21 rfl rfl)
theorem dX2_puts_22 : decode cX2_puts 22 = .ok (.istore_n 2, 1) := dk_61 (dk_at dksX2_puts_0 22 rfl rfl)
theorem dX2_puts_23 : decode cX2_puts 23 = .ok (.aload_n 0, 1) := dk_42 (dk_at dksX2_puts_0 23 rfl rfl)
theorem dX2_puts_24 : decode cX2_puts 24 = .ok (.getfield 20, 3) := dk_180 0 20 (dk_at dksX2_puts_1 0 rfl rfl)
theorem dX2_puts_27 : decode cX2_puts 27 = .ok (.iload_n 1, 1) := dk_27 (dk_at dksX2_puts_1 3 rfl rfl)
theorem dX2_puts_28 : decode cX2_puts 28 = .ok (.new 18, 3) := dk_187 0 18 (dk_at dksX2_puts_1 4 rfl rfl)
theorem dX2_puts_31 : decode cX2_puts 31 = .ok (.dup, 1) := dk_89 (dk_at dksX2_puts_1 7 rfl rfl)
theorem dX2_puts_32 : decode cX2_puts 32 = .ok (.aload_n 0, 1) := dk_42 (dk_at dksX2_puts_1 8 rfl rfl)
theorem dX2_puts_33 : decode cX2_puts 33 = .ok (.getfield 25, 3) := dk_180 0 25 (dk_at dksX2_puts_1 9 rfl rfl)
theorem dX2_puts_36 : decode cX2_puts 36 = .ok (.invokespecial 55, 3) := dk_183 0 55 (dk_at dksX2_puts_1 12 rfl rfl)
theorem dX2_puts_39 : decode cX2_puts 39 = .ok (.aastore, 1) := dk_83 (dk_at dksX2_puts_1 15 rfl rfl)
theorem dX2_puts_40 : decode cX2_puts 40 = .ok (.iload_n 2, 1) := dk_28 (dk_at dksX2_puts_1 16 rfl rfl)
theorem dX2_puts_41 : decode cX2_puts 41 = .ok (.ireturn, 1) := dk_172 (dk_at dksX2_puts_1 17 rfl rfl)
abbrev cX2_meets : ByteArray := prog_2_method_36_code
def yX2_meets : MethodName := ⟨RX2, "meets", "(I)I"⟩
def dkwX2_meets_2 : List UInt8 := [46, 184, 0, 139, 79, 132, 4, 1, 167, 255, 222, 42, 45, 182, 0, 194, 172]
abbrev dktX2_meets_2 : List UInt8 := dkwX2_meets_2 ++ []
def dkwX2_meets_1 : List UInt8 := [16, 16, 162, 0, 33, 45, 180, 0, 244, 21, 4, 45, 180, 0, 244, 21, 4, 46, 44, 180, 0, 244, 21, 4]
abbrev dktX2_meets_1 : List UInt8 := dkwX2_meets_1 ++ dktX2_meets_2
def dkwX2_meets_0 : List UInt8 := [42, 27, 182, 0, 240, 77, 187, 0, 18, 89, 42, 180, 0, 25, 183, 0, 55, 78, 3, 54, 4, 21, 4]
abbrev dktX2_meets_0 : List UInt8 := dkwX2_meets_0 ++ dktX2_meets_1
theorem dksX2_meets_0 : cX2_meets.data.toList.drop 0 = dktX2_meets_0 := by decide +kernel
theorem dksX2_meets_1 : cX2_meets.data.toList.drop 23 = dktX2_meets_1 := dk_seg dksX2_meets_0 23 rfl rfl
theorem dksX2_meets_2 : cX2_meets.data.toList.drop 47 = dktX2_meets_2 := dk_seg dksX2_meets_1 24 rfl rfl
theorem dX2_meets_0 : decode cX2_meets 0 = .ok (.aload_n 0, 1) := dk_42 (dk_at dksX2_meets_0 0 rfl rfl)
theorem dX2_meets_1 : decode cX2_meets 1 = .ok (.iload_n 1, 1) := dk_27 (dk_at dksX2_meets_0 1 rfl rfl)
theorem dX2_meets_2 : decode cX2_meets 2 = .ok (.invokevirtual 240, 3) := dk_182 0 240 (dk_at dksX2_meets_0 2 rfl rfl)
theorem dX2_meets_5 : decode cX2_meets 5 = .ok (.astore_n 2, 1) := dk_77 (dk_at dksX2_meets_0 5 rfl rfl)
theorem dX2_meets_6 : decode cX2_meets 6 = .ok (.new 18, 3) := dk_187 0 18 (dk_at dksX2_meets_0 6 rfl rfl)
theorem dX2_meets_9 : decode cX2_meets 9 = .ok (.dup, 1) := dk_89 (dk_at dksX2_meets_0 9 rfl rfl)
theorem dX2_meets_10 : decode cX2_meets 10 = .ok (.aload_n 0, 1) := dk_42 (dk_at dksX2_meets_0 10 rfl rfl)
theorem dX2_meets_11 : decode cX2_meets 11 = .ok (.getfield 25, 3) := dk_180 0 25 (dk_at dksX2_meets_0 11 rfl rfl)
theorem dX2_meets_14 : decode cX2_meets 14 = .ok (.invokespecial 55, 3) := dk_183 0 55 (dk_at dksX2_meets_0 14 rfl rfl)
theorem dX2_meets_17 : decode cX2_meets 17 = .ok (.astore_n 3, 1) := dk_78 (dk_at dksX2_meets_0 17 rfl rfl)
theorem dX2_meets_18 : decode cX2_meets 18 = .ok (.iconst 0, 1) := dk_3 (dk_at dksX2_meets_0 18 rfl rfl)
theorem dX2_meets_19 : decode cX2_meets 19 = .ok (.istore 4, 2) := dk_54 4 (dk_at dksX2_meets_0 19 rfl rfl)
theorem dX2_meets_21 : decode cX2_meets 21 = .ok (.iload 4, 2) := dk_21 4 (dk_at dksX2_meets_0 21 rfl rfl)
theorem dX2_meets_23 : decode cX2_meets 23 = .ok (.bipush 16, 2) := dk_16 16 (dk_at dksX2_meets_1 0 rfl rfl)
theorem dX2_meets_25 : decode cX2_meets 25 = .ok (.if_icmp .ge 33, 3) := dk_162 0 33 (dk_at dksX2_meets_1 2 rfl rfl)
theorem dX2_meets_28 : decode cX2_meets 28 = .ok (.aload_n 3, 1) := dk_45 (dk_at dksX2_meets_1 5 rfl rfl)
theorem dX2_meets_29 : decode cX2_meets 29 = .ok (.getfield 244, 3) := dk_180 0 244 (dk_at dksX2_meets_1 6 rfl rfl)
theorem dX2_meets_32 : decode cX2_meets 32 = .ok (.iload 4, 2) := dk_21 4 (dk_at dksX2_meets_1 9 rfl rfl)
theorem dX2_meets_34 : decode cX2_meets 34 = .ok (.aload_n 3, 1) := dk_45 (dk_at dksX2_meets_1 11 rfl rfl)
theorem dX2_meets_35 : decode cX2_meets 35 = .ok (.getfield 244, 3) := dk_180 0 244 (dk_at dksX2_meets_1 12 rfl rfl)
theorem dX2_meets_38 : decode cX2_meets 38 = .ok (.iload 4, 2) := dk_21 4 (dk_at dksX2_meets_1 15 rfl rfl)
theorem dX2_meets_40 : decode cX2_meets 40 = .ok (.iaload, 1) := dk_46 (dk_at dksX2_meets_1 17 rfl rfl)
theorem dX2_meets_41 : decode cX2_meets 41 = .ok (.aload_n 2, 1) := dk_44 (dk_at dksX2_meets_1 18 rfl rfl)
theorem dX2_meets_42 : decode cX2_meets 42 = .ok (.getfield 244, 3) := dk_180 0 244 (dk_at dksX2_meets_1 19 rfl rfl)
theorem dX2_meets_45 : decode cX2_meets 45 = .ok (.iload 4, 2) := dk_21 4 (dk_at dksX2_meets_1 22 rfl rfl)
theorem dX2_meets_47 : decode cX2_meets 47 = .ok (.iaload, 1) := dk_46 (dk_at dksX2_meets_2 0 rfl rfl)
theorem dX2_meets_48 : decode cX2_meets 48 = .ok (.invokestatic 139, 3) := dk_184 0 139 (dk_at dksX2_meets_2 1 rfl rfl)
theorem dX2_meets_51 : decode cX2_meets 51 = .ok (.iastore, 1) := dk_79 (dk_at dksX2_meets_2 4 rfl rfl)
theorem dX2_meets_52 : decode cX2_meets 52 = .ok (.iinc 4 1, 3) := dk_132 4 1 (dk_at dksX2_meets_2 5 rfl rfl)
theorem dX2_meets_55 : decode cX2_meets 55 = .ok (.goto (-34), 3) := dk_167 255 222 (dk_at dksX2_meets_2 8 rfl rfl)
theorem dX2_meets_58 : decode cX2_meets 58 = .ok (.aload_n 0, 1) := dk_42 (dk_at dksX2_meets_2 11 rfl rfl)
theorem dX2_meets_59 : decode cX2_meets 59 = .ok (.aload_n 3, 1) := dk_45 (dk_at dksX2_meets_2 12 rfl rfl)
theorem dX2_meets_60 : decode cX2_meets 60 = .ok (.invokevirtual 194, 3) := dk_182 0 194 (dk_at dksX2_meets_2 13 rfl rfl)
theorem dX2_meets_63 : decode cX2_meets 63 = .ok (.ireturn, 1) := dk_172 (dk_at dksX2_meets_2 16 rfl rfl)
abbrev cX2_onShelf : ByteArray := prog_2_method_35_code
def yX2_onShelf : MethodName := ⟨RX2, "onShelf", "(I)LFerryClocks$Zone;"⟩
def dkwX2_onShelf_1 : List UInt8 := [184, 0, 180, 42, 180, 0, 20, 27, 50, 176]
abbrev dktX2_onShelf_1 : List UInt8 := dkwX2_onShelf_1 ++ []
def dkwX2_onShelf_0 : List UInt8 := [27, 184, 0, 237, 4, 184, 0, 180, 42, 180, 0, 20, 27, 50, 198, 0, 7, 4, 167, 0, 4, 3, 5]
abbrev dktX2_onShelf_0 : List UInt8 := dkwX2_onShelf_0 ++ dktX2_onShelf_1
theorem dksX2_onShelf_0 : cX2_onShelf.data.toList.drop 0 = dktX2_onShelf_0 := by decide +kernel
theorem dksX2_onShelf_1 : cX2_onShelf.data.toList.drop 23 = dktX2_onShelf_1 := dk_seg dksX2_onShelf_0 23 rfl rfl
theorem dX2_onShelf_0 : decode cX2_onShelf 0 = .ok (.iload_n 1, 1) := dk_27 (dk_at dksX2_onShelf_0 0 rfl rfl)
theorem dX2_onShelf_1 : decode cX2_onShelf 1 = .ok (.invokestatic 237, 3) := dk_184 0 237 (dk_at dksX2_onShelf_0 1 rfl rfl)
theorem dX2_onShelf_4 : decode cX2_onShelf 4 = .ok (.iconst 1, 1) := dk_4 (dk_at dksX2_onShelf_0 4 rfl rfl)
theorem dX2_onShelf_5 : decode cX2_onShelf 5 = .ok (.invokestatic 180, 3) := dk_184 0 180 (dk_at dksX2_onShelf_0 5 rfl rfl)
theorem dX2_onShelf_8 : decode cX2_onShelf 8 = .ok (.aload_n 0, 1) := dk_42 (dk_at dksX2_onShelf_0 8 rfl rfl)
theorem dX2_onShelf_9 : decode cX2_onShelf 9 = .ok (.getfield 20, 3) := dk_180 0 20 (dk_at dksX2_onShelf_0 9 rfl rfl)
theorem dX2_onShelf_12 : decode cX2_onShelf 12 = .ok (.iload_n 1, 1) := dk_27 (dk_at dksX2_onShelf_0 12 rfl rfl)
theorem dX2_onShelf_13 : decode cX2_onShelf 13 = .ok (.aaload, 1) := dk_50 (dk_at dksX2_onShelf_0 13 rfl rfl)
theorem dX2_onShelf_14 : decode cX2_onShelf 14 = .ok (.ifnull 7, 3) := dk_198 0 7 (dk_at dksX2_onShelf_0 14 rfl rfl)
theorem dX2_onShelf_17 : decode cX2_onShelf 17 = .ok (.iconst 1, 1) := dk_4 (dk_at dksX2_onShelf_0 17 rfl rfl)
theorem dX2_onShelf_18 : decode cX2_onShelf 18 = .ok (.goto 4, 3) := dk_167 0 4 (dk_at dksX2_onShelf_0 18 rfl rfl)
theorem dX2_onShelf_21 : decode cX2_onShelf 21 = .ok (.iconst 0, 1) := dk_3 (dk_at dksX2_onShelf_0 21 rfl rfl)
theorem dX2_onShelf_22 : decode cX2_onShelf 22 = .ok (.iconst 2, 1) := dk_5 (dk_at dksX2_onShelf_0 22 rfl rfl)
theorem dX2_onShelf_23 : decode cX2_onShelf 23 = .ok (.invokestatic 180, 3) := dk_184 0 180 (dk_at dksX2_onShelf_1 0 rfl rfl)
theorem dX2_onShelf_26 : decode cX2_onShelf 26 = .ok (.aload_n 0, 1) := dk_42 (dk_at dksX2_onShelf_1 3 rfl rfl)
theorem dX2_onShelf_27 : decode cX2_onShelf 27 = .ok (.getfield 20, 3) := dk_180 0 20 (dk_at dksX2_onShelf_1 4 rfl rfl)
theorem dX2_onShelf_30 : decode cX2_onShelf 30 = .ok (.iload_n 1, 1) := dk_27 (dk_at dksX2_onShelf_1 7 rfl rfl)
theorem dX2_onShelf_31 : decode cX2_onShelf 31 = .ok (.aaload, 1) := dk_50 (dk_at dksX2_onShelf_1 8 rfl rfl)
theorem dX2_onShelf_32 : decode cX2_onShelf 32 = .ok (.areturn, 1) := dk_176 (dk_at dksX2_onShelf_1 9 rfl rfl)
abbrev cX2_wraps : ByteArray := prog_2_method_37_code
def yX2_wraps : MethodName := ⟨RX2, "wraps", "(I)I"⟩
def dkwX2_wraps_3 : List UInt8 := [42, 45, 182, 0, 194, 172]
abbrev dktX2_wraps_3 : List UInt8 := dkwX2_wraps_3 ++ []
def dkwX2_wraps_2 : List UInt8 := [45, 180, 0, 244, 21, 4, 46, 44, 180, 0, 244, 21, 4, 46, 184, 0, 247, 79, 132, 4, 1, 167, 255, 222]
abbrev dktX2_wraps_2 : List UInt8 := dkwX2_wraps_2 ++ dktX2_wraps_3
def dkwX2_wraps_1 : List UInt8 := [167, 0, 4, 3, 5, 184, 0, 180, 3, 54, 4, 21, 4, 16, 16, 162, 0, 33, 45, 180, 0, 244, 21, 4]
abbrev dktX2_wraps_1 : List UInt8 := dkwX2_wraps_1 ++ dktX2_wraps_2
def dkwX2_wraps_0 : List UInt8 := [42, 27, 182, 0, 240, 182, 0, 177, 77, 42, 182, 0, 208, 78, 44, 182, 0, 81, 154, 0, 7, 4]
abbrev dktX2_wraps_0 : List UInt8 := dkwX2_wraps_0 ++ dktX2_wraps_1
theorem dksX2_wraps_0 : cX2_wraps.data.toList.drop 0 = dktX2_wraps_0 := by decide +kernel
theorem dksX2_wraps_1 : cX2_wraps.data.toList.drop 22 = dktX2_wraps_1 := dk_seg dksX2_wraps_0 22 rfl rfl
theorem dksX2_wraps_2 : cX2_wraps.data.toList.drop 46 = dktX2_wraps_2 := dk_seg dksX2_wraps_1 24 rfl rfl
theorem dksX2_wraps_3 : cX2_wraps.data.toList.drop 70 = dktX2_wraps_3 := dk_seg dksX2_wraps_2 24 rfl rfl
theorem dX2_wraps_0 : decode cX2_wraps 0 = .ok (.aload_n 0, 1) := dk_42 (dk_at dksX2_wraps_0 0 rfl rfl)
theorem dX2_wraps_1 : decode cX2_wraps 1 = .ok (.iload_n 1, 1) := dk_27 (dk_at dksX2_wraps_0 1 rfl rfl)
theorem dX2_wraps_2 : decode cX2_wraps 2 = .ok (.invokevirtual 240, 3) := dk_182 0 240 (dk_at dksX2_wraps_0 2 rfl rfl)
theorem dX2_wraps_5 : decode cX2_wraps 5 = .ok (.invokevirtual 177, 3) := dk_182 0 177 (dk_at dksX2_wraps_0 5 rfl rfl)
theorem dX2_wraps_8 : decode cX2_wraps 8 = .ok (.astore_n 2, 1) := dk_77 (dk_at dksX2_wraps_0 8 rfl rfl)
theorem dX2_wraps_9 : decode cX2_wraps 9 = .ok (.aload_n 0, 1) := dk_42 (dk_at dksX2_wraps_0 9 rfl rfl)
theorem dX2_wraps_10 : decode cX2_wraps 10 = .ok (.invokevirtual 208, 3) := dk_182 0 208 (dk_at dksX2_wraps_0 10 rfl rfl)
theorem dX2_wraps_13 : decode cX2_wraps 13 = .ok (.astore_n 3, 1) := dk_78 (dk_at dksX2_wraps_0 13 rfl rfl)
theorem dX2_wraps_14 : decode cX2_wraps 14 = .ok (.aload_n 2, 1) := dk_44 (dk_at dksX2_wraps_0 14 rfl rfl)
theorem dX2_wraps_15 : decode cX2_wraps 15 = .ok (.invokevirtual 81, 3) := dk_182 0 81 (dk_at dksX2_wraps_0 15 rfl rfl)
theorem dX2_wraps_18 : decode cX2_wraps 18 = .ok (.ifCond .ne 7, 3) := dk_154 0 7 (dk_at dksX2_wraps_0 18 rfl rfl)
theorem dX2_wraps_21 : decode cX2_wraps 21 = .ok (.iconst 1, 1) := dk_4 (dk_at dksX2_wraps_0 21 rfl rfl)
theorem dX2_wraps_22 : decode cX2_wraps 22 = .ok (.goto 4, 3) := dk_167 0 4 (dk_at dksX2_wraps_1 0 rfl rfl)
theorem dX2_wraps_25 : decode cX2_wraps 25 = .ok (.iconst 0, 1) := dk_3 (dk_at dksX2_wraps_1 3 rfl rfl)
theorem dX2_wraps_26 : decode cX2_wraps 26 = .ok (.iconst 2, 1) := dk_5 (dk_at dksX2_wraps_1 4 rfl rfl)
theorem dX2_wraps_27 : decode cX2_wraps 27 = .ok (.invokestatic 180, 3) := dk_184 0 180 (dk_at dksX2_wraps_1 5 rfl rfl)
theorem dX2_wraps_30 : decode cX2_wraps 30 = .ok (.iconst 0, 1) := dk_3 (dk_at dksX2_wraps_1 8 rfl rfl)
theorem dX2_wraps_31 : decode cX2_wraps 31 = .ok (.istore 4, 2) := dk_54 4 (dk_at dksX2_wraps_1 9 rfl rfl)
theorem dX2_wraps_33 : decode cX2_wraps 33 = .ok (.iload 4, 2) := dk_21 4 (dk_at dksX2_wraps_1 11 rfl rfl)
theorem dX2_wraps_35 : decode cX2_wraps 35 = .ok (.bipush 16, 2) := dk_16 16 (dk_at dksX2_wraps_1 13 rfl rfl)
theorem dX2_wraps_37 : decode cX2_wraps 37 = .ok (.if_icmp .ge 33, 3) := dk_162 0 33 (dk_at dksX2_wraps_1 15 rfl rfl)
theorem dX2_wraps_40 : decode cX2_wraps 40 = .ok (.aload_n 3, 1) := dk_45 (dk_at dksX2_wraps_1 18 rfl rfl)
theorem dX2_wraps_41 : decode cX2_wraps 41 = .ok (.getfield 244, 3) := dk_180 0 244 (dk_at dksX2_wraps_1 19 rfl rfl)
theorem dX2_wraps_44 : decode cX2_wraps 44 = .ok (.iload 4, 2) := dk_21 4 (dk_at dksX2_wraps_1 22 rfl rfl)
theorem dX2_wraps_46 : decode cX2_wraps 46 = .ok (.aload_n 3, 1) := dk_45 (dk_at dksX2_wraps_2 0 rfl rfl)
theorem dX2_wraps_47 : decode cX2_wraps 47 = .ok (.getfield 244, 3) := dk_180 0 244 (dk_at dksX2_wraps_2 1 rfl rfl)
theorem dX2_wraps_50 : decode cX2_wraps 50 = .ok (.iload 4, 2) := dk_21 4 (dk_at dksX2_wraps_2 4 rfl rfl)
theorem dX2_wraps_52 : decode cX2_wraps 52 = .ok (.iaload, 1) := dk_46 (dk_at dksX2_wraps_2 6 rfl rfl)
theorem dX2_wraps_53 : decode cX2_wraps 53 = .ok (.aload_n 2, 1) := dk_44 (dk_at dksX2_wraps_2 7 rfl rfl)
theorem dX2_wraps_54 : decode cX2_wraps 54 = .ok (.getfield 244, 3) := dk_180 0 244 (dk_at dksX2_wraps_2 8 rfl rfl)
theorem dX2_wraps_57 : decode cX2_wraps 57 = .ok (.iload 4, 2) := dk_21 4 (dk_at dksX2_wraps_2 11 rfl rfl)
theorem dX2_wraps_59 : decode cX2_wraps 59 = .ok (.iaload, 1) := dk_46 (dk_at dksX2_wraps_2 13 rfl rfl)
theorem dX2_wraps_60 : decode cX2_wraps 60 = .ok (.invokestatic 247, 3) := dk_184 0 247 (dk_at dksX2_wraps_2 14 rfl rfl)
theorem dX2_wraps_63 : decode cX2_wraps 63 = .ok (.iastore, 1) := dk_79 (dk_at dksX2_wraps_2 17 rfl rfl)
theorem dX2_wraps_64 : decode cX2_wraps 64 = .ok (.iinc 4 1, 3) := dk_132 4 1 (dk_at dksX2_wraps_2 18 rfl rfl)
theorem dX2_wraps_67 : decode cX2_wraps 67 = .ok (.goto (-34), 3) := dk_167 255 222 (dk_at dksX2_wraps_2 21 rfl rfl)
theorem dX2_wraps_70 : decode cX2_wraps 70 = .ok (.aload_n 0, 1) := dk_42 (dk_at dksX2_wraps_3 0 rfl rfl)
theorem dX2_wraps_71 : decode cX2_wraps 71 = .ok (.aload_n 3, 1) := dk_45 (dk_at dksX2_wraps_3 1 rfl rfl)
theorem dX2_wraps_72 : decode cX2_wraps 72 = .ok (.invokevirtual 194, 3) := dk_182 0 194 (dk_at dksX2_wraps_3 2 rfl rfl)
theorem dX2_wraps_75 : decode cX2_wraps 75 = .ok (.ireturn, 1) := dk_172 (dk_at dksX2_wraps_3 5 rfl rfl)
abbrev cX2_allows : ByteArray := prog_2_method_38_code
def yX2_allows : MethodName := ⟨RX2, "allows", "(III)I"⟩
def dkwX2_allows_2 : List UInt8 := [6, 27, 104, 28, 96, 29, 79, 21, 4, 172]
abbrev dktX2_allows_2 : List UInt8 := dkwX2_allows_2 ++ []
def dkwX2_allows_1 : List UInt8 := [153, 0, 7, 4, 167, 0, 4, 3, 4, 184, 0, 180, 42, 27, 28, 182, 0, 66, 54, 4, 42, 180, 0, 29]
abbrev dktX2_allows_1 : List UInt8 := dkwX2_allows_1 ++ dktX2_allows_2
def dkwX2_allows_0 : List UInt8 := [27, 184, 0, 250, 153, 0, 26, 28, 184, 0, 211, 153, 0, 19, 29, 133, 9, 20, 0, 253, 184, 0, 62]
abbrev dktX2_allows_0 : List UInt8 := dkwX2_allows_0 ++ dktX2_allows_1
theorem dksX2_allows_0 : cX2_allows.data.toList.drop 0 = dktX2_allows_0 := by decide +kernel
theorem dksX2_allows_1 : cX2_allows.data.toList.drop 23 = dktX2_allows_1 := dk_seg dksX2_allows_0 23 rfl rfl
theorem dksX2_allows_2 : cX2_allows.data.toList.drop 47 = dktX2_allows_2 := dk_seg dksX2_allows_1 24 rfl rfl
theorem dX2_allows_0 : decode cX2_allows 0 = .ok (.iload_n 1, 1) := dk_27 (dk_at dksX2_allows_0 0 rfl rfl)
theorem dX2_allows_1 : decode cX2_allows 1 = .ok (.invokestatic 250, 3) := dk_184 0 250 (dk_at dksX2_allows_0 1 rfl rfl)
theorem dX2_allows_4 : decode cX2_allows 4 = .ok (.ifCond .eq 26, 3) := dk_153 0 26 (dk_at dksX2_allows_0 4 rfl rfl)
theorem dX2_allows_7 : decode cX2_allows 7 = .ok (.iload_n 2, 1) := dk_28 (dk_at dksX2_allows_0 7 rfl rfl)
theorem dX2_allows_8 : decode cX2_allows 8 = .ok (.invokestatic 211, 3) := dk_184 0 211 (dk_at dksX2_allows_0 8 rfl rfl)
theorem dX2_allows_11 : decode cX2_allows 11 = .ok (.ifCond .eq 19, 3) := dk_153 0 19 (dk_at dksX2_allows_0 11 rfl rfl)
theorem dX2_allows_14 : decode cX2_allows 14 = .ok (.iload_n 3, 1) := dk_29 (dk_at dksX2_allows_0 14 rfl rfl)
theorem dX2_allows_15 : decode cX2_allows 15 = .ok (.i2l, 1) := dk_133 (dk_at dksX2_allows_0 15 rfl rfl)
theorem dX2_allows_16 : decode cX2_allows 16 = .ok (.lconst 0, 1) := dk_9 (dk_at dksX2_allows_0 16 rfl rfl)
theorem dX2_allows_17 : decode cX2_allows 17 = .ok (.ldc2_w 253, 3) := dk_20 0 253 (dk_at dksX2_allows_0 17 rfl rfl)
theorem dX2_allows_20 : decode cX2_allows 20 = .ok (.invokestatic 62, 3) := dk_184 0 62 (dk_at dksX2_allows_0 20 rfl rfl)
theorem dX2_allows_23 : decode cX2_allows 23 = .ok (.ifCond .eq 7, 3) := dk_153 0 7 (dk_at dksX2_allows_1 0 rfl rfl)
theorem dX2_allows_26 : decode cX2_allows 26 = .ok (.iconst 1, 1) := dk_4 (dk_at dksX2_allows_1 3 rfl rfl)
theorem dX2_allows_27 : decode cX2_allows 27 = .ok (.goto 4, 3) := dk_167 0 4 (dk_at dksX2_allows_1 4 rfl rfl)
theorem dX2_allows_30 : decode cX2_allows 30 = .ok (.iconst 0, 1) := dk_3 (dk_at dksX2_allows_1 7 rfl rfl)
theorem dX2_allows_31 : decode cX2_allows 31 = .ok (.iconst 1, 1) := dk_4 (dk_at dksX2_allows_1 8 rfl rfl)
theorem dX2_allows_32 : decode cX2_allows 32 = .ok (.invokestatic 180, 3) := dk_184 0 180 (dk_at dksX2_allows_1 9 rfl rfl)
theorem dX2_allows_35 : decode cX2_allows 35 = .ok (.aload_n 0, 1) := dk_42 (dk_at dksX2_allows_1 12 rfl rfl)
theorem dX2_allows_36 : decode cX2_allows 36 = .ok (.iload_n 1, 1) := dk_27 (dk_at dksX2_allows_1 13 rfl rfl)
theorem dX2_allows_37 : decode cX2_allows 37 = .ok (.iload_n 2, 1) := dk_28 (dk_at dksX2_allows_1 14 rfl rfl)
theorem dX2_allows_38 : decode cX2_allows 38 = .ok (.invokevirtual 66, 3) := dk_182 0 66 (dk_at dksX2_allows_1 15 rfl rfl)
theorem dX2_allows_41 : decode cX2_allows 41 = .ok (.istore 4, 2) := dk_54 4 (dk_at dksX2_allows_1 18 rfl rfl)
theorem dX2_allows_43 : decode cX2_allows 43 = .ok (.aload_n 0, 1) := dk_42 (dk_at dksX2_allows_1 20 rfl rfl)
theorem dX2_allows_44 : decode cX2_allows 44 = .ok (.getfield 29, 3) := dk_180 0 29 (dk_at dksX2_allows_1 21 rfl rfl)
theorem dX2_allows_47 : decode cX2_allows 47 = .ok (.iconst 3, 1) := dk_6 (dk_at dksX2_allows_2 0 rfl rfl)
theorem dX2_allows_48 : decode cX2_allows 48 = .ok (.iload_n 1, 1) := dk_27 (dk_at dksX2_allows_2 1 rfl rfl)
theorem dX2_allows_49 : decode cX2_allows 49 = .ok (.imul, 1) := dk_104 (dk_at dksX2_allows_2 2 rfl rfl)
theorem dX2_allows_50 : decode cX2_allows 50 = .ok (.iload_n 2, 1) := dk_28 (dk_at dksX2_allows_2 3 rfl rfl)
theorem dX2_allows_51 : decode cX2_allows 51 = .ok (.iadd, 1) := dk_96 (dk_at dksX2_allows_2 4 rfl rfl)
theorem dX2_allows_52 : decode cX2_allows 52 = .ok (.iload_n 3, 1) := dk_29 (dk_at dksX2_allows_2 5 rfl rfl)
theorem dX2_allows_53 : decode cX2_allows 53 = .ok (.iastore, 1) := dk_79 (dk_at dksX2_allows_2 6 rfl rfl)
theorem dX2_allows_54 : decode cX2_allows 54 = .ok (.iload 4, 2) := dk_21 4 (dk_at dksX2_allows_2 7 rfl rfl)
theorem dX2_allows_56 : decode cX2_allows 56 = .ok (.ireturn, 1) := dk_172 (dk_at dksX2_allows_2 9 rfl rfl)
abbrev cX2_stay : ByteArray := prog_2_method_4_code
def yX2_stay : MethodName := ⟨RX2, "stay", "(II)I"⟩
def dkwX2_stay_0 : List UInt8 := [42, 180, 0, 29, 6, 27, 104, 28, 96, 46, 172]
abbrev dktX2_stay_0 : List UInt8 := dkwX2_stay_0 ++ []
theorem dksX2_stay_0 : cX2_stay.data.toList.drop 0 = dktX2_stay_0 := by decide +kernel
theorem dX2_stay_0 : decode cX2_stay 0 = .ok (.aload_n 0, 1) := dk_42 (dk_at dksX2_stay_0 0 rfl rfl)
theorem dX2_stay_1 : decode cX2_stay 1 = .ok (.getfield 29, 3) := dk_180 0 29 (dk_at dksX2_stay_0 1 rfl rfl)
theorem dX2_stay_4 : decode cX2_stay 4 = .ok (.iconst 3, 1) := dk_6 (dk_at dksX2_stay_0 4 rfl rfl)
theorem dX2_stay_5 : decode cX2_stay 5 = .ok (.iload_n 1, 1) := dk_27 (dk_at dksX2_stay_0 5 rfl rfl)
theorem dX2_stay_6 : decode cX2_stay 6 = .ok (.imul, 1) := dk_104 (dk_at dksX2_stay_0 6 rfl rfl)
theorem dX2_stay_7 : decode cX2_stay 7 = .ok (.iload_n 2, 1) := dk_28 (dk_at dksX2_stay_0 7 rfl rfl)
theorem dX2_stay_8 : decode cX2_stay 8 = .ok (.iadd, 1) := dk_96 (dk_at dksX2_stay_0 8 rfl rfl)
theorem dX2_stay_9 : decode cX2_stay 9 = .ok (.iaload, 1) := dk_46 (dk_at dksX2_stay_0 9 rfl rfl)
theorem dX2_stay_10 : decode cX2_stay 10 = .ok (.ireturn, 1) := dk_172 (dk_at dksX2_stay_0 10 rfl rfl)
abbrev cX2_getsLine : ByteArray := prog_2_method_39_code
def yX2_getsLine : MethodName := ⟨RX2, "getsLine", "(II)I"⟩
def dkwX2_getsLine_2 : List UInt8 := [187, 0, 42, 89, 27, 28, 183, 0, 255, 182, 0, 51, 87, 42, 180, 0, 12, 182, 0, 38, 4, 100, 172]
abbrev dktX2_getsLine_2 : List UInt8 := dkwX2_getsLine_2 ++ []
def dkwX2_getsLine_1 : List UInt8 := [180, 0, 12, 182, 0, 38, 16, 10, 162, 0, 7, 4, 167, 0, 4, 3, 5, 184, 0, 180, 42, 180, 0, 12]
abbrev dktX2_getsLine_1 : List UInt8 := dkwX2_getsLine_1 ++ dktX2_getsLine_2
def dkwX2_getsLine_0 : List UInt8 := [27, 184, 0, 250, 153, 0, 14, 28, 184, 0, 250, 153, 0, 7, 4, 167, 0, 4, 3, 4, 184, 0, 180, 42]
abbrev dktX2_getsLine_0 : List UInt8 := dkwX2_getsLine_0 ++ dktX2_getsLine_1
theorem dksX2_getsLine_0 : cX2_getsLine.data.toList.drop 0 = dktX2_getsLine_0 := by decide +kernel
theorem dksX2_getsLine_1 : cX2_getsLine.data.toList.drop 24 = dktX2_getsLine_1 := dk_seg dksX2_getsLine_0 24 rfl rfl
theorem dksX2_getsLine_2 : cX2_getsLine.data.toList.drop 48 = dktX2_getsLine_2 := dk_seg dksX2_getsLine_1 24 rfl rfl
theorem dX2_getsLine_0 : decode cX2_getsLine 0 = .ok (.iload_n 1, 1) := dk_27 (dk_at dksX2_getsLine_0 0 rfl rfl)
theorem dX2_getsLine_1 : decode cX2_getsLine 1 = .ok (.invokestatic 250, 3) := dk_184 0 250 (dk_at dksX2_getsLine_0 1 rfl rfl)
theorem dX2_getsLine_4 : decode cX2_getsLine 4 = .ok (.ifCond .eq 14, 3) := dk_153 0 14 (dk_at dksX2_getsLine_0 4 rfl rfl)
theorem dX2_getsLine_7 : decode cX2_getsLine 7 = .ok (.iload_n 2, 1) := dk_28 (dk_at dksX2_getsLine_0 7 rfl rfl)
theorem dX2_getsLine_8 : decode cX2_getsLine 8 = .ok (.invokestatic 250, 3) := dk_184 0 250 (dk_at dksX2_getsLine_0 8 rfl rfl)
theorem dX2_getsLine_11 : decode cX2_getsLine 11 = .ok (.ifCond .eq 7, 3) := dk_153 0 7 (dk_at dksX2_getsLine_0 11 rfl rfl)
theorem dX2_getsLine_14 : decode cX2_getsLine 14 = .ok (.iconst 1, 1) := dk_4 (dk_at dksX2_getsLine_0 14 rfl rfl)
theorem dX2_getsLine_15 : decode cX2_getsLine 15 = .ok (.goto 4, 3) := dk_167 0 4 (dk_at dksX2_getsLine_0 15 rfl rfl)
theorem dX2_getsLine_18 : decode cX2_getsLine 18 = .ok (.iconst 0, 1) := dk_3 (dk_at dksX2_getsLine_0 18 rfl rfl)
theorem dX2_getsLine_19 : decode cX2_getsLine 19 = .ok (.iconst 1, 1) := dk_4 (dk_at dksX2_getsLine_0 19 rfl rfl)
theorem dX2_getsLine_20 : decode cX2_getsLine 20 = .ok (.invokestatic 180, 3) := dk_184 0 180 (dk_at dksX2_getsLine_0 20 rfl rfl)
theorem dX2_getsLine_23 : decode cX2_getsLine 23 = .ok (.aload_n 0, 1) := dk_42 (dk_at dksX2_getsLine_0 23 rfl rfl)
theorem dX2_getsLine_24 : decode cX2_getsLine 24 = .ok (.getfield 12, 3) := dk_180 0 12 (dk_at dksX2_getsLine_1 0 rfl rfl)
theorem dX2_getsLine_27 : decode cX2_getsLine 27 = .ok (.invokevirtual 38, 3) := dk_182 0 38 (dk_at dksX2_getsLine_1 3 rfl rfl)
theorem dX2_getsLine_30 : decode cX2_getsLine 30 = .ok (.bipush 10, 2) := dk_16 10 (dk_at dksX2_getsLine_1 6 rfl rfl)
theorem dX2_getsLine_32 : decode cX2_getsLine 32 = .ok (.if_icmp .ge 7, 3) := dk_162 0 7 (dk_at dksX2_getsLine_1 8 rfl rfl)
theorem dX2_getsLine_35 : decode cX2_getsLine 35 = .ok (.iconst 1, 1) := dk_4 (dk_at dksX2_getsLine_1 11 rfl rfl)
theorem dX2_getsLine_36 : decode cX2_getsLine 36 = .ok (.goto 4, 3) := dk_167 0 4 (dk_at dksX2_getsLine_1 12 rfl rfl)
theorem dX2_getsLine_39 : decode cX2_getsLine 39 = .ok (.iconst 0, 1) := dk_3 (dk_at dksX2_getsLine_1 15 rfl rfl)
theorem dX2_getsLine_40 : decode cX2_getsLine 40 = .ok (.iconst 2, 1) := dk_5 (dk_at dksX2_getsLine_1 16 rfl rfl)
theorem dX2_getsLine_41 : decode cX2_getsLine 41 = .ok (.invokestatic 180, 3) := dk_184 0 180 (dk_at dksX2_getsLine_1 17 rfl rfl)
theorem dX2_getsLine_44 : decode cX2_getsLine 44 = .ok (.aload_n 0, 1) := dk_42 (dk_at dksX2_getsLine_1 20 rfl rfl)
theorem dX2_getsLine_45 : decode cX2_getsLine 45 = .ok (.getfield 12, 3) := dk_180 0 12 (dk_at dksX2_getsLine_1 21 rfl rfl)
theorem dX2_getsLine_48 : decode cX2_getsLine 48 = .ok (.new 42, 3) := dk_187 0 42 (dk_at dksX2_getsLine_2 0 rfl rfl)
theorem dX2_getsLine_51 : decode cX2_getsLine 51 = .ok (.dup, 1) := dk_89 (dk_at dksX2_getsLine_2 3 rfl rfl)
theorem dX2_getsLine_52 : decode cX2_getsLine 52 = .ok (.iload_n 1, 1) := dk_27 (dk_at dksX2_getsLine_2 4 rfl rfl)
theorem dX2_getsLine_53 : decode cX2_getsLine 53 = .ok (.iload_n 2, 1) := dk_28 (dk_at dksX2_getsLine_2 5 rfl rfl)
theorem dX2_getsLine_54 : decode cX2_getsLine 54 = .ok (.invokespecial 255, 3) := dk_183 0 255 (dk_at dksX2_getsLine_2 6 rfl rfl)
theorem dX2_getsLine_57 : decode cX2_getsLine 57 = .ok (.invokevirtual 51, 3) := dk_182 0 51 (dk_at dksX2_getsLine_2 9 rfl rfl)
theorem dX2_getsLine_60 : decode cX2_getsLine 60 = .ok (.pop, 1) := dk_87 (dk_at dksX2_getsLine_2 12 rfl rfl)
theorem dX2_getsLine_61 : decode cX2_getsLine 61 = .ok (.aload_n 0, 1) := dk_42 (dk_at dksX2_getsLine_2 13 rfl rfl)
theorem dX2_getsLine_62 : decode cX2_getsLine 62 = .ok (.getfield 12, 3) := dk_180 0 12 (dk_at dksX2_getsLine_2 14 rfl rfl)
theorem dX2_getsLine_65 : decode cX2_getsLine 65 = .ok (.invokevirtual 38, 3) := dk_182 0 38 (dk_at dksX2_getsLine_2 17 rfl rfl)
theorem dX2_getsLine_68 : decode cX2_getsLine 68 = .ok (.iconst 1, 1) := dk_4 (dk_at dksX2_getsLine_2 20 rfl rfl)
theorem dX2_getsLine_69 : decode cX2_getsLine 69 = .ok (.isub, 1) := dk_100 (dk_at dksX2_getsLine_2 21 rfl rfl)
theorem dX2_getsLine_70 : decode cX2_getsLine 70 = .ok (.ireturn, 1) := dk_172 (dk_at dksX2_getsLine_2 22 rfl rfl)
abbrev cX2_wants : ByteArray := prog_2_method_40_code
def yX2_wants : MethodName := ⟨RX2, "wants", "(IIII)I"⟩
def dkwX2_wants_3 : List UInt8 := [54, 6, 25, 5, 180, 1, 4, 28, 29, 79, 25, 5, 180, 1, 7, 28, 21, 4, 79, 21, 6, 172]
abbrev dktX2_wants_3 : List UInt8 := dkwX2_wants_3 ++ []
def dkwX2_wants_2 : List UInt8 := [184, 0, 180, 42, 180, 0, 12, 27, 182, 0, 44, 192, 0, 42, 58, 5, 25, 5, 180, 1, 4, 28, 46]
abbrev dktX2_wants_2 : List UInt8 := dkwX2_wants_2 ++ dktX2_wants_3
def dkwX2_wants_1 : List UInt8 := [153, 0, 21, 21, 4, 133, 29, 133, 20, 0, 253, 184, 0, 62, 153, 0, 7, 4, 167, 0, 4, 3, 4]
abbrev dktX2_wants_1 : List UInt8 := dkwX2_wants_1 ++ dktX2_wants_2
def dkwX2_wants_0 : List UInt8 := [42, 27, 182, 1, 1, 153, 0, 40, 28, 184, 0, 211, 153, 0, 33, 29, 133, 9, 20, 0, 203, 184, 0, 62]
abbrev dktX2_wants_0 : List UInt8 := dkwX2_wants_0 ++ dktX2_wants_1
theorem dksX2_wants_0 : cX2_wants.data.toList.drop 0 = dktX2_wants_0 := by decide +kernel
theorem dksX2_wants_1 : cX2_wants.data.toList.drop 24 = dktX2_wants_1 := dk_seg dksX2_wants_0 24 rfl rfl
theorem dksX2_wants_2 : cX2_wants.data.toList.drop 47 = dktX2_wants_2 := dk_seg dksX2_wants_1 23 rfl rfl
theorem dksX2_wants_3 : cX2_wants.data.toList.drop 70 = dktX2_wants_3 := dk_seg dksX2_wants_2 23 rfl rfl
theorem dX2_wants_0 : decode cX2_wants 0 = .ok (.aload_n 0, 1) := dk_42 (dk_at dksX2_wants_0 0 rfl rfl)
theorem dX2_wants_1 : decode cX2_wants 1 = .ok (.iload_n 1, 1) := dk_27 (dk_at dksX2_wants_0 1 rfl rfl)
theorem dX2_wants_2 : decode cX2_wants 2 = .ok (.invokevirtual 257, 3) := dk_182 1 1 (dk_at dksX2_wants_0 2 rfl rfl)
theorem dX2_wants_5 : decode cX2_wants 5 = .ok (.ifCond .eq 40, 3) := dk_153 0 40 (dk_at dksX2_wants_0 5 rfl rfl)
theorem dX2_wants_8 : decode cX2_wants 8 = .ok (.iload_n 2, 1) := dk_28 (dk_at dksX2_wants_0 8 rfl rfl)
theorem dX2_wants_9 : decode cX2_wants 9 = .ok (.invokestatic 211, 3) := dk_184 0 211 (dk_at dksX2_wants_0 9 rfl rfl)
theorem dX2_wants_12 : decode cX2_wants 12 = .ok (.ifCond .eq 33, 3) := dk_153 0 33 (dk_at dksX2_wants_0 12 rfl rfl)
theorem dX2_wants_15 : decode cX2_wants 15 = .ok (.iload_n 3, 1) := dk_29 (dk_at dksX2_wants_0 15 rfl rfl)
theorem dX2_wants_16 : decode cX2_wants 16 = .ok (.i2l, 1) := dk_133 (dk_at dksX2_wants_0 16 rfl rfl)
theorem dX2_wants_17 : decode cX2_wants 17 = .ok (.lconst 0, 1) := dk_9 (dk_at dksX2_wants_0 17 rfl rfl)
theorem dX2_wants_18 : decode cX2_wants 18 = .ok (.ldc2_w 203, 3) := dk_20 0 203 (dk_at dksX2_wants_0 18 rfl rfl)
theorem dX2_wants_21 : decode cX2_wants 21 = .ok (.invokestatic 62, 3) := dk_184 0 62 (dk_at dksX2_wants_0 21 rfl rfl)
theorem dX2_wants_24 : decode cX2_wants 24 = .ok (.ifCond .eq 21, 3) := dk_153 0 21 (dk_at dksX2_wants_1 0 rfl rfl)
theorem dX2_wants_27 : decode cX2_wants 27 = .ok (.iload 4, 2) := dk_21 4 (dk_at dksX2_wants_1 3 rfl rfl)
theorem dX2_wants_29 : decode cX2_wants 29 = .ok (.i2l, 1) := dk_133 (dk_at dksX2_wants_1 5 rfl rfl)
theorem dX2_wants_30 : decode cX2_wants 30 = .ok (.iload_n 3, 1) := dk_29 (dk_at dksX2_wants_1 6 rfl rfl)
theorem dX2_wants_31 : decode cX2_wants 31 = .ok (.i2l, 1) := dk_133 (dk_at dksX2_wants_1 7 rfl rfl)
theorem dX2_wants_32 : decode cX2_wants 32 = .ok (.ldc2_w 253, 3) := dk_20 0 253 (dk_at dksX2_wants_1 8 rfl rfl)
theorem dX2_wants_35 : decode cX2_wants 35 = .ok (.invokestatic 62, 3) := dk_184 0 62 (dk_at dksX2_wants_1 11 rfl rfl)
theorem dX2_wants_38 : decode cX2_wants 38 = .ok (.ifCond .eq 7, 3) := dk_153 0 7 (dk_at dksX2_wants_1 14 rfl rfl)
theorem dX2_wants_41 : decode cX2_wants 41 = .ok (.iconst 1, 1) := dk_4 (dk_at dksX2_wants_1 17 rfl rfl)
theorem dX2_wants_42 : decode cX2_wants 42 = .ok (.goto 4, 3) := dk_167 0 4 (dk_at dksX2_wants_1 18 rfl rfl)
theorem dX2_wants_45 : decode cX2_wants 45 = .ok (.iconst 0, 1) := dk_3 (dk_at dksX2_wants_1 21 rfl rfl)
theorem dX2_wants_46 : decode cX2_wants 46 = .ok (.iconst 1, 1) := dk_4 (dk_at dksX2_wants_1 22 rfl rfl)
theorem dX2_wants_47 : decode cX2_wants 47 = .ok (.invokestatic 180, 3) := dk_184 0 180 (dk_at dksX2_wants_2 0 rfl rfl)
theorem dX2_wants_50 : decode cX2_wants 50 = .ok (.aload_n 0, 1) := dk_42 (dk_at dksX2_wants_2 3 rfl rfl)
theorem dX2_wants_51 : decode cX2_wants 51 = .ok (.getfield 12, 3) := dk_180 0 12 (dk_at dksX2_wants_2 4 rfl rfl)
theorem dX2_wants_54 : decode cX2_wants 54 = .ok (.iload_n 1, 1) := dk_27 (dk_at dksX2_wants_2 7 rfl rfl)
theorem dX2_wants_55 : decode cX2_wants 55 = .ok (.invokevirtual 44, 3) := dk_182 0 44 (dk_at dksX2_wants_2 8 rfl rfl)
theorem dX2_wants_58 : decode cX2_wants 58 = .ok (.checkcast 42, 3) := dk_192 0 42 (dk_at dksX2_wants_2 11 rfl rfl)
theorem dX2_wants_61 : decode cX2_wants 61 = .ok (.astore 5, 2) := dk_58 5 (dk_at dksX2_wants_2 14 rfl rfl)
theorem dX2_wants_63 : decode cX2_wants 63 = .ok (.aload 5, 2) := dk_25 5 (dk_at dksX2_wants_2 16 rfl rfl)
theorem dX2_wants_65 : decode cX2_wants 65 = .ok (.getfield 260, 3) := dk_180 1 4 (dk_at dksX2_wants_2 18 rfl rfl)
theorem dX2_wants_68 : decode cX2_wants 68 = .ok (.iload_n 2, 1) := dk_28 (dk_at dksX2_wants_2 21 rfl rfl)
theorem dX2_wants_69 : decode cX2_wants 69 = .ok (.iaload, 1) := dk_46 (dk_at dksX2_wants_2 22 rfl rfl)
theorem dX2_wants_70 : decode cX2_wants 70 = .ok (.istore 6, 2) := dk_54 6 (dk_at dksX2_wants_3 0 rfl rfl)
theorem dX2_wants_72 : decode cX2_wants 72 = .ok (.aload 5, 2) := dk_25 5 (dk_at dksX2_wants_3 2 rfl rfl)
theorem dX2_wants_74 : decode cX2_wants 74 = .ok (.getfield 260, 3) := dk_180 1 4 (dk_at dksX2_wants_3 4 rfl rfl)
theorem dX2_wants_77 : decode cX2_wants 77 = .ok (.iload_n 2, 1) := dk_28 (dk_at dksX2_wants_3 7 rfl rfl)
theorem dX2_wants_78 : decode cX2_wants 78 = .ok (.iload_n 3, 1) := dk_29 (dk_at dksX2_wants_3 8 rfl rfl)
theorem dX2_wants_79 : decode cX2_wants 79 = .ok (.iastore, 1) := dk_79 (dk_at dksX2_wants_3 9 rfl rfl)
theorem dX2_wants_80 : decode cX2_wants 80 = .ok (.aload 5, 2) := dk_25 5 (dk_at dksX2_wants_3 10 rfl rfl)
theorem dX2_wants_82 : decode cX2_wants 82 = .ok (.getfield 263, 3) := dk_180 1 7 (dk_at dksX2_wants_3 12 rfl rfl)
theorem dX2_wants_85 : decode cX2_wants 85 = .ok (.iload_n 2, 1) := dk_28 (dk_at dksX2_wants_3 15 rfl rfl)
theorem dX2_wants_86 : decode cX2_wants 86 = .ok (.iload 4, 2) := dk_21 4 (dk_at dksX2_wants_3 16 rfl rfl)
theorem dX2_wants_88 : decode cX2_wants 88 = .ok (.iastore, 1) := dk_79 (dk_at dksX2_wants_3 18 rfl rfl)
theorem dX2_wants_89 : decode cX2_wants 89 = .ok (.iload 6, 2) := dk_21 6 (dk_at dksX2_wants_3 19 rfl rfl)
theorem dX2_wants_91 : decode cX2_wants 91 = .ok (.ireturn, 1) := dk_172 (dk_at dksX2_wants_3 21 rfl rfl)
abbrev cX2_isLine : ByteArray := prog_2_method_3_code
def yX2_isLine : MethodName := ⟨RX2, "isLine", "(I)Z"⟩
def dkwX2_isLine_0 : List UInt8 := [27, 133, 9, 42, 180, 0, 12, 182, 0, 38, 4, 100, 133, 184, 0, 62, 172]
abbrev dktX2_isLine_0 : List UInt8 := dkwX2_isLine_0 ++ []
theorem dksX2_isLine_0 : cX2_isLine.data.toList.drop 0 = dktX2_isLine_0 := by decide +kernel
theorem dX2_isLine_0 : decode cX2_isLine 0 = .ok (.iload_n 1, 1) := dk_27 (dk_at dksX2_isLine_0 0 rfl rfl)
theorem dX2_isLine_1 : decode cX2_isLine 1 = .ok (.i2l, 1) := dk_133 (dk_at dksX2_isLine_0 1 rfl rfl)
theorem dX2_isLine_2 : decode cX2_isLine 2 = .ok (.lconst 0, 1) := dk_9 (dk_at dksX2_isLine_0 2 rfl rfl)
theorem dX2_isLine_3 : decode cX2_isLine 3 = .ok (.aload_n 0, 1) := dk_42 (dk_at dksX2_isLine_0 3 rfl rfl)
theorem dX2_isLine_4 : decode cX2_isLine 4 = .ok (.getfield 12, 3) := dk_180 0 12 (dk_at dksX2_isLine_0 4 rfl rfl)
theorem dX2_isLine_7 : decode cX2_isLine 7 = .ok (.invokevirtual 38, 3) := dk_182 0 38 (dk_at dksX2_isLine_0 7 rfl rfl)
theorem dX2_isLine_10 : decode cX2_isLine 10 = .ok (.iconst 1, 1) := dk_4 (dk_at dksX2_isLine_0 10 rfl rfl)
theorem dX2_isLine_11 : decode cX2_isLine 11 = .ok (.isub, 1) := dk_100 (dk_at dksX2_isLine_0 11 rfl rfl)
theorem dX2_isLine_12 : decode cX2_isLine 12 = .ok (.i2l, 1) := dk_133 (dk_at dksX2_isLine_0 12 rfl rfl)
theorem dX2_isLine_13 : decode cX2_isLine 13 = .ok (.invokestatic 62, 3) := dk_184 0 62 (dk_at dksX2_isLine_0 13 rfl rfl)
theorem dX2_isLine_16 : decode cX2_isLine 16 = .ok (.ireturn, 1) := dk_172 (dk_at dksX2_isLine_0 16 rfl rfl)
abbrev cX2_turnsReset : ByteArray := prog_2_method_41_code
def yX2_turnsReset : MethodName := ⟨RX2, "turnsReset", "(II)I"⟩
def dkwX2_turnsReset_2 : List UInt8 := [180, 0, 12, 27, 182, 0, 44, 192, 0, 42, 28, 182, 0, 156, 153, 0, 7, 4, 167, 0, 4, 3, 172]
abbrev dktX2_turnsReset_2 : List UInt8 := dkwX2_turnsReset_2 ++ []
def dkwX2_turnsReset_1 : List UInt8 := [42, 180, 0, 12, 27, 182, 0, 44, 192, 0, 42, 89, 180, 1, 10, 4, 28, 120, 130, 181, 1, 10, 42]
abbrev dktX2_turnsReset_1 : List UInt8 := dkwX2_turnsReset_1 ++ dktX2_turnsReset_2
def dkwX2_turnsReset_0 : List UInt8 := [42, 27, 182, 1, 1, 153, 0, 14, 28, 184, 0, 211, 153, 0, 7, 4, 167, 0, 4, 3, 4, 184, 0, 180]
abbrev dktX2_turnsReset_0 : List UInt8 := dkwX2_turnsReset_0 ++ dktX2_turnsReset_1
theorem dksX2_turnsReset_0 : cX2_turnsReset.data.toList.drop 0 = dktX2_turnsReset_0 := by decide +kernel
theorem dksX2_turnsReset_1 : cX2_turnsReset.data.toList.drop 24 = dktX2_turnsReset_1 := dk_seg dksX2_turnsReset_0 24 rfl rfl
theorem dksX2_turnsReset_2 : cX2_turnsReset.data.toList.drop 47 = dktX2_turnsReset_2 := dk_seg dksX2_turnsReset_1 23 rfl rfl
theorem dX2_turnsReset_0 : decode cX2_turnsReset 0 = .ok (.aload_n 0, 1) := dk_42 (dk_at dksX2_turnsReset_0 0 rfl rfl)
theorem dX2_turnsReset_1 : decode cX2_turnsReset 1 = .ok (.iload_n 1, 1) := dk_27 (dk_at dksX2_turnsReset_0 1 rfl rfl)
theorem dX2_turnsReset_2 : decode cX2_turnsReset 2 = .ok (.invokevirtual 257, 3) := dk_182 1 1 (dk_at dksX2_turnsReset_0 2 rfl rfl)
theorem dX2_turnsReset_5 : decode cX2_turnsReset 5 = .ok (.ifCond .eq 14, 3) := dk_153 0 14 (dk_at dksX2_turnsReset_0 5 rfl rfl)
theorem dX2_turnsReset_8 : decode cX2_turnsReset 8 = .ok (.iload_n 2, 1) := dk_28 (dk_at dksX2_turnsReset_0 8 rfl rfl)
theorem dX2_turnsReset_9 : decode cX2_turnsReset 9 = .ok (.invokestatic 211, 3) := dk_184 0 211 (dk_at dksX2_turnsReset_0 9 rfl rfl)
theorem dX2_turnsReset_12 : decode cX2_turnsReset 12 = .ok (.ifCond .eq 7, 3) := dk_153 0 7 (dk_at dksX2_turnsReset_0 12 rfl rfl)
theorem dX2_turnsReset_15 : decode cX2_turnsReset 15 = .ok (.iconst 1, 1) := dk_4 (dk_at dksX2_turnsReset_0 15 rfl rfl)
theorem dX2_turnsReset_16 : decode cX2_turnsReset 16 = .ok (.goto 4, 3) := dk_167 0 4 (dk_at dksX2_turnsReset_0 16 rfl rfl)
theorem dX2_turnsReset_19 : decode cX2_turnsReset 19 = .ok (.iconst 0, 1) := dk_3 (dk_at dksX2_turnsReset_0 19 rfl rfl)
theorem dX2_turnsReset_20 : decode cX2_turnsReset 20 = .ok (.iconst 1, 1) := dk_4 (dk_at dksX2_turnsReset_0 20 rfl rfl)
theorem dX2_turnsReset_21 : decode cX2_turnsReset 21 = .ok (.invokestatic 180, 3) := dk_184 0 180 (dk_at dksX2_turnsReset_0 21 rfl rfl)
theorem dX2_turnsReset_24 : decode cX2_turnsReset 24 = .ok (.aload_n 0, 1) := dk_42 (dk_at dksX2_turnsReset_1 0 rfl rfl)
theorem dX2_turnsReset_25 : decode cX2_turnsReset 25 = .ok (.getfield 12, 3) := dk_180 0 12 (dk_at dksX2_turnsReset_1 1 rfl rfl)
theorem dX2_turnsReset_28 : decode cX2_turnsReset 28 = .ok (.iload_n 1, 1) := dk_27 (dk_at dksX2_turnsReset_1 4 rfl rfl)
theorem dX2_turnsReset_29 : decode cX2_turnsReset 29 = .ok (.invokevirtual 44, 3) := dk_182 0 44 (dk_at dksX2_turnsReset_1 5 rfl rfl)
theorem dX2_turnsReset_32 : decode cX2_turnsReset 32 = .ok (.checkcast 42, 3) := dk_192 0 42 (dk_at dksX2_turnsReset_1 8 rfl rfl)
theorem dX2_turnsReset_35 : decode cX2_turnsReset 35 = .ok (.dup, 1) := dk_89 (dk_at dksX2_turnsReset_1 11 rfl rfl)
theorem dX2_turnsReset_36 : decode cX2_turnsReset 36 = .ok (.getfield 266, 3) := dk_180 1 10 (dk_at dksX2_turnsReset_1 12 rfl rfl)
theorem dX2_turnsReset_39 : decode cX2_turnsReset 39 = .ok (.iconst 1, 1) := dk_4 (dk_at dksX2_turnsReset_1 15 rfl rfl)
theorem dX2_turnsReset_40 : decode cX2_turnsReset 40 = .ok (.iload_n 2, 1) := dk_28 (dk_at dksX2_turnsReset_1 16 rfl rfl)
theorem dX2_turnsReset_41 : decode cX2_turnsReset 41 = .ok (.ishl, 1) := dk_120 (dk_at dksX2_turnsReset_1 17 rfl rfl)
theorem dX2_turnsReset_42 : decode cX2_turnsReset 42 = .ok (.ixor, 1) := dk_130 (dk_at dksX2_turnsReset_1 18 rfl rfl)
theorem dX2_turnsReset_43 : decode cX2_turnsReset 43 = .ok (.putfield 266, 3) := dk_181 1 10 (dk_at dksX2_turnsReset_1 19 rfl rfl)
theorem dX2_turnsReset_46 : decode cX2_turnsReset 46 = .ok (.aload_n 0, 1) := dk_42 (dk_at dksX2_turnsReset_1 22 rfl rfl)
theorem dX2_turnsReset_47 : decode cX2_turnsReset 47 = .ok (.getfield 12, 3) := dk_180 0 12 (dk_at dksX2_turnsReset_2 0 rfl rfl)
theorem dX2_turnsReset_50 : decode cX2_turnsReset 50 = .ok (.iload_n 1, 1) := dk_27 (dk_at dksX2_turnsReset_2 3 rfl rfl)
theorem dX2_turnsReset_51 : decode cX2_turnsReset 51 = .ok (.invokevirtual 44, 3) := dk_182 0 44 (dk_at dksX2_turnsReset_2 4 rfl rfl)
theorem dX2_turnsReset_54 : decode cX2_turnsReset 54 = .ok (.checkcast 42, 3) := dk_192 0 42 (dk_at dksX2_turnsReset_2 7 rfl rfl)
theorem dX2_turnsReset_57 : decode cX2_turnsReset 57 = .ok (.iload_n 2, 1) := dk_28 (dk_at dksX2_turnsReset_2 10 rfl rfl)
theorem dX2_turnsReset_58 : decode cX2_turnsReset 58 = .ok (.invokevirtual 156, 3) := dk_182 0 156 (dk_at dksX2_turnsReset_2 11 rfl rfl)
theorem dX2_turnsReset_61 : decode cX2_turnsReset 61 = .ok (.ifCond .eq 7, 3) := dk_153 0 7 (dk_at dksX2_turnsReset_2 14 rfl rfl)
theorem dX2_turnsReset_64 : decode cX2_turnsReset 64 = .ok (.iconst 1, 1) := dk_4 (dk_at dksX2_turnsReset_2 17 rfl rfl)
theorem dX2_turnsReset_65 : decode cX2_turnsReset 65 = .ok (.goto 4, 3) := dk_167 0 4 (dk_at dksX2_turnsReset_2 18 rfl rfl)
theorem dX2_turnsReset_68 : decode cX2_turnsReset 68 = .ok (.iconst 0, 1) := dk_3 (dk_at dksX2_turnsReset_2 21 rfl rfl)
theorem dX2_turnsReset_69 : decode cX2_turnsReset 69 = .ok (.ireturn, 1) := dk_172 (dk_at dksX2_turnsReset_2 22 rfl rfl)
abbrev cX2_harboursByMoments : ByteArray := prog_2_method_16_code
def yX2_harboursByMoments : MethodName := ⟨RX2, "harboursByMoments", "()I"⟩
def dkwX2_harboursByMoments_1 : List UInt8 := [167, 0, 10, 4, 29, 17, 5, 51, 108, 120, 128, 61, 132, 3, 1, 167, 255, 226, 28, 172]
abbrev dktX2_harboursByMoments_1 : List UInt8 := dkwX2_harboursByMoments_1 ++ []
def dkwX2_harboursByMoments_0 : List UInt8 := [42, 182, 0, 170, 76, 3, 61, 3, 62, 29, 43, 190, 162, 0, 30, 28, 43, 29, 46, 2, 160, 0, 7, 3]
abbrev dktX2_harboursByMoments_0 : List UInt8 := dkwX2_harboursByMoments_0 ++ dktX2_harboursByMoments_1
theorem dksX2_harboursByMoments_0 : cX2_harboursByMoments.data.toList.drop 0 = dktX2_harboursByMoments_0 := by decide +kernel
theorem dksX2_harboursByMoments_1 : cX2_harboursByMoments.data.toList.drop 24 = dktX2_harboursByMoments_1 := dk_seg dksX2_harboursByMoments_0 24 rfl rfl
theorem dX2_harboursByMoments_0 : decode cX2_harboursByMoments 0 = .ok (.aload_n 0, 1) := dk_42 (dk_at dksX2_harboursByMoments_0 0 rfl rfl)
theorem dX2_harboursByMoments_1 : decode cX2_harboursByMoments 1 = .ok (.invokevirtual 170, 3) := dk_182 0 170 (dk_at dksX2_harboursByMoments_0 1 rfl rfl)
theorem dX2_harboursByMoments_4 : decode cX2_harboursByMoments 4 = .ok (.astore_n 1, 1) := dk_76 (dk_at dksX2_harboursByMoments_0 4 rfl rfl)
theorem dX2_harboursByMoments_5 : decode cX2_harboursByMoments 5 = .ok (.iconst 0, 1) := dk_3 (dk_at dksX2_harboursByMoments_0 5 rfl rfl)
theorem dX2_harboursByMoments_6 : decode cX2_harboursByMoments 6 = .ok (.istore_n 2, 1) := dk_61 (dk_at dksX2_harboursByMoments_0 6 rfl rfl)
theorem dX2_harboursByMoments_7 : decode cX2_harboursByMoments 7 = .ok (.iconst 0, 1) := dk_3 (dk_at dksX2_harboursByMoments_0 7 rfl rfl)
theorem dX2_harboursByMoments_8 : decode cX2_harboursByMoments 8 = .ok (.istore_n 3, 1) := dk_62 (dk_at dksX2_harboursByMoments_0 8 rfl rfl)
theorem dX2_harboursByMoments_9 : decode cX2_harboursByMoments 9 = .ok (.iload_n 3, 1) := dk_29 (dk_at dksX2_harboursByMoments_0 9 rfl rfl)
theorem dX2_harboursByMoments_10 : decode cX2_harboursByMoments 10 = .ok (.aload_n 1, 1) := dk_43 (dk_at dksX2_harboursByMoments_0 10 rfl rfl)
theorem dX2_harboursByMoments_11 : decode cX2_harboursByMoments 11 = .ok (.arraylength, 1) := dk_190 (dk_at dksX2_harboursByMoments_0 11 rfl rfl)
theorem dX2_harboursByMoments_12 : decode cX2_harboursByMoments 12 = .ok (.if_icmp .ge 30, 3) := dk_162 0 30 (dk_at dksX2_harboursByMoments_0 12 rfl rfl)
theorem dX2_harboursByMoments_15 : decode cX2_harboursByMoments 15 = .ok (.iload_n 2, 1) := dk_28 (dk_at dksX2_harboursByMoments_0 15 rfl rfl)
theorem dX2_harboursByMoments_16 : decode cX2_harboursByMoments 16 = .ok (.aload_n 1, 1) := dk_43 (dk_at dksX2_harboursByMoments_0 16 rfl rfl)
theorem dX2_harboursByMoments_17 : decode cX2_harboursByMoments 17 = .ok (.iload_n 3, 1) := dk_29 (dk_at dksX2_harboursByMoments_0 17 rfl rfl)
theorem dX2_harboursByMoments_18 : decode cX2_harboursByMoments 18 = .ok (.iaload, 1) := dk_46 (dk_at dksX2_harboursByMoments_0 18 rfl rfl)
theorem dX2_harboursByMoments_19 : decode cX2_harboursByMoments 19 = .ok (.iconst (-1), 1) := dk_2 (dk_at dksX2_harboursByMoments_0 19 rfl rfl)
theorem dX2_harboursByMoments_20 : decode cX2_harboursByMoments 20 = .ok (.if_icmp .ne 7, 3) := dk_160 0 7 (dk_at dksX2_harboursByMoments_0 20 rfl rfl)
theorem dX2_harboursByMoments_23 : decode cX2_harboursByMoments 23 = .ok (.iconst 0, 1) := dk_3 (dk_at dksX2_harboursByMoments_0 23 rfl rfl)
theorem dX2_harboursByMoments_24 : decode cX2_harboursByMoments 24 = .ok (.goto 10, 3) := dk_167 0 10 (dk_at dksX2_harboursByMoments_1 0 rfl rfl)
theorem dX2_harboursByMoments_27 : decode cX2_harboursByMoments 27 = .ok (.iconst 1, 1) := dk_4 (dk_at dksX2_harboursByMoments_1 3 rfl rfl)
theorem dX2_harboursByMoments_28 : decode cX2_harboursByMoments 28 = .ok (.iload_n 3, 1) := dk_29 (dk_at dksX2_harboursByMoments_1 4 rfl rfl)
theorem dX2_harboursByMoments_29 : decode cX2_harboursByMoments 29 = .ok (.sipush 1331, 3) := dk_17 5 51 (dk_at dksX2_harboursByMoments_1 5 rfl rfl)
theorem dX2_harboursByMoments_32 : decode cX2_harboursByMoments 32 = .ok (.idiv, 1) := dk_108 (dk_at dksX2_harboursByMoments_1 8 rfl rfl)
theorem dX2_harboursByMoments_33 : decode cX2_harboursByMoments 33 = .ok (.ishl, 1) := dk_120 (dk_at dksX2_harboursByMoments_1 9 rfl rfl)
theorem dX2_harboursByMoments_34 : decode cX2_harboursByMoments 34 = .ok (.ior, 1) := dk_128 (dk_at dksX2_harboursByMoments_1 10 rfl rfl)
theorem dX2_harboursByMoments_35 : decode cX2_harboursByMoments 35 = .ok (.istore_n 2, 1) := dk_61 (dk_at dksX2_harboursByMoments_1 11 rfl rfl)
theorem dX2_harboursByMoments_36 : decode cX2_harboursByMoments 36 = .ok (.iinc 3 1, 3) := dk_132 3 1 (dk_at dksX2_harboursByMoments_1 12 rfl rfl)
theorem dX2_harboursByMoments_39 : decode cX2_harboursByMoments 39 = .ok (.goto (-30), 3) := dk_167 255 226 (dk_at dksX2_harboursByMoments_1 15 rfl rfl)
theorem dX2_harboursByMoments_42 : decode cX2_harboursByMoments 42 = .ok (.iload_n 2, 1) := dk_28 (dk_at dksX2_harboursByMoments_1 18 rfl rfl)
theorem dX2_harboursByMoments_43 : decode cX2_harboursByMoments 43 = .ok (.ireturn, 1) := dk_172 (dk_at dksX2_harboursByMoments_1 19 rfl rfl)
abbrev cX2_ticksTo : ByteArray := prog_2_method_14_code
def yX2_ticksTo : MethodName := ⟨RX2, "ticksTo", "()[I"⟩
def dkwX2_ticksTo_6 : List UInt8 := [21, 8, 79, 132, 3, 1, 132, 7, 1, 167, 255, 206, 21, 6, 54, 4, 132, 5, 1, 167, 255, 153, 43, 176]
abbrev dktX2_ticksTo_6 : List UInt8 := dkwX2_ticksTo_6 ++ []
def dkwX2_ticksTo_5 : List UInt8 := [21, 8, 2, 159, 0, 27, 43, 21, 8, 46, 2, 160, 0, 19, 43, 21, 8, 21, 5, 4, 96, 79, 44, 29]
abbrev dktX2_ticksTo_5 : List UInt8 := dkwX2_ticksTo_5 ++ dktX2_ticksTo_6
def dkwX2_ticksTo_4 : List UInt8 := [54, 6, 21, 4, 54, 7, 21, 7, 21, 6, 162, 0, 49, 42, 44, 21, 7, 46, 182, 0, 163, 54, 8]
abbrev dktX2_ticksTo_4 : List UInt8 := dkwX2_ticksTo_4 ++ dktX2_ticksTo_5
def dkwX2_ticksTo_3 : List UInt8 := [162, 0, 23, 42, 44, 21, 6, 46, 21, 5, 29, 43, 44, 182, 0, 159, 62, 132, 6, 1, 167, 255, 233, 29]
abbrev dktX2_ticksTo_3 : List UInt8 := dkwX2_ticksTo_3 ++ dktX2_ticksTo_4
def dkwX2_ticksTo_2 : List UInt8 := [4, 100, 79, 3, 54, 4, 3, 54, 5, 21, 4, 29, 162, 0, 103, 21, 4, 54, 6, 21, 6, 29]
abbrev dktX2_ticksTo_2 : List UInt8 := dkwX2_ticksTo_2 ++ dktX2_ticksTo_3
def dkwX2_ticksTo_1 : List UInt8 := [17, 31, 50, 188, 10, 77, 42, 3, 182, 0, 148, 2, 160, 0, 7, 3, 167, 0, 4, 4, 62, 43, 3, 29]
abbrev dktX2_ticksTo_1 : List UInt8 := dkwX2_ticksTo_1 ++ dktX2_ticksTo_2
def dkwX2_ticksTo_0 : List UInt8 := [17, 31, 50, 188, 10, 76, 3, 61, 28, 43, 190, 162, 0, 13, 43, 28, 2, 79, 132, 2, 1, 167, 255, 243]
abbrev dktX2_ticksTo_0 : List UInt8 := dkwX2_ticksTo_0 ++ dktX2_ticksTo_1
theorem dksX2_ticksTo_0 : cX2_ticksTo.data.toList.drop 0 = dktX2_ticksTo_0 := by decide +kernel
theorem dksX2_ticksTo_1 : cX2_ticksTo.data.toList.drop 24 = dktX2_ticksTo_1 := dk_seg dksX2_ticksTo_0 24 rfl rfl
theorem dksX2_ticksTo_2 : cX2_ticksTo.data.toList.drop 48 = dktX2_ticksTo_2 := dk_seg dksX2_ticksTo_1 24 rfl rfl
theorem dksX2_ticksTo_3 : cX2_ticksTo.data.toList.drop 70 = dktX2_ticksTo_3 := dk_seg dksX2_ticksTo_2 22 rfl rfl
theorem dksX2_ticksTo_4 : cX2_ticksTo.data.toList.drop 94 = dktX2_ticksTo_4 := dk_seg dksX2_ticksTo_3 24 rfl rfl
theorem dksX2_ticksTo_5 : cX2_ticksTo.data.toList.drop 117 = dktX2_ticksTo_5 := dk_seg dksX2_ticksTo_4 23 rfl rfl
theorem dksX2_ticksTo_6 : cX2_ticksTo.data.toList.drop 141 = dktX2_ticksTo_6 := dk_seg dksX2_ticksTo_5 24 rfl rfl
theorem dX2_ticksTo_0 : decode cX2_ticksTo 0 = .ok (.sipush 7986, 3) := dk_17 31 50 (dk_at dksX2_ticksTo_0 0 rfl rfl)
theorem dX2_ticksTo_3 : decode cX2_ticksTo 3 = .ok (.newarray .int, 2) := dk_188_10 (dk_at dksX2_ticksTo_0 3 rfl rfl)
theorem dX2_ticksTo_5 : decode cX2_ticksTo 5 = .ok (.astore_n 1, 1) := dk_76 (dk_at dksX2_ticksTo_0 5 rfl rfl)
theorem dX2_ticksTo_6 : decode cX2_ticksTo 6 = .ok (.iconst 0, 1) := dk_3 (dk_at dksX2_ticksTo_0 6 rfl rfl)
theorem dX2_ticksTo_7 : decode cX2_ticksTo 7 = .ok (.istore_n 2, 1) := dk_61 (dk_at dksX2_ticksTo_0 7 rfl rfl)
theorem dX2_ticksTo_8 : decode cX2_ticksTo 8 = .ok (.iload_n 2, 1) := dk_28 (dk_at dksX2_ticksTo_0 8 rfl rfl)
theorem dX2_ticksTo_9 : decode cX2_ticksTo 9 = .ok (.aload_n 1, 1) := dk_43 (dk_at dksX2_ticksTo_0 9 rfl rfl)
theorem dX2_ticksTo_10 : decode cX2_ticksTo 10 = .ok (.arraylength, 1) := dk_190 (dk_at dksX2_ticksTo_0 10 rfl rfl)
theorem dX2_ticksTo_11 : decode cX2_ticksTo 11 = .ok (.if_icmp .ge 13, 3) := dk_162 0 13 (dk_at dksX2_ticksTo_0 11 rfl rfl)
theorem dX2_ticksTo_14 : decode cX2_ticksTo 14 = .ok (.aload_n 1, 1) := dk_43 (dk_at dksX2_ticksTo_0 14 rfl rfl)
theorem dX2_ticksTo_15 : decode cX2_ticksTo 15 = .ok (.iload_n 2, 1) := dk_28 (dk_at dksX2_ticksTo_0 15 rfl rfl)
theorem dX2_ticksTo_16 : decode cX2_ticksTo 16 = .ok (.iconst (-1), 1) := dk_2 (dk_at dksX2_ticksTo_0 16 rfl rfl)
theorem dX2_ticksTo_17 : decode cX2_ticksTo 17 = .ok (.iastore, 1) := dk_79 (dk_at dksX2_ticksTo_0 17 rfl rfl)
theorem dX2_ticksTo_18 : decode cX2_ticksTo 18 = .ok (.iinc 2 1, 3) := dk_132 2 1 (dk_at dksX2_ticksTo_0 18 rfl rfl)
theorem dX2_ticksTo_21 : decode cX2_ticksTo 21 = .ok (.goto (-13), 3) := dk_167 255 243 (dk_at dksX2_ticksTo_0 21 rfl rfl)
theorem dX2_ticksTo_24 : decode cX2_ticksTo 24 = .ok (.sipush 7986, 3) := dk_17 31 50 (dk_at dksX2_ticksTo_1 0 rfl rfl)
theorem dX2_ticksTo_27 : decode cX2_ticksTo 27 = .ok (.newarray .int, 2) := dk_188_10 (dk_at dksX2_ticksTo_1 3 rfl rfl)
theorem dX2_ticksTo_29 : decode cX2_ticksTo 29 = .ok (.astore_n 2, 1) := dk_77 (dk_at dksX2_ticksTo_1 5 rfl rfl)
theorem dX2_ticksTo_30 : decode cX2_ticksTo 30 = .ok (.aload_n 0, 1) := dk_42 (dk_at dksX2_ticksTo_1 6 rfl rfl)
theorem dX2_ticksTo_31 : decode cX2_ticksTo 31 = .ok (.iconst 0, 1) := dk_3 (dk_at dksX2_ticksTo_1 7 rfl rfl)
theorem dX2_ticksTo_32 : decode cX2_ticksTo 32 = .ok (.invokevirtual 148, 3) := dk_182 0 148 (dk_at dksX2_ticksTo_1 8 rfl rfl)
theorem dX2_ticksTo_35 : decode cX2_ticksTo 35 = .ok (.iconst (-1), 1) := dk_2 (dk_at dksX2_ticksTo_1 11 rfl rfl)
theorem dX2_ticksTo_36 : decode cX2_ticksTo 36 = .ok (.if_icmp .ne 7, 3) := dk_160 0 7 (dk_at dksX2_ticksTo_1 12 rfl rfl)
theorem dX2_ticksTo_39 : decode cX2_ticksTo 39 = .ok (.iconst 0, 1) := dk_3 (dk_at dksX2_ticksTo_1 15 rfl rfl)
theorem dX2_ticksTo_40 : decode cX2_ticksTo 40 = .ok (.goto 4, 3) := dk_167 0 4 (dk_at dksX2_ticksTo_1 16 rfl rfl)
theorem dX2_ticksTo_43 : decode cX2_ticksTo 43 = .ok (.iconst 1, 1) := dk_4 (dk_at dksX2_ticksTo_1 19 rfl rfl)
theorem dX2_ticksTo_44 : decode cX2_ticksTo 44 = .ok (.istore_n 3, 1) := dk_62 (dk_at dksX2_ticksTo_1 20 rfl rfl)
theorem dX2_ticksTo_45 : decode cX2_ticksTo 45 = .ok (.aload_n 1, 1) := dk_43 (dk_at dksX2_ticksTo_1 21 rfl rfl)
theorem dX2_ticksTo_46 : decode cX2_ticksTo 46 = .ok (.iconst 0, 1) := dk_3 (dk_at dksX2_ticksTo_1 22 rfl rfl)
theorem dX2_ticksTo_47 : decode cX2_ticksTo 47 = .ok (.iload_n 3, 1) := dk_29 (dk_at dksX2_ticksTo_1 23 rfl rfl)
theorem dX2_ticksTo_48 : decode cX2_ticksTo 48 = .ok (.iconst 1, 1) := dk_4 (dk_at dksX2_ticksTo_2 0 rfl rfl)
theorem dX2_ticksTo_49 : decode cX2_ticksTo 49 = .ok (.isub, 1) := dk_100 (dk_at dksX2_ticksTo_2 1 rfl rfl)
theorem dX2_ticksTo_50 : decode cX2_ticksTo 50 = .ok (.iastore, 1) := dk_79 (dk_at dksX2_ticksTo_2 2 rfl rfl)
theorem dX2_ticksTo_51 : decode cX2_ticksTo 51 = .ok (.iconst 0, 1) := dk_3 (dk_at dksX2_ticksTo_2 3 rfl rfl)
theorem dX2_ticksTo_52 : decode cX2_ticksTo 52 = .ok (.istore 4, 2) := dk_54 4 (dk_at dksX2_ticksTo_2 4 rfl rfl)
theorem dX2_ticksTo_54 : decode cX2_ticksTo 54 = .ok (.iconst 0, 1) := dk_3 (dk_at dksX2_ticksTo_2 6 rfl rfl)
theorem dX2_ticksTo_55 : decode cX2_ticksTo 55 = .ok (.istore 5, 2) := dk_54 5 (dk_at dksX2_ticksTo_2 7 rfl rfl)
theorem dX2_ticksTo_57 : decode cX2_ticksTo 57 = .ok (.iload 4, 2) := dk_21 4 (dk_at dksX2_ticksTo_2 9 rfl rfl)
theorem dX2_ticksTo_59 : decode cX2_ticksTo 59 = .ok (.iload_n 3, 1) := dk_29 (dk_at dksX2_ticksTo_2 11 rfl rfl)
theorem dX2_ticksTo_60 : decode cX2_ticksTo 60 = .ok (.if_icmp .ge 103, 3) := dk_162 0 103 (dk_at dksX2_ticksTo_2 12 rfl rfl)
theorem dX2_ticksTo_63 : decode cX2_ticksTo 63 = .ok (.iload 4, 2) := dk_21 4 (dk_at dksX2_ticksTo_2 15 rfl rfl)
theorem dX2_ticksTo_65 : decode cX2_ticksTo 65 = .ok (.istore 6, 2) := dk_54 6 (dk_at dksX2_ticksTo_2 17 rfl rfl)
theorem dX2_ticksTo_67 : decode cX2_ticksTo 67 = .ok (.iload 6, 2) := dk_21 6 (dk_at dksX2_ticksTo_2 19 rfl rfl)
theorem dX2_ticksTo_69 : decode cX2_ticksTo 69 = .ok (.iload_n 3, 1) := dk_29 (dk_at dksX2_ticksTo_2 21 rfl rfl)
theorem dX2_ticksTo_70 : decode cX2_ticksTo 70 = .ok (.if_icmp .ge 23, 3) := dk_162 0 23 (dk_at dksX2_ticksTo_3 0 rfl rfl)
theorem dX2_ticksTo_73 : decode cX2_ticksTo 73 = .ok (.aload_n 0, 1) := dk_42 (dk_at dksX2_ticksTo_3 3 rfl rfl)
theorem dX2_ticksTo_74 : decode cX2_ticksTo 74 = .ok (.aload_n 2, 1) := dk_44 (dk_at dksX2_ticksTo_3 4 rfl rfl)
theorem dX2_ticksTo_75 : decode cX2_ticksTo 75 = .ok (.iload 6, 2) := dk_21 6 (dk_at dksX2_ticksTo_3 5 rfl rfl)
theorem dX2_ticksTo_77 : decode cX2_ticksTo 77 = .ok (.iaload, 1) := dk_46 (dk_at dksX2_ticksTo_3 7 rfl rfl)
theorem dX2_ticksTo_78 : decode cX2_ticksTo 78 = .ok (.iload 5, 2) := dk_21 5 (dk_at dksX2_ticksTo_3 8 rfl rfl)
theorem dX2_ticksTo_80 : decode cX2_ticksTo 80 = .ok (.iload_n 3, 1) := dk_29 (dk_at dksX2_ticksTo_3 10 rfl rfl)
theorem dX2_ticksTo_81 : decode cX2_ticksTo 81 = .ok (.aload_n 1, 1) := dk_43 (dk_at dksX2_ticksTo_3 11 rfl rfl)
theorem dX2_ticksTo_82 : decode cX2_ticksTo 82 = .ok (.aload_n 2, 1) := dk_44 (dk_at dksX2_ticksTo_3 12 rfl rfl)
theorem dX2_ticksTo_83 : decode cX2_ticksTo 83 = .ok (.invokevirtual 159, 3) := dk_182 0 159 (dk_at dksX2_ticksTo_3 13 rfl rfl)
theorem dX2_ticksTo_86 : decode cX2_ticksTo 86 = .ok (.istore_n 3, 1) := dk_62 (dk_at dksX2_ticksTo_3 16 rfl rfl)
theorem dX2_ticksTo_87 : decode cX2_ticksTo 87 = .ok (.iinc 6 1, 3) := dk_132 6 1 (dk_at dksX2_ticksTo_3 17 rfl rfl)
theorem dX2_ticksTo_90 : decode cX2_ticksTo 90 = .ok (.goto (-23), 3) := dk_167 255 233 (dk_at dksX2_ticksTo_3 20 rfl rfl)
theorem dX2_ticksTo_93 : decode cX2_ticksTo 93 = .ok (.iload_n 3, 1) := dk_29 (dk_at dksX2_ticksTo_3 23 rfl rfl)
theorem dX2_ticksTo_94 : decode cX2_ticksTo 94 = .ok (.istore 6, 2) := dk_54 6 (dk_at dksX2_ticksTo_4 0 rfl rfl)
theorem dX2_ticksTo_96 : decode cX2_ticksTo 96 = .ok (.iload 4, 2) := dk_21 4 (dk_at dksX2_ticksTo_4 2 rfl rfl)
theorem dX2_ticksTo_98 : decode cX2_ticksTo 98 = .ok (.istore 7, 2) := dk_54 7 (dk_at dksX2_ticksTo_4 4 rfl rfl)
theorem dX2_ticksTo_100 : decode cX2_ticksTo 100 = .ok (.iload 7, 2) := dk_21 7 (dk_at dksX2_ticksTo_4 6 rfl rfl)
theorem dX2_ticksTo_102 : decode cX2_ticksTo 102 = .ok (.iload 6, 2) := dk_21 6 (dk_at dksX2_ticksTo_4 8 rfl rfl)
theorem dX2_ticksTo_104 : decode cX2_ticksTo 104 = .ok (.if_icmp .ge 49, 3) := dk_162 0 49 (dk_at dksX2_ticksTo_4 10 rfl rfl)
theorem dX2_ticksTo_107 : decode cX2_ticksTo 107 = .ok (.aload_n 0, 1) := dk_42 (dk_at dksX2_ticksTo_4 13 rfl rfl)
theorem dX2_ticksTo_108 : decode cX2_ticksTo 108 = .ok (.aload_n 2, 1) := dk_44 (dk_at dksX2_ticksTo_4 14 rfl rfl)
theorem dX2_ticksTo_109 : decode cX2_ticksTo 109 = .ok (.iload 7, 2) := dk_21 7 (dk_at dksX2_ticksTo_4 15 rfl rfl)
theorem dX2_ticksTo_111 : decode cX2_ticksTo 111 = .ok (.iaload, 1) := dk_46 (dk_at dksX2_ticksTo_4 17 rfl rfl)
theorem dX2_ticksTo_112 : decode cX2_ticksTo 112 = .ok (.invokevirtual 163, 3) := dk_182 0 163 (dk_at dksX2_ticksTo_4 18 rfl rfl)
theorem dX2_ticksTo_115 : decode cX2_ticksTo 115 = .ok (.istore 8, 2) := dk_54 8 (dk_at dksX2_ticksTo_4 21 rfl rfl)
theorem dX2_ticksTo_117 : decode cX2_ticksTo 117 = .ok (.iload 8, 2) := dk_21 8 (dk_at dksX2_ticksTo_5 0 rfl rfl)
theorem dX2_ticksTo_119 : decode cX2_ticksTo 119 = .ok (.iconst (-1), 1) := dk_2 (dk_at dksX2_ticksTo_5 2 rfl rfl)
theorem dX2_ticksTo_120 : decode cX2_ticksTo 120 = .ok (.if_icmp .eq 27, 3) := dk_159 0 27 (dk_at dksX2_ticksTo_5 3 rfl rfl)
theorem dX2_ticksTo_123 : decode cX2_ticksTo 123 = .ok (.aload_n 1, 1) := dk_43 (dk_at dksX2_ticksTo_5 6 rfl rfl)
theorem dX2_ticksTo_124 : decode cX2_ticksTo 124 = .ok (.iload 8, 2) := dk_21 8 (dk_at dksX2_ticksTo_5 7 rfl rfl)
theorem dX2_ticksTo_126 : decode cX2_ticksTo 126 = .ok (.iaload, 1) := dk_46 (dk_at dksX2_ticksTo_5 9 rfl rfl)
theorem dX2_ticksTo_127 : decode cX2_ticksTo 127 = .ok (.iconst (-1), 1) := dk_2 (dk_at dksX2_ticksTo_5 10 rfl rfl)
theorem dX2_ticksTo_128 : decode cX2_ticksTo 128 = .ok (.if_icmp .ne 19, 3) := dk_160 0 19 (dk_at dksX2_ticksTo_5 11 rfl rfl)
theorem dX2_ticksTo_131 : decode cX2_ticksTo 131 = .ok (.aload_n 1, 1) := dk_43 (dk_at dksX2_ticksTo_5 14 rfl rfl)
theorem dX2_ticksTo_132 : decode cX2_ticksTo 132 = .ok (.iload 8, 2) := dk_21 8 (dk_at dksX2_ticksTo_5 15 rfl rfl)
theorem dX2_ticksTo_134 : decode cX2_ticksTo 134 = .ok (.iload 5, 2) := dk_21 5 (dk_at dksX2_ticksTo_5 17 rfl rfl)
theorem dX2_ticksTo_136 : decode cX2_ticksTo 136 = .ok (.iconst 1, 1) := dk_4 (dk_at dksX2_ticksTo_5 19 rfl rfl)
theorem dX2_ticksTo_137 : decode cX2_ticksTo 137 = .ok (.iadd, 1) := dk_96 (dk_at dksX2_ticksTo_5 20 rfl rfl)
theorem dX2_ticksTo_138 : decode cX2_ticksTo 138 = .ok (.iastore, 1) := dk_79 (dk_at dksX2_ticksTo_5 21 rfl rfl)
theorem dX2_ticksTo_139 : decode cX2_ticksTo 139 = .ok (.aload_n 2, 1) := dk_44 (dk_at dksX2_ticksTo_5 22 rfl rfl)
theorem dX2_ticksTo_140 : decode cX2_ticksTo 140 = .ok (.iload_n 3, 1) := dk_29 (dk_at dksX2_ticksTo_5 23 rfl rfl)
theorem dX2_ticksTo_141 : decode cX2_ticksTo 141 = .ok (.iload 8, 2) := dk_21 8 (dk_at dksX2_ticksTo_6 0 rfl rfl)
theorem dX2_ticksTo_143 : decode cX2_ticksTo 143 = .ok (.iastore, 1) := dk_79 (dk_at dksX2_ticksTo_6 2 rfl rfl)
theorem dX2_ticksTo_144 : decode cX2_ticksTo 144 = .ok (.iinc 3 1, 3) := dk_132 3 1 (dk_at dksX2_ticksTo_6 3 rfl rfl)
theorem dX2_ticksTo_147 : decode cX2_ticksTo 147 = .ok (.iinc 7 1, 3) := dk_132 7 1 (dk_at dksX2_ticksTo_6 6 rfl rfl)
theorem dX2_ticksTo_150 : decode cX2_ticksTo 150 = .ok (.goto (-50), 3) := dk_167 255 206 (dk_at dksX2_ticksTo_6 9 rfl rfl)
theorem dX2_ticksTo_153 : decode cX2_ticksTo 153 = .ok (.iload 6, 2) := dk_21 6 (dk_at dksX2_ticksTo_6 12 rfl rfl)
theorem dX2_ticksTo_155 : decode cX2_ticksTo 155 = .ok (.istore 4, 2) := dk_54 4 (dk_at dksX2_ticksTo_6 14 rfl rfl)
theorem dX2_ticksTo_157 : decode cX2_ticksTo 157 = .ok (.iinc 5 1, 3) := dk_132 5 1 (dk_at dksX2_ticksTo_6 16 rfl rfl)
theorem dX2_ticksTo_160 : decode cX2_ticksTo 160 = .ok (.goto (-103), 3) := dk_167 255 153 (dk_at dksX2_ticksTo_6 19 rfl rfl)
theorem dX2_ticksTo_163 : decode cX2_ticksTo 163 = .ok (.aload_n 1, 1) := dk_43 (dk_at dksX2_ticksTo_6 22 rfl rfl)
theorem dX2_ticksTo_164 : decode cX2_ticksTo 164 = .ok (.areturn, 1) := dk_176 (dk_at dksX2_ticksTo_6 23 rfl rfl)
abbrev cX2_allowed : ByteArray := prog_2_method_11_code
def yX2_allowed : MethodName := ⟨RX2, "allowed", "(I)I"⟩
def dkwX2_allowed_2 : List UInt8 := [132, 3, 1, 167, 255, 211, 28, 153, 0, 7, 27, 167, 0, 4, 2, 172]
abbrev dktX2_allowed_2 : List UInt8 := dkwX2_allowed_2 ++ []
def dkwX2_allowed_1 : List UInt8 := [16, 10, 159, 0, 13, 27, 29, 184, 0, 136, 21, 4, 163, 0, 7, 4, 167, 0, 4, 3, 126, 61]
abbrev dktX2_allowed_1 : List UInt8 := dkwX2_allowed_1 ++ dktX2_allowed_2
def dkwX2_allowed_0 : List UInt8 := [4, 61, 3, 62, 29, 6, 162, 0, 46, 42, 27, 17, 5, 51, 108, 29, 182, 0, 66, 54, 4, 28, 21, 4]
abbrev dktX2_allowed_0 : List UInt8 := dkwX2_allowed_0 ++ dktX2_allowed_1
theorem dksX2_allowed_0 : cX2_allowed.data.toList.drop 0 = dktX2_allowed_0 := by decide +kernel
theorem dksX2_allowed_1 : cX2_allowed.data.toList.drop 24 = dktX2_allowed_1 := dk_seg dksX2_allowed_0 24 rfl rfl
theorem dksX2_allowed_2 : cX2_allowed.data.toList.drop 46 = dktX2_allowed_2 := dk_seg dksX2_allowed_1 22 rfl rfl
theorem dX2_allowed_0 : decode cX2_allowed 0 = .ok (.iconst 1, 1) := dk_4 (dk_at dksX2_allowed_0 0 rfl rfl)
theorem dX2_allowed_1 : decode cX2_allowed 1 = .ok (.istore_n 2, 1) := dk_61 (dk_at dksX2_allowed_0 1 rfl rfl)
theorem dX2_allowed_2 : decode cX2_allowed 2 = .ok (.iconst 0, 1) := dk_3 (dk_at dksX2_allowed_0 2 rfl rfl)
theorem dX2_allowed_3 : decode cX2_allowed 3 = .ok (.istore_n 3, 1) := dk_62 (dk_at dksX2_allowed_0 3 rfl rfl)
theorem dX2_allowed_4 : decode cX2_allowed 4 = .ok (.iload_n 3, 1) := dk_29 (dk_at dksX2_allowed_0 4 rfl rfl)
theorem dX2_allowed_5 : decode cX2_allowed 5 = .ok (.iconst 3, 1) := dk_6 (dk_at dksX2_allowed_0 5 rfl rfl)
theorem dX2_allowed_6 : decode cX2_allowed 6 = .ok (.if_icmp .ge 46, 3) := dk_162 0 46 (dk_at dksX2_allowed_0 6 rfl rfl)
theorem dX2_allowed_9 : decode cX2_allowed 9 = .ok (.aload_n 0, 1) := dk_42 (dk_at dksX2_allowed_0 9 rfl rfl)
theorem dX2_allowed_10 : decode cX2_allowed 10 = .ok (.iload_n 1, 1) := dk_27 (dk_at dksX2_allowed_0 10 rfl rfl)
theorem dX2_allowed_11 : decode cX2_allowed 11 = .ok (.sipush 1331, 3) := dk_17 5 51 (dk_at dksX2_allowed_0 11 rfl rfl)
theorem dX2_allowed_14 : decode cX2_allowed 14 = .ok (.idiv, 1) := dk_108 (dk_at dksX2_allowed_0 14 rfl rfl)
theorem dX2_allowed_15 : decode cX2_allowed 15 = .ok (.iload_n 3, 1) := dk_29 (dk_at dksX2_allowed_0 15 rfl rfl)
theorem dX2_allowed_16 : decode cX2_allowed 16 = .ok (.invokevirtual 66, 3) := dk_182 0 66 (dk_at dksX2_allowed_0 16 rfl rfl)
theorem dX2_allowed_19 : decode cX2_allowed 19 = .ok (.istore 4, 2) := dk_54 4 (dk_at dksX2_allowed_0 19 rfl rfl)
theorem dX2_allowed_21 : decode cX2_allowed 21 = .ok (.iload_n 2, 1) := dk_28 (dk_at dksX2_allowed_0 21 rfl rfl)
theorem dX2_allowed_22 : decode cX2_allowed 22 = .ok (.iload 4, 2) := dk_21 4 (dk_at dksX2_allowed_0 22 rfl rfl)
theorem dX2_allowed_24 : decode cX2_allowed 24 = .ok (.bipush 10, 2) := dk_16 10 (dk_at dksX2_allowed_1 0 rfl rfl)
theorem dX2_allowed_26 : decode cX2_allowed 26 = .ok (.if_icmp .eq 13, 3) := dk_159 0 13 (dk_at dksX2_allowed_1 2 rfl rfl)
theorem dX2_allowed_29 : decode cX2_allowed 29 = .ok (.iload_n 1, 1) := dk_27 (dk_at dksX2_allowed_1 5 rfl rfl)
theorem dX2_allowed_30 : decode cX2_allowed 30 = .ok (.iload_n 3, 1) := dk_29 (dk_at dksX2_allowed_1 6 rfl rfl)
theorem dX2_allowed_31 : decode cX2_allowed 31 = .ok (.invokestatic 136, 3) := dk_184 0 136 (dk_at dksX2_allowed_1 7 rfl rfl)
theorem dX2_allowed_34 : decode cX2_allowed 34 = .ok (.iload 4, 2) := dk_21 4 (dk_at dksX2_allowed_1 10 rfl rfl)
theorem dX2_allowed_36 : decode cX2_allowed 36 = .ok (.if_icmp .gt 7, 3) := dk_163 0 7 (dk_at dksX2_allowed_1 12 rfl rfl)
theorem dX2_allowed_39 : decode cX2_allowed 39 = .ok (.iconst 1, 1) := dk_4 (dk_at dksX2_allowed_1 15 rfl rfl)
theorem dX2_allowed_40 : decode cX2_allowed 40 = .ok (.goto 4, 3) := dk_167 0 4 (dk_at dksX2_allowed_1 16 rfl rfl)
theorem dX2_allowed_43 : decode cX2_allowed 43 = .ok (.iconst 0, 1) := dk_3 (dk_at dksX2_allowed_1 19 rfl rfl)
theorem dX2_allowed_44 : decode cX2_allowed 44 = .ok (.iand, 1) := dk_126 (dk_at dksX2_allowed_1 20 rfl rfl)
theorem dX2_allowed_45 : decode cX2_allowed 45 = .ok (.istore_n 2, 1) := dk_61 (dk_at dksX2_allowed_1 21 rfl rfl)
theorem dX2_allowed_46 : decode cX2_allowed 46 = .ok (.iinc 3 1, 3) := dk_132 3 1 (dk_at dksX2_allowed_2 0 rfl rfl)
theorem dX2_allowed_49 : decode cX2_allowed 49 = .ok (.goto (-45), 3) := dk_167 255 211 (dk_at dksX2_allowed_2 3 rfl rfl)
theorem dX2_allowed_52 : decode cX2_allowed 52 = .ok (.iload_n 2, 1) := dk_28 (dk_at dksX2_allowed_2 6 rfl rfl)
theorem dX2_allowed_53 : decode cX2_allowed 53 = .ok (.ifCond .eq 7, 3) := dk_153 0 7 (dk_at dksX2_allowed_2 7 rfl rfl)
theorem dX2_allowed_56 : decode cX2_allowed 56 = .ok (.iload_n 1, 1) := dk_27 (dk_at dksX2_allowed_2 10 rfl rfl)
theorem dX2_allowed_57 : decode cX2_allowed 57 = .ok (.goto 4, 3) := dk_167 0 4 (dk_at dksX2_allowed_2 11 rfl rfl)
theorem dX2_allowed_60 : decode cX2_allowed 60 = .ok (.iconst (-1), 1) := dk_2 (dk_at dksX2_allowed_2 14 rfl rfl)
theorem dX2_allowed_61 : decode cX2_allowed 61 = .ok (.ireturn, 1) := dk_172 (dk_at dksX2_allowed_2 15 rfl rfl)
abbrev cX2_spreads : ByteArray := prog_2_method_15_code
def yX2_spreads : MethodName := ⟨RX2, "spreads", "(III[I[I)I"⟩
def dkwX2_spreads_3 : List UInt8 := [167, 255, 191, 21, 6, 172]
abbrev dktX2_spreads_3 : List UInt8 := dkwX2_spreads_3 ++ []
def dkwX2_spreads_2 : List UInt8 := [2, 160, 0, 19, 25, 4, 21, 8, 28, 79, 25, 5, 21, 6, 21, 8, 79, 132, 6, 1, 132, 7, 1]
abbrev dktX2_spreads_2 : List UInt8 := dkwX2_spreads_2 ++ dktX2_spreads_3
def dkwX2_spreads_1 : List UInt8 := [21, 7, 182, 0, 44, 192, 0, 42, 182, 0, 166, 54, 8, 21, 8, 2, 159, 0, 28, 25, 4, 21, 8, 46]
abbrev dktX2_spreads_1 : List UInt8 := dkwX2_spreads_1 ++ dktX2_spreads_2
def dkwX2_spreads_0 : List UInt8 := [29, 54, 6, 3, 54, 7, 21, 7, 42, 180, 0, 12, 182, 0, 38, 162, 0, 59, 42, 27, 42, 180, 0, 12]
abbrev dktX2_spreads_0 : List UInt8 := dkwX2_spreads_0 ++ dktX2_spreads_1
theorem dksX2_spreads_0 : cX2_spreads.data.toList.drop 0 = dktX2_spreads_0 := by decide +kernel
theorem dksX2_spreads_1 : cX2_spreads.data.toList.drop 24 = dktX2_spreads_1 := dk_seg dksX2_spreads_0 24 rfl rfl
theorem dksX2_spreads_2 : cX2_spreads.data.toList.drop 48 = dktX2_spreads_2 := dk_seg dksX2_spreads_1 24 rfl rfl
theorem dksX2_spreads_3 : cX2_spreads.data.toList.drop 71 = dktX2_spreads_3 := dk_seg dksX2_spreads_2 23 rfl rfl
theorem dX2_spreads_0 : decode cX2_spreads 0 = .ok (.iload_n 3, 1) := dk_29 (dk_at dksX2_spreads_0 0 rfl rfl)
theorem dX2_spreads_1 : decode cX2_spreads 1 = .ok (.istore 6, 2) := dk_54 6 (dk_at dksX2_spreads_0 1 rfl rfl)
theorem dX2_spreads_3 : decode cX2_spreads 3 = .ok (.iconst 0, 1) := dk_3 (dk_at dksX2_spreads_0 3 rfl rfl)
theorem dX2_spreads_4 : decode cX2_spreads 4 = .ok (.istore 7, 2) := dk_54 7 (dk_at dksX2_spreads_0 4 rfl rfl)
theorem dX2_spreads_6 : decode cX2_spreads 6 = .ok (.iload 7, 2) := dk_21 7 (dk_at dksX2_spreads_0 6 rfl rfl)
theorem dX2_spreads_8 : decode cX2_spreads 8 = .ok (.aload_n 0, 1) := dk_42 (dk_at dksX2_spreads_0 8 rfl rfl)
theorem dX2_spreads_9 : decode cX2_spreads 9 = .ok (.getfield 12, 3) := dk_180 0 12 (dk_at dksX2_spreads_0 9 rfl rfl)
theorem dX2_spreads_12 : decode cX2_spreads 12 = .ok (.invokevirtual 38, 3) := dk_182 0 38 (dk_at dksX2_spreads_0 12 rfl rfl)
theorem dX2_spreads_15 : decode cX2_spreads 15 = .ok (.if_icmp .ge 59, 3) := dk_162 0 59 (dk_at dksX2_spreads_0 15 rfl rfl)
theorem dX2_spreads_18 : decode cX2_spreads 18 = .ok (.aload_n 0, 1) := dk_42 (dk_at dksX2_spreads_0 18 rfl rfl)
theorem dX2_spreads_19 : decode cX2_spreads 19 = .ok (.iload_n 1, 1) := dk_27 (dk_at dksX2_spreads_0 19 rfl rfl)
theorem dX2_spreads_20 : decode cX2_spreads 20 = .ok (.aload_n 0, 1) := dk_42 (dk_at dksX2_spreads_0 20 rfl rfl)
theorem dX2_spreads_21 : decode cX2_spreads 21 = .ok (.getfield 12, 3) := dk_180 0 12 (dk_at dksX2_spreads_0 21 rfl rfl)
theorem dX2_spreads_24 : decode cX2_spreads 24 = .ok (.iload 7, 2) := dk_21 7 (dk_at dksX2_spreads_1 0 rfl rfl)
theorem dX2_spreads_26 : decode cX2_spreads 26 = .ok (.invokevirtual 44, 3) := dk_182 0 44 (dk_at dksX2_spreads_1 2 rfl rfl)
theorem dX2_spreads_29 : decode cX2_spreads 29 = .ok (.checkcast 42, 3) := dk_192 0 42 (dk_at dksX2_spreads_1 5 rfl rfl)
theorem dX2_spreads_32 : decode cX2_spreads 32 = .ok (.invokevirtual 166, 3) := dk_182 0 166 (dk_at dksX2_spreads_1 8 rfl rfl)
theorem dX2_spreads_35 : decode cX2_spreads 35 = .ok (.istore 8, 2) := dk_54 8 (dk_at dksX2_spreads_1 11 rfl rfl)
theorem dX2_spreads_37 : decode cX2_spreads 37 = .ok (.iload 8, 2) := dk_21 8 (dk_at dksX2_spreads_1 13 rfl rfl)
theorem dX2_spreads_39 : decode cX2_spreads 39 = .ok (.iconst (-1), 1) := dk_2 (dk_at dksX2_spreads_1 15 rfl rfl)
theorem dX2_spreads_40 : decode cX2_spreads 40 = .ok (.if_icmp .eq 28, 3) := dk_159 0 28 (dk_at dksX2_spreads_1 16 rfl rfl)
theorem dX2_spreads_43 : decode cX2_spreads 43 = .ok (.aload 4, 2) := dk_25 4 (dk_at dksX2_spreads_1 19 rfl rfl)
theorem dX2_spreads_45 : decode cX2_spreads 45 = .ok (.iload 8, 2) := dk_21 8 (dk_at dksX2_spreads_1 21 rfl rfl)
theorem dX2_spreads_47 : decode cX2_spreads 47 = .ok (.iaload, 1) := dk_46 (dk_at dksX2_spreads_1 23 rfl rfl)
theorem dX2_spreads_48 : decode cX2_spreads 48 = .ok (.iconst (-1), 1) := dk_2 (dk_at dksX2_spreads_2 0 rfl rfl)
theorem dX2_spreads_49 : decode cX2_spreads 49 = .ok (.if_icmp .ne 19, 3) := dk_160 0 19 (dk_at dksX2_spreads_2 1 rfl rfl)
theorem dX2_spreads_52 : decode cX2_spreads 52 = .ok (.aload 4, 2) := dk_25 4 (dk_at dksX2_spreads_2 4 rfl rfl)
theorem dX2_spreads_54 : decode cX2_spreads 54 = .ok (.iload 8, 2) := dk_21 8 (dk_at dksX2_spreads_2 6 rfl rfl)
theorem dX2_spreads_56 : decode cX2_spreads 56 = .ok (.iload_n 2, 1) := dk_28 (dk_at dksX2_spreads_2 8 rfl rfl)
theorem dX2_spreads_57 : decode cX2_spreads 57 = .ok (.iastore, 1) := dk_79 (dk_at dksX2_spreads_2 9 rfl rfl)
theorem dX2_spreads_58 : decode cX2_spreads 58 = .ok (.aload 5, 2) := dk_25 5 (dk_at dksX2_spreads_2 10 rfl rfl)
theorem dX2_spreads_60 : decode cX2_spreads 60 = .ok (.iload 6, 2) := dk_21 6 (dk_at dksX2_spreads_2 12 rfl rfl)
theorem dX2_spreads_62 : decode cX2_spreads 62 = .ok (.iload 8, 2) := dk_21 8 (dk_at dksX2_spreads_2 14 rfl rfl)
theorem dX2_spreads_64 : decode cX2_spreads 64 = .ok (.iastore, 1) := dk_79 (dk_at dksX2_spreads_2 16 rfl rfl)
theorem dX2_spreads_65 : decode cX2_spreads 65 = .ok (.iinc 6 1, 3) := dk_132 6 1 (dk_at dksX2_spreads_2 17 rfl rfl)
theorem dX2_spreads_68 : decode cX2_spreads 68 = .ok (.iinc 7 1, 3) := dk_132 7 1 (dk_at dksX2_spreads_2 20 rfl rfl)
theorem dX2_spreads_71 : decode cX2_spreads 71 = .ok (.goto (-65), 3) := dk_167 255 191 (dk_at dksX2_spreads_3 0 rfl rfl)
theorem dX2_spreads_74 : decode cX2_spreads 74 = .ok (.iload 6, 2) := dk_21 6 (dk_at dksX2_spreads_3 3 rfl rfl)
theorem dX2_spreads_76 : decode cX2_spreads 76 = .ok (.ireturn, 1) := dk_172 (dk_at dksX2_spreads_3 5 rfl rfl)
abbrev cX2_moved : ByteArray := prog_2_method_13_code
def yX2_moved : MethodName := ⟨RX2, "moved", "(ILFerryClocks$Line;)I"⟩
def dkwX2_moved_3 : List UInt8 := [5, 184, 0, 136, 54, 5, 42, 44, 180, 0, 126, 29, 21, 4, 21, 5, 184, 0, 144, 182, 0, 148, 172]
abbrev dktX2_moved_3 : List UInt8 := dkwX2_moved_3 ++ []
def dkwX2_moved_2 : List UInt8 := [3, 167, 0, 8, 27, 4, 184, 0, 136, 54, 4, 44, 5, 182, 0, 156, 153, 0, 7, 3, 167, 0, 8, 27]
abbrev dktX2_moved_2 : List UInt8 := dkwX2_moved_2 ++ dktX2_moved_3
def dkwX2_moved_1 : List UInt8 := [182, 0, 156, 153, 0, 7, 3, 167, 0, 8, 27, 3, 184, 0, 136, 62, 44, 4, 182, 0, 156, 153, 0, 7]
abbrev dktX2_moved_1 : List UInt8 := dkwX2_moved_1 ++ dktX2_moved_2
def dkwX2_moved_0 : List UInt8 := [44, 180, 0, 119, 27, 17, 5, 51, 108, 160, 0, 11, 44, 27, 182, 0, 152, 154, 0, 5, 2, 172, 44, 3]
abbrev dktX2_moved_0 : List UInt8 := dkwX2_moved_0 ++ dktX2_moved_1
theorem dksX2_moved_0 : cX2_moved.data.toList.drop 0 = dktX2_moved_0 := by decide +kernel
theorem dksX2_moved_1 : cX2_moved.data.toList.drop 24 = dktX2_moved_1 := dk_seg dksX2_moved_0 24 rfl rfl
theorem dksX2_moved_2 : cX2_moved.data.toList.drop 48 = dktX2_moved_2 := dk_seg dksX2_moved_1 24 rfl rfl
theorem dksX2_moved_3 : cX2_moved.data.toList.drop 72 = dktX2_moved_3 := dk_seg dksX2_moved_2 24 rfl rfl
theorem dX2_moved_0 : decode cX2_moved 0 = .ok (.aload_n 2, 1) := dk_44 (dk_at dksX2_moved_0 0 rfl rfl)
theorem dX2_moved_1 : decode cX2_moved 1 = .ok (.getfield 119, 3) := dk_180 0 119 (dk_at dksX2_moved_0 1 rfl rfl)
theorem dX2_moved_4 : decode cX2_moved 4 = .ok (.iload_n 1, 1) := dk_27 (dk_at dksX2_moved_0 4 rfl rfl)
theorem dX2_moved_5 : decode cX2_moved 5 = .ok (.sipush 1331, 3) := dk_17 5 51 (dk_at dksX2_moved_0 5 rfl rfl)
theorem dX2_moved_8 : decode cX2_moved 8 = .ok (.idiv, 1) := dk_108 (dk_at dksX2_moved_0 8 rfl rfl)
theorem dX2_moved_9 : decode cX2_moved 9 = .ok (.if_icmp .ne 11, 3) := dk_160 0 11 (dk_at dksX2_moved_0 9 rfl rfl)
theorem dX2_moved_12 : decode cX2_moved 12 = .ok (.aload_n 2, 1) := dk_44 (dk_at dksX2_moved_0 12 rfl rfl)
theorem dX2_moved_13 : decode cX2_moved 13 = .ok (.iload_n 1, 1) := dk_27 (dk_at dksX2_moved_0 13 rfl rfl)
theorem dX2_moved_14 : decode cX2_moved 14 = .ok (.invokevirtual 152, 3) := dk_182 0 152 (dk_at dksX2_moved_0 14 rfl rfl)
theorem dX2_moved_17 : decode cX2_moved 17 = .ok (.ifCond .ne 5, 3) := dk_154 0 5 (dk_at dksX2_moved_0 17 rfl rfl)
theorem dX2_moved_20 : decode cX2_moved 20 = .ok (.iconst (-1), 1) := dk_2 (dk_at dksX2_moved_0 20 rfl rfl)
theorem dX2_moved_21 : decode cX2_moved 21 = .ok (.ireturn, 1) := dk_172 (dk_at dksX2_moved_0 21 rfl rfl)
theorem dX2_moved_22 : decode cX2_moved 22 = .ok (.aload_n 2, 1) := dk_44 (dk_at dksX2_moved_0 22 rfl rfl)
theorem dX2_moved_23 : decode cX2_moved 23 = .ok (.iconst 0, 1) := dk_3 (dk_at dksX2_moved_0 23 rfl rfl)
theorem dX2_moved_24 : decode cX2_moved 24 = .ok (.invokevirtual 156, 3) := dk_182 0 156 (dk_at dksX2_moved_1 0 rfl rfl)
theorem dX2_moved_27 : decode cX2_moved 27 = .ok (.ifCond .eq 7, 3) := dk_153 0 7 (dk_at dksX2_moved_1 3 rfl rfl)
theorem dX2_moved_30 : decode cX2_moved 30 = .ok (.iconst 0, 1) := dk_3 (dk_at dksX2_moved_1 6 rfl rfl)
theorem dX2_moved_31 : decode cX2_moved 31 = .ok (.goto 8, 3) := dk_167 0 8 (dk_at dksX2_moved_1 7 rfl rfl)
theorem dX2_moved_34 : decode cX2_moved 34 = .ok (.iload_n 1, 1) := dk_27 (dk_at dksX2_moved_1 10 rfl rfl)
theorem dX2_moved_35 : decode cX2_moved 35 = .ok (.iconst 0, 1) := dk_3 (dk_at dksX2_moved_1 11 rfl rfl)
theorem dX2_moved_36 : decode cX2_moved 36 = .ok (.invokestatic 136, 3) := dk_184 0 136 (dk_at dksX2_moved_1 12 rfl rfl)
theorem dX2_moved_39 : decode cX2_moved 39 = .ok (.istore_n 3, 1) := dk_62 (dk_at dksX2_moved_1 15 rfl rfl)
theorem dX2_moved_40 : decode cX2_moved 40 = .ok (.aload_n 2, 1) := dk_44 (dk_at dksX2_moved_1 16 rfl rfl)
theorem dX2_moved_41 : decode cX2_moved 41 = .ok (.iconst 1, 1) := dk_4 (dk_at dksX2_moved_1 17 rfl rfl)
theorem dX2_moved_42 : decode cX2_moved 42 = .ok (.invokevirtual 156, 3) := dk_182 0 156 (dk_at dksX2_moved_1 18 rfl rfl)
theorem dX2_moved_45 : decode cX2_moved 45 = .ok (.ifCond .eq 7, 3) := dk_153 0 7 (dk_at dksX2_moved_1 21 rfl rfl)
theorem dX2_moved_48 : decode cX2_moved 48 = .ok (.iconst 0, 1) := dk_3 (dk_at dksX2_moved_2 0 rfl rfl)
theorem dX2_moved_49 : decode cX2_moved 49 = .ok (.goto 8, 3) := dk_167 0 8 (dk_at dksX2_moved_2 1 rfl rfl)
theorem dX2_moved_52 : decode cX2_moved 52 = .ok (.iload_n 1, 1) := dk_27 (dk_at dksX2_moved_2 4 rfl rfl)
theorem dX2_moved_53 : decode cX2_moved 53 = .ok (.iconst 1, 1) := dk_4 (dk_at dksX2_moved_2 5 rfl rfl)
theorem dX2_moved_54 : decode cX2_moved 54 = .ok (.invokestatic 136, 3) := dk_184 0 136 (dk_at dksX2_moved_2 6 rfl rfl)
theorem dX2_moved_57 : decode cX2_moved 57 = .ok (.istore 4, 2) := dk_54 4 (dk_at dksX2_moved_2 9 rfl rfl)
theorem dX2_moved_59 : decode cX2_moved 59 = .ok (.aload_n 2, 1) := dk_44 (dk_at dksX2_moved_2 11 rfl rfl)
theorem dX2_moved_60 : decode cX2_moved 60 = .ok (.iconst 2, 1) := dk_5 (dk_at dksX2_moved_2 12 rfl rfl)
theorem dX2_moved_61 : decode cX2_moved 61 = .ok (.invokevirtual 156, 3) := dk_182 0 156 (dk_at dksX2_moved_2 13 rfl rfl)
theorem dX2_moved_64 : decode cX2_moved 64 = .ok (.ifCond .eq 7, 3) := dk_153 0 7 (dk_at dksX2_moved_2 16 rfl rfl)
theorem dX2_moved_67 : decode cX2_moved 67 = .ok (.iconst 0, 1) := dk_3 (dk_at dksX2_moved_2 19 rfl rfl)
theorem dX2_moved_68 : decode cX2_moved 68 = .ok (.goto 8, 3) := dk_167 0 8 (dk_at dksX2_moved_2 20 rfl rfl)
theorem dX2_moved_71 : decode cX2_moved 71 = .ok (.iload_n 1, 1) := dk_27 (dk_at dksX2_moved_2 23 rfl rfl)
theorem dX2_moved_72 : decode cX2_moved 72 = .ok (.iconst 2, 1) := dk_5 (dk_at dksX2_moved_3 0 rfl rfl)
theorem dX2_moved_73 : decode cX2_moved 73 = .ok (.invokestatic 136, 3) := dk_184 0 136 (dk_at dksX2_moved_3 1 rfl rfl)
theorem dX2_moved_76 : decode cX2_moved 76 = .ok (.istore 5, 2) := dk_54 5 (dk_at dksX2_moved_3 4 rfl rfl)
theorem dX2_moved_78 : decode cX2_moved 78 = .ok (.aload_n 0, 1) := dk_42 (dk_at dksX2_moved_3 6 rfl rfl)
theorem dX2_moved_79 : decode cX2_moved 79 = .ok (.aload_n 2, 1) := dk_44 (dk_at dksX2_moved_3 7 rfl rfl)
theorem dX2_moved_80 : decode cX2_moved 80 = .ok (.getfield 126, 3) := dk_180 0 126 (dk_at dksX2_moved_3 8 rfl rfl)
theorem dX2_moved_83 : decode cX2_moved 83 = .ok (.iload_n 3, 1) := dk_29 (dk_at dksX2_moved_3 11 rfl rfl)
theorem dX2_moved_84 : decode cX2_moved 84 = .ok (.iload 4, 2) := dk_21 4 (dk_at dksX2_moved_3 12 rfl rfl)
theorem dX2_moved_86 : decode cX2_moved 86 = .ok (.iload 5, 2) := dk_21 5 (dk_at dksX2_moved_3 14 rfl rfl)
theorem dX2_moved_88 : decode cX2_moved 88 = .ok (.invokestatic 144, 3) := dk_184 0 144 (dk_at dksX2_moved_3 16 rfl rfl)
theorem dX2_moved_91 : decode cX2_moved 91 = .ok (.invokevirtual 148, 3) := dk_182 0 148 (dk_at dksX2_moved_3 19 rfl rfl)
theorem dX2_moved_94 : decode cX2_moved 94 = .ok (.ireturn, 1) := dk_172 (dk_at dksX2_moved_3 22 rfl rfl)
abbrev cX2_ticked : ByteArray := prog_2_method_12_code
def yX2_ticked : MethodName := ⟨RX2, "ticked", "(I)I"⟩
def dkwX2_ticked_2 : List UInt8 := [28, 29, 21, 4, 184, 0, 144, 182, 0, 148, 172]
abbrev dktX2_ticked_2 : List UInt8 := dkwX2_ticked_2 ++ []
def dkwX2_ticked_1 : List UInt8 := [184, 0, 139, 62, 16, 10, 27, 5, 184, 0, 136, 4, 96, 184, 0, 139, 54, 4, 42, 27, 17, 5, 51, 108]
abbrev dktX2_ticked_1 : List UInt8 := dkwX2_ticked_1 ++ dktX2_ticked_2
def dkwX2_ticked_0 : List UInt8 := [16, 10, 27, 3, 184, 0, 136, 4, 96, 184, 0, 139, 61, 16, 10, 27, 4, 184, 0, 136, 4, 96]
abbrev dktX2_ticked_0 : List UInt8 := dkwX2_ticked_0 ++ dktX2_ticked_1
theorem dksX2_ticked_0 : cX2_ticked.data.toList.drop 0 = dktX2_ticked_0 := by decide +kernel
theorem dksX2_ticked_1 : cX2_ticked.data.toList.drop 22 = dktX2_ticked_1 := dk_seg dksX2_ticked_0 22 rfl rfl
theorem dksX2_ticked_2 : cX2_ticked.data.toList.drop 46 = dktX2_ticked_2 := dk_seg dksX2_ticked_1 24 rfl rfl
theorem dX2_ticked_0 : decode cX2_ticked 0 = .ok (.bipush 10, 2) := dk_16 10 (dk_at dksX2_ticked_0 0 rfl rfl)
theorem dX2_ticked_2 : decode cX2_ticked 2 = .ok (.iload_n 1, 1) := dk_27 (dk_at dksX2_ticked_0 2 rfl rfl)
theorem dX2_ticked_3 : decode cX2_ticked 3 = .ok (.iconst 0, 1) := dk_3 (dk_at dksX2_ticked_0 3 rfl rfl)
theorem dX2_ticked_4 : decode cX2_ticked 4 = .ok (.invokestatic 136, 3) := dk_184 0 136 (dk_at dksX2_ticked_0 4 rfl rfl)
theorem dX2_ticked_7 : decode cX2_ticked 7 = .ok (.iconst 1, 1) := dk_4 (dk_at dksX2_ticked_0 7 rfl rfl)
theorem dX2_ticked_8 : decode cX2_ticked 8 = .ok (.iadd, 1) := dk_96 (dk_at dksX2_ticked_0 8 rfl rfl)
theorem dX2_ticked_9 : decode cX2_ticked 9 = .ok (.invokestatic 139, 3) := dk_184 0 139 (dk_at dksX2_ticked_0 9 rfl rfl)
theorem dX2_ticked_12 : decode cX2_ticked 12 = .ok (.istore_n 2, 1) := dk_61 (dk_at dksX2_ticked_0 12 rfl rfl)
theorem dX2_ticked_13 : decode cX2_ticked 13 = .ok (.bipush 10, 2) := dk_16 10 (dk_at dksX2_ticked_0 13 rfl rfl)
theorem dX2_ticked_15 : decode cX2_ticked 15 = .ok (.iload_n 1, 1) := dk_27 (dk_at dksX2_ticked_0 15 rfl rfl)
theorem dX2_ticked_16 : decode cX2_ticked 16 = .ok (.iconst 1, 1) := dk_4 (dk_at dksX2_ticked_0 16 rfl rfl)
theorem dX2_ticked_17 : decode cX2_ticked 17 = .ok (.invokestatic 136, 3) := dk_184 0 136 (dk_at dksX2_ticked_0 17 rfl rfl)
theorem dX2_ticked_20 : decode cX2_ticked 20 = .ok (.iconst 1, 1) := dk_4 (dk_at dksX2_ticked_0 20 rfl rfl)
theorem dX2_ticked_21 : decode cX2_ticked 21 = .ok (.iadd, 1) := dk_96 (dk_at dksX2_ticked_0 21 rfl rfl)
theorem dX2_ticked_22 : decode cX2_ticked 22 = .ok (.invokestatic 139, 3) := dk_184 0 139 (dk_at dksX2_ticked_1 0 rfl rfl)
theorem dX2_ticked_25 : decode cX2_ticked 25 = .ok (.istore_n 3, 1) := dk_62 (dk_at dksX2_ticked_1 3 rfl rfl)
theorem dX2_ticked_26 : decode cX2_ticked 26 = .ok (.bipush 10, 2) := dk_16 10 (dk_at dksX2_ticked_1 4 rfl rfl)
theorem dX2_ticked_28 : decode cX2_ticked 28 = .ok (.iload_n 1, 1) := dk_27 (dk_at dksX2_ticked_1 6 rfl rfl)
theorem dX2_ticked_29 : decode cX2_ticked 29 = .ok (.iconst 2, 1) := dk_5 (dk_at dksX2_ticked_1 7 rfl rfl)
theorem dX2_ticked_30 : decode cX2_ticked 30 = .ok (.invokestatic 136, 3) := dk_184 0 136 (dk_at dksX2_ticked_1 8 rfl rfl)
theorem dX2_ticked_33 : decode cX2_ticked 33 = .ok (.iconst 1, 1) := dk_4 (dk_at dksX2_ticked_1 11 rfl rfl)
theorem dX2_ticked_34 : decode cX2_ticked 34 = .ok (.iadd, 1) := dk_96 (dk_at dksX2_ticked_1 12 rfl rfl)
theorem dX2_ticked_35 : decode cX2_ticked 35 = .ok (.invokestatic 139, 3) := dk_184 0 139 (dk_at dksX2_ticked_1 13 rfl rfl)
theorem dX2_ticked_38 : decode cX2_ticked 38 = .ok (.istore 4, 2) := dk_54 4 (dk_at dksX2_ticked_1 16 rfl rfl)
theorem dX2_ticked_40 : decode cX2_ticked 40 = .ok (.aload_n 0, 1) := dk_42 (dk_at dksX2_ticked_1 18 rfl rfl)
theorem dX2_ticked_41 : decode cX2_ticked 41 = .ok (.iload_n 1, 1) := dk_27 (dk_at dksX2_ticked_1 19 rfl rfl)
theorem dX2_ticked_42 : decode cX2_ticked 42 = .ok (.sipush 1331, 3) := dk_17 5 51 (dk_at dksX2_ticked_1 20 rfl rfl)
theorem dX2_ticked_45 : decode cX2_ticked 45 = .ok (.idiv, 1) := dk_108 (dk_at dksX2_ticked_1 23 rfl rfl)
theorem dX2_ticked_46 : decode cX2_ticked 46 = .ok (.iload_n 2, 1) := dk_28 (dk_at dksX2_ticked_2 0 rfl rfl)
theorem dX2_ticked_47 : decode cX2_ticked 47 = .ok (.iload_n 3, 1) := dk_29 (dk_at dksX2_ticked_2 1 rfl rfl)
theorem dX2_ticked_48 : decode cX2_ticked 48 = .ok (.iload 4, 2) := dk_21 4 (dk_at dksX2_ticked_2 2 rfl rfl)
theorem dX2_ticked_50 : decode cX2_ticked 50 = .ok (.invokestatic 144, 3) := dk_184 0 144 (dk_at dksX2_ticked_2 4 rfl rfl)
theorem dX2_ticked_53 : decode cX2_ticked 53 = .ok (.invokevirtual 148, 3) := dk_182 0 148 (dk_at dksX2_ticked_2 7 rfl rfl)
theorem dX2_ticked_56 : decode cX2_ticked 56 = .ok (.ireturn, 1) := dk_172 (dk_at dksX2_ticked_2 10 rfl rfl)
abbrev cX2_stuck : ByteArray := prog_2_method_19_code
def yX2_stuck : MethodName := ⟨RX2, "stuck", "()I"⟩
def dkwX2_stuck_3 : List UInt8 := [28, 172]
abbrev dktX2_stuck_3 : List UInt8 := dkwX2_stuck_3 ++ []
def dkwX2_stuck_2 : List UInt8 := [21, 4, 153, 0, 13, 4, 29, 17, 5, 51, 108, 120, 167, 0, 4, 3, 128, 61, 132, 3, 1, 167, 255, 197]
abbrev dktX2_stuck_2 : List UInt8 := dkwX2_stuck_2 ++ dktX2_stuck_3
def dkwX2_stuck_1 : List UInt8 := [182, 0, 163, 2, 160, 0, 15, 42, 29, 182, 0, 174, 154, 0, 7, 4, 167, 0, 4, 3, 54, 4, 28]
abbrev dktX2_stuck_1 : List UInt8 := dkwX2_stuck_1 ++ dktX2_stuck_2
def dkwX2_stuck_0 : List UInt8 := [42, 182, 0, 170, 76, 3, 61, 3, 62, 29, 43, 190, 162, 0, 59, 43, 29, 46, 2, 159, 0, 24, 42, 29]
abbrev dktX2_stuck_0 : List UInt8 := dkwX2_stuck_0 ++ dktX2_stuck_1
theorem dksX2_stuck_0 : cX2_stuck.data.toList.drop 0 = dktX2_stuck_0 := by decide +kernel
theorem dksX2_stuck_1 : cX2_stuck.data.toList.drop 24 = dktX2_stuck_1 := dk_seg dksX2_stuck_0 24 rfl rfl
theorem dksX2_stuck_2 : cX2_stuck.data.toList.drop 47 = dktX2_stuck_2 := dk_seg dksX2_stuck_1 23 rfl rfl
theorem dksX2_stuck_3 : cX2_stuck.data.toList.drop 71 = dktX2_stuck_3 := dk_seg dksX2_stuck_2 24 rfl rfl
theorem dX2_stuck_0 : decode cX2_stuck 0 = .ok (.aload_n 0, 1) := dk_42 (dk_at dksX2_stuck_0 0 rfl rfl)
theorem dX2_stuck_1 : decode cX2_stuck 1 = .ok (.invokevirtual 170, 3) := dk_182 0 170 (dk_at dksX2_stuck_0 1 rfl rfl)
theorem dX2_stuck_4 : decode cX2_stuck 4 = .ok (.astore_n 1, 1) := dk_76 (dk_at dksX2_stuck_0 4 rfl rfl)
theorem dX2_stuck_5 : decode cX2_stuck 5 = .ok (.iconst 0, 1) := dk_3 (dk_at dksX2_stuck_0 5 rfl rfl)
theorem dX2_stuck_6 : decode cX2_stuck 6 = .ok (.istore_n 2, 1) := dk_61 (dk_at dksX2_stuck_0 6 rfl rfl)
theorem dX2_stuck_7 : decode cX2_stuck 7 = .ok (.iconst 0, 1) := dk_3 (dk_at dksX2_stuck_0 7 rfl rfl)
theorem dX2_stuck_8 : decode cX2_stuck 8 = .ok (.istore_n 3, 1) := dk_62 (dk_at dksX2_stuck_0 8 rfl rfl)
theorem dX2_stuck_9 : decode cX2_stuck 9 = .ok (.iload_n 3, 1) := dk_29 (dk_at dksX2_stuck_0 9 rfl rfl)
theorem dX2_stuck_10 : decode cX2_stuck 10 = .ok (.aload_n 1, 1) := dk_43 (dk_at dksX2_stuck_0 10 rfl rfl)
theorem dX2_stuck_11 : decode cX2_stuck 11 = .ok (.arraylength, 1) := dk_190 (dk_at dksX2_stuck_0 11 rfl rfl)
theorem dX2_stuck_12 : decode cX2_stuck 12 = .ok (.if_icmp .ge 59, 3) := dk_162 0 59 (dk_at dksX2_stuck_0 12 rfl rfl)
theorem dX2_stuck_15 : decode cX2_stuck 15 = .ok (.aload_n 1, 1) := dk_43 (dk_at dksX2_stuck_0 15 rfl rfl)
theorem dX2_stuck_16 : decode cX2_stuck 16 = .ok (.iload_n 3, 1) := dk_29 (dk_at dksX2_stuck_0 16 rfl rfl)
theorem dX2_stuck_17 : decode cX2_stuck 17 = .ok (.iaload, 1) := dk_46 (dk_at dksX2_stuck_0 17 rfl rfl)
theorem dX2_stuck_18 : decode cX2_stuck 18 = .ok (.iconst (-1), 1) := dk_2 (dk_at dksX2_stuck_0 18 rfl rfl)
theorem dX2_stuck_19 : decode cX2_stuck 19 = .ok (.if_icmp .eq 24, 3) := dk_159 0 24 (dk_at dksX2_stuck_0 19 rfl rfl)
theorem dX2_stuck_22 : decode cX2_stuck 22 = .ok (.aload_n 0, 1) := dk_42 (dk_at dksX2_stuck_0 22 rfl rfl)
theorem dX2_stuck_23 : decode cX2_stuck 23 = .ok (.iload_n 3, 1) := dk_29 (dk_at dksX2_stuck_0 23 rfl rfl)
theorem dX2_stuck_24 : decode cX2_stuck 24 = .ok (.invokevirtual 163, 3) := dk_182 0 163 (dk_at dksX2_stuck_1 0 rfl rfl)
theorem dX2_stuck_27 : decode cX2_stuck 27 = .ok (.iconst (-1), 1) := dk_2 (dk_at dksX2_stuck_1 3 rfl rfl)
theorem dX2_stuck_28 : decode cX2_stuck 28 = .ok (.if_icmp .ne 15, 3) := dk_160 0 15 (dk_at dksX2_stuck_1 4 rfl rfl)
theorem dX2_stuck_31 : decode cX2_stuck 31 = .ok (.aload_n 0, 1) := dk_42 (dk_at dksX2_stuck_1 7 rfl rfl)
theorem dX2_stuck_32 : decode cX2_stuck 32 = .ok (.iload_n 3, 1) := dk_29 (dk_at dksX2_stuck_1 8 rfl rfl)
theorem dX2_stuck_33 : decode cX2_stuck 33 = .ok (.invokevirtual 174, 3) := dk_182 0 174 (dk_at dksX2_stuck_1 9 rfl rfl)
theorem dX2_stuck_36 : decode cX2_stuck 36 = .ok (.ifCond .ne 7, 3) := dk_154 0 7 (dk_at dksX2_stuck_1 12 rfl rfl)
theorem dX2_stuck_39 : decode cX2_stuck 39 = .ok (.iconst 1, 1) := dk_4 (dk_at dksX2_stuck_1 15 rfl rfl)
theorem dX2_stuck_40 : decode cX2_stuck 40 = .ok (.goto 4, 3) := dk_167 0 4 (dk_at dksX2_stuck_1 16 rfl rfl)
theorem dX2_stuck_43 : decode cX2_stuck 43 = .ok (.iconst 0, 1) := dk_3 (dk_at dksX2_stuck_1 19 rfl rfl)
theorem dX2_stuck_44 : decode cX2_stuck 44 = .ok (.istore 4, 2) := dk_54 4 (dk_at dksX2_stuck_1 20 rfl rfl)
theorem dX2_stuck_46 : decode cX2_stuck 46 = .ok (.iload_n 2, 1) := dk_28 (dk_at dksX2_stuck_1 22 rfl rfl)
theorem dX2_stuck_47 : decode cX2_stuck 47 = .ok (.iload 4, 2) := dk_21 4 (dk_at dksX2_stuck_2 0 rfl rfl)
theorem dX2_stuck_49 : decode cX2_stuck 49 = .ok (.ifCond .eq 13, 3) := dk_153 0 13 (dk_at dksX2_stuck_2 2 rfl rfl)
theorem dX2_stuck_52 : decode cX2_stuck 52 = .ok (.iconst 1, 1) := dk_4 (dk_at dksX2_stuck_2 5 rfl rfl)
theorem dX2_stuck_53 : decode cX2_stuck 53 = .ok (.iload_n 3, 1) := dk_29 (dk_at dksX2_stuck_2 6 rfl rfl)
theorem dX2_stuck_54 : decode cX2_stuck 54 = .ok (.sipush 1331, 3) := dk_17 5 51 (dk_at dksX2_stuck_2 7 rfl rfl)
theorem dX2_stuck_57 : decode cX2_stuck 57 = .ok (.idiv, 1) := dk_108 (dk_at dksX2_stuck_2 10 rfl rfl)
theorem dX2_stuck_58 : decode cX2_stuck 58 = .ok (.ishl, 1) := dk_120 (dk_at dksX2_stuck_2 11 rfl rfl)
theorem dX2_stuck_59 : decode cX2_stuck 59 = .ok (.goto 4, 3) := dk_167 0 4 (dk_at dksX2_stuck_2 12 rfl rfl)
theorem dX2_stuck_62 : decode cX2_stuck 62 = .ok (.iconst 0, 1) := dk_3 (dk_at dksX2_stuck_2 15 rfl rfl)
theorem dX2_stuck_63 : decode cX2_stuck 63 = .ok (.ior, 1) := dk_128 (dk_at dksX2_stuck_2 16 rfl rfl)
theorem dX2_stuck_64 : decode cX2_stuck 64 = .ok (.istore_n 2, 1) := dk_61 (dk_at dksX2_stuck_2 17 rfl rfl)
theorem dX2_stuck_65 : decode cX2_stuck 65 = .ok (.iinc 3 1, 3) := dk_132 3 1 (dk_at dksX2_stuck_2 18 rfl rfl)
theorem dX2_stuck_68 : decode cX2_stuck 68 = .ok (.goto (-59), 3) := dk_167 255 197 (dk_at dksX2_stuck_2 21 rfl rfl)
theorem dX2_stuck_71 : decode cX2_stuck 71 = .ok (.iload_n 2, 1) := dk_28 (dk_at dksX2_stuck_3 0 rfl rfl)
theorem dX2_stuck_72 : decode cX2_stuck 72 = .ok (.ireturn, 1) := dk_172 (dk_at dksX2_stuck_3 1 rfl rfl)
abbrev cX2_takable : ByteArray := prog_2_method_18_code
def yX2_takable : MethodName := ⟨RX2, "takable", "(I)I"⟩
def dkwX2_takable_2 : List UInt8 := [132, 3, 1, 167, 255, 212, 28, 172]
abbrev dktX2_takable_2 : List UInt8 := dkwX2_takable_2 ++ []
def dkwX2_takable_1 : List UInt8 := [182, 0, 44, 192, 0, 42, 182, 0, 166, 2, 160, 0, 7, 3, 167, 0, 6, 4, 29, 120, 128, 61]
abbrev dktX2_takable_1 : List UInt8 := dkwX2_takable_1 ++ dktX2_takable_2
def dkwX2_takable_0 : List UInt8 := [3, 61, 3, 62, 29, 42, 180, 0, 12, 182, 0, 38, 162, 0, 39, 28, 42, 27, 42, 180, 0, 12, 29]
abbrev dktX2_takable_0 : List UInt8 := dkwX2_takable_0 ++ dktX2_takable_1
theorem dksX2_takable_0 : cX2_takable.data.toList.drop 0 = dktX2_takable_0 := by decide +kernel
theorem dksX2_takable_1 : cX2_takable.data.toList.drop 23 = dktX2_takable_1 := dk_seg dksX2_takable_0 23 rfl rfl
theorem dksX2_takable_2 : cX2_takable.data.toList.drop 45 = dktX2_takable_2 := dk_seg dksX2_takable_1 22 rfl rfl
theorem dX2_takable_0 : decode cX2_takable 0 = .ok (.iconst 0, 1) := dk_3 (dk_at dksX2_takable_0 0 rfl rfl)
theorem dX2_takable_1 : decode cX2_takable 1 = .ok (.istore_n 2, 1) := dk_61 (dk_at dksX2_takable_0 1 rfl rfl)
theorem dX2_takable_2 : decode cX2_takable 2 = .ok (.iconst 0, 1) := dk_3 (dk_at dksX2_takable_0 2 rfl rfl)
theorem dX2_takable_3 : decode cX2_takable 3 = .ok (.istore_n 3, 1) := dk_62 (dk_at dksX2_takable_0 3 rfl rfl)
theorem dX2_takable_4 : decode cX2_takable 4 = .ok (.iload_n 3, 1) := dk_29 (dk_at dksX2_takable_0 4 rfl rfl)
theorem dX2_takable_5 : decode cX2_takable 5 = .ok (.aload_n 0, 1) := dk_42 (dk_at dksX2_takable_0 5 rfl rfl)
theorem dX2_takable_6 : decode cX2_takable 6 = .ok (.getfield 12, 3) := dk_180 0 12 (dk_at dksX2_takable_0 6 rfl rfl)
theorem dX2_takable_9 : decode cX2_takable 9 = .ok (.invokevirtual 38, 3) := dk_182 0 38 (dk_at dksX2_takable_0 9 rfl rfl)
theorem dX2_takable_12 : decode cX2_takable 12 = .ok (.if_icmp .ge 39, 3) := dk_162 0 39 (dk_at dksX2_takable_0 12 rfl rfl)
theorem dX2_takable_15 : decode cX2_takable 15 = .ok (.iload_n 2, 1) := dk_28 (dk_at dksX2_takable_0 15 rfl rfl)
theorem dX2_takable_16 : decode cX2_takable 16 = .ok (.aload_n 0, 1) := dk_42 (dk_at dksX2_takable_0 16 rfl rfl)
theorem dX2_takable_17 : decode cX2_takable 17 = .ok (.iload_n 1, 1) := dk_27 (dk_at dksX2_takable_0 17 rfl rfl)
theorem dX2_takable_18 : decode cX2_takable 18 = .ok (.aload_n 0, 1) := dk_42 (dk_at dksX2_takable_0 18 rfl rfl)
theorem dX2_takable_19 : decode cX2_takable 19 = .ok (.getfield 12, 3) := dk_180 0 12 (dk_at dksX2_takable_0 19 rfl rfl)
theorem dX2_takable_22 : decode cX2_takable 22 = .ok (.iload_n 3, 1) := dk_29 (dk_at dksX2_takable_0 22 rfl rfl)
theorem dX2_takable_23 : decode cX2_takable 23 = .ok (.invokevirtual 44, 3) := dk_182 0 44 (dk_at dksX2_takable_1 0 rfl rfl)
theorem dX2_takable_26 : decode cX2_takable 26 = .ok (.checkcast 42, 3) := dk_192 0 42 (dk_at dksX2_takable_1 3 rfl rfl)
theorem dX2_takable_29 : decode cX2_takable 29 = .ok (.invokevirtual 166, 3) := dk_182 0 166 (dk_at dksX2_takable_1 6 rfl rfl)
theorem dX2_takable_32 : decode cX2_takable 32 = .ok (.iconst (-1), 1) := dk_2 (dk_at dksX2_takable_1 9 rfl rfl)
theorem dX2_takable_33 : decode cX2_takable 33 = .ok (.if_icmp .ne 7, 3) := dk_160 0 7 (dk_at dksX2_takable_1 10 rfl rfl)
theorem dX2_takable_36 : decode cX2_takable 36 = .ok (.iconst 0, 1) := dk_3 (dk_at dksX2_takable_1 13 rfl rfl)
theorem dX2_takable_37 : decode cX2_takable 37 = .ok (.goto 6, 3) := dk_167 0 6 (dk_at dksX2_takable_1 14 rfl rfl)
theorem dX2_takable_40 : decode cX2_takable 40 = .ok (.iconst 1, 1) := dk_4 (dk_at dksX2_takable_1 17 rfl rfl)
theorem dX2_takable_41 : decode cX2_takable 41 = .ok (.iload_n 3, 1) := dk_29 (dk_at dksX2_takable_1 18 rfl rfl)
theorem dX2_takable_42 : decode cX2_takable 42 = .ok (.ishl, 1) := dk_120 (dk_at dksX2_takable_1 19 rfl rfl)
theorem dX2_takable_43 : decode cX2_takable 43 = .ok (.ior, 1) := dk_128 (dk_at dksX2_takable_1 20 rfl rfl)
theorem dX2_takable_44 : decode cX2_takable 44 = .ok (.istore_n 2, 1) := dk_61 (dk_at dksX2_takable_1 21 rfl rfl)
theorem dX2_takable_45 : decode cX2_takable 45 = .ok (.iinc 3 1, 3) := dk_132 3 1 (dk_at dksX2_takable_2 0 rfl rfl)
theorem dX2_takable_48 : decode cX2_takable 48 = .ok (.goto (-44), 3) := dk_167 255 212 (dk_at dksX2_takable_2 3 rfl rfl)
theorem dX2_takable_51 : decode cX2_takable 51 = .ok (.iload_n 2, 1) := dk_28 (dk_at dksX2_takable_2 6 rfl rfl)
theorem dX2_takable_52 : decode cX2_takable 52 = .ok (.ireturn, 1) := dk_172 (dk_at dksX2_takable_2 7 rfl rfl)
abbrev cX2_usable : ByteArray := prog_2_method_20_code
def yX2_usable : MethodName := ⟨RX2, "usable", "()I"⟩
def dkwX2_usable_1 : List UInt8 := [167, 0, 8, 42, 29, 182, 0, 174, 128, 61, 132, 3, 1, 167, 255, 228, 28, 172]
abbrev dktX2_usable_1 : List UInt8 := dkwX2_usable_1 ++ []
def dkwX2_usable_0 : List UInt8 := [42, 182, 0, 170, 76, 3, 61, 3, 62, 29, 43, 190, 162, 0, 28, 28, 43, 29, 46, 2, 160, 0, 7, 3]
abbrev dktX2_usable_0 : List UInt8 := dkwX2_usable_0 ++ dktX2_usable_1
theorem dksX2_usable_0 : cX2_usable.data.toList.drop 0 = dktX2_usable_0 := by decide +kernel
theorem dksX2_usable_1 : cX2_usable.data.toList.drop 24 = dktX2_usable_1 := dk_seg dksX2_usable_0 24 rfl rfl
theorem dX2_usable_0 : decode cX2_usable 0 = .ok (.aload_n 0, 1) := dk_42 (dk_at dksX2_usable_0 0 rfl rfl)
theorem dX2_usable_1 : decode cX2_usable 1 = .ok (.invokevirtual 170, 3) := dk_182 0 170 (dk_at dksX2_usable_0 1 rfl rfl)
theorem dX2_usable_4 : decode cX2_usable 4 = .ok (.astore_n 1, 1) := dk_76 (dk_at dksX2_usable_0 4 rfl rfl)
theorem dX2_usable_5 : decode cX2_usable 5 = .ok (.iconst 0, 1) := dk_3 (dk_at dksX2_usable_0 5 rfl rfl)
theorem dX2_usable_6 : decode cX2_usable 6 = .ok (.istore_n 2, 1) := dk_61 (dk_at dksX2_usable_0 6 rfl rfl)
theorem dX2_usable_7 : decode cX2_usable 7 = .ok (.iconst 0, 1) := dk_3 (dk_at dksX2_usable_0 7 rfl rfl)
theorem dX2_usable_8 : decode cX2_usable 8 = .ok (.istore_n 3, 1) := dk_62 (dk_at dksX2_usable_0 8 rfl rfl)
theorem dX2_usable_9 : decode cX2_usable 9 = .ok (.iload_n 3, 1) := dk_29 (dk_at dksX2_usable_0 9 rfl rfl)
theorem dX2_usable_10 : decode cX2_usable 10 = .ok (.aload_n 1, 1) := dk_43 (dk_at dksX2_usable_0 10 rfl rfl)
theorem dX2_usable_11 : decode cX2_usable 11 = .ok (.arraylength, 1) := dk_190 (dk_at dksX2_usable_0 11 rfl rfl)
theorem dX2_usable_12 : decode cX2_usable 12 = .ok (.if_icmp .ge 28, 3) := dk_162 0 28 (dk_at dksX2_usable_0 12 rfl rfl)
theorem dX2_usable_15 : decode cX2_usable 15 = .ok (.iload_n 2, 1) := dk_28 (dk_at dksX2_usable_0 15 rfl rfl)
theorem dX2_usable_16 : decode cX2_usable 16 = .ok (.aload_n 1, 1) := dk_43 (dk_at dksX2_usable_0 16 rfl rfl)
theorem dX2_usable_17 : decode cX2_usable 17 = .ok (.iload_n 3, 1) := dk_29 (dk_at dksX2_usable_0 17 rfl rfl)
theorem dX2_usable_18 : decode cX2_usable 18 = .ok (.iaload, 1) := dk_46 (dk_at dksX2_usable_0 18 rfl rfl)
theorem dX2_usable_19 : decode cX2_usable 19 = .ok (.iconst (-1), 1) := dk_2 (dk_at dksX2_usable_0 19 rfl rfl)
theorem dX2_usable_20 : decode cX2_usable 20 = .ok (.if_icmp .ne 7, 3) := dk_160 0 7 (dk_at dksX2_usable_0 20 rfl rfl)
theorem dX2_usable_23 : decode cX2_usable 23 = .ok (.iconst 0, 1) := dk_3 (dk_at dksX2_usable_0 23 rfl rfl)
theorem dX2_usable_24 : decode cX2_usable 24 = .ok (.goto 8, 3) := dk_167 0 8 (dk_at dksX2_usable_1 0 rfl rfl)
theorem dX2_usable_27 : decode cX2_usable 27 = .ok (.aload_n 0, 1) := dk_42 (dk_at dksX2_usable_1 3 rfl rfl)
theorem dX2_usable_28 : decode cX2_usable 28 = .ok (.iload_n 3, 1) := dk_29 (dk_at dksX2_usable_1 4 rfl rfl)
theorem dX2_usable_29 : decode cX2_usable 29 = .ok (.invokevirtual 174, 3) := dk_182 0 174 (dk_at dksX2_usable_1 5 rfl rfl)
theorem dX2_usable_32 : decode cX2_usable 32 = .ok (.ior, 1) := dk_128 (dk_at dksX2_usable_1 8 rfl rfl)
theorem dX2_usable_33 : decode cX2_usable 33 = .ok (.istore_n 2, 1) := dk_61 (dk_at dksX2_usable_1 9 rfl rfl)
theorem dX2_usable_34 : decode cX2_usable 34 = .ok (.iinc 3 1, 3) := dk_132 3 1 (dk_at dksX2_usable_1 10 rfl rfl)
theorem dX2_usable_37 : decode cX2_usable 37 = .ok (.goto (-28), 3) := dk_167 255 228 (dk_at dksX2_usable_1 13 rfl rfl)
theorem dX2_usable_40 : decode cX2_usable 40 = .ok (.iload_n 2, 1) := dk_28 (dk_at dksX2_usable_1 16 rfl rfl)
theorem dX2_usable_41 : decode cX2_usable 41 = .ok (.ireturn, 1) := dk_172 (dk_at dksX2_usable_1 17 rfl rfl)
abbrev cX2_gathered : ByteArray := prog_2_method_9_code
def yX2_gathered : MethodName := ⟨RX2, "gathered", "()Ljava/util/ArrayList;"⟩
def dkwX2_gathered_5 : List UInt8 := [16, 120, 164, 0, 7, 1, 167, 0, 4, 43, 176]
abbrev dktX2_gathered_5 : List UInt8 := dkwX2_gathered_5 ++ []
def dkwX2_gathered_4 : List UInt8 := [192, 0, 42, 43, 182, 0, 115, 132, 5, 1, 167, 255, 222, 132, 3, 1, 167, 255, 186, 43, 182, 0, 38]
abbrev dktX2_gathered_4 : List UInt8 := dkwX2_gathered_4 ++ dktX2_gathered_5
def dkwX2_gathered_3 : List UInt8 := [42, 180, 0, 12, 182, 0, 38, 162, 0, 28, 42, 25, 4, 42, 180, 0, 12, 21, 5, 182, 0, 44]
abbrev dktX2_gathered_3 : List UInt8 := dkwX2_gathered_3 ++ dktX2_gathered_4
def dkwX2_gathered_2 : List UInt8 := [43, 182, 0, 38, 16, 120, 163, 0, 59, 43, 29, 182, 0, 44, 192, 0, 91, 58, 4, 3, 54, 5, 21, 5]
abbrev dktX2_gathered_2 : List UInt8 := dkwX2_gathered_2 ++ dktX2_gathered_3
def dkwX2_gathered_1 : List UInt8 := [187, 0, 91, 89, 3, 44, 3, 183, 0, 112, 182, 0, 51, 87, 3, 62, 29, 43, 182, 0, 38, 162, 0, 68]
abbrev dktX2_gathered_1 : List UInt8 := dkwX2_gathered_1 ++ dktX2_gathered_2
def dkwX2_gathered_0 : List UInt8 := [187, 0, 9, 89, 183, 0, 11, 76, 42, 3, 184, 0, 104, 182, 0, 108, 77, 44, 198, 0, 18, 43]
abbrev dktX2_gathered_0 : List UInt8 := dkwX2_gathered_0 ++ dktX2_gathered_1
theorem dksX2_gathered_0 : cX2_gathered.data.toList.drop 0 = dktX2_gathered_0 := by decide +kernel
theorem dksX2_gathered_1 : cX2_gathered.data.toList.drop 22 = dktX2_gathered_1 := dk_seg dksX2_gathered_0 22 rfl rfl
theorem dksX2_gathered_2 : cX2_gathered.data.toList.drop 46 = dktX2_gathered_2 := dk_seg dksX2_gathered_1 24 rfl rfl
theorem dksX2_gathered_3 : cX2_gathered.data.toList.drop 70 = dktX2_gathered_3 := dk_seg dksX2_gathered_2 24 rfl rfl
theorem dksX2_gathered_4 : cX2_gathered.data.toList.drop 92 = dktX2_gathered_4 := dk_seg dksX2_gathered_3 22 rfl rfl
theorem dksX2_gathered_5 : cX2_gathered.data.toList.drop 115 = dktX2_gathered_5 := dk_seg dksX2_gathered_4 23 rfl rfl
theorem dX2_gathered_0 : decode cX2_gathered 0 = .ok (.new 9, 3) := dk_187 0 9 (dk_at dksX2_gathered_0 0 rfl rfl)
theorem dX2_gathered_3 : decode cX2_gathered 3 = .ok (.dup, 1) := dk_89 (dk_at dksX2_gathered_0 3 rfl rfl)
theorem dX2_gathered_4 : decode cX2_gathered 4 = .ok (.invokespecial 11, 3) := dk_183 0 11 (dk_at dksX2_gathered_0 4 rfl rfl)
theorem dX2_gathered_7 : decode cX2_gathered 7 = .ok (.astore_n 1, 1) := dk_76 (dk_at dksX2_gathered_0 7 rfl rfl)
theorem dX2_gathered_8 : decode cX2_gathered 8 = .ok (.aload_n 0, 1) := dk_42 (dk_at dksX2_gathered_0 8 rfl rfl)
theorem dX2_gathered_9 : decode cX2_gathered 9 = .ok (.iconst 0, 1) := dk_3 (dk_at dksX2_gathered_0 9 rfl rfl)
theorem dX2_gathered_10 : decode cX2_gathered 10 = .ok (.invokestatic 104, 3) := dk_184 0 104 (dk_at dksX2_gathered_0 10 rfl rfl)
theorem dX2_gathered_13 : decode cX2_gathered 13 = .ok (.invokevirtual 108, 3) := dk_182 0 108 (dk_at dksX2_gathered_0 13 rfl rfl)
theorem dX2_gathered_16 : decode cX2_gathered 16 = .ok (.astore_n 2, 1) := dk_77 (dk_at dksX2_gathered_0 16 rfl rfl)
theorem dX2_gathered_17 : decode cX2_gathered 17 = .ok (.aload_n 2, 1) := dk_44 (dk_at dksX2_gathered_0 17 rfl rfl)
theorem dX2_gathered_18 : decode cX2_gathered 18 = .ok (.ifnull 18, 3) := dk_198 0 18 (dk_at dksX2_gathered_0 18 rfl rfl)
theorem dX2_gathered_21 : decode cX2_gathered 21 = .ok (.aload_n 1, 1) := dk_43 (dk_at dksX2_gathered_0 21 rfl rfl)
theorem dX2_gathered_22 : decode cX2_gathered 22 = .ok (.new 91, 3) := dk_187 0 91 (dk_at dksX2_gathered_1 0 rfl rfl)
theorem dX2_gathered_25 : decode cX2_gathered 25 = .ok (.dup, 1) := dk_89 (dk_at dksX2_gathered_1 3 rfl rfl)
theorem dX2_gathered_26 : decode cX2_gathered 26 = .ok (.iconst 0, 1) := dk_3 (dk_at dksX2_gathered_1 4 rfl rfl)
theorem dX2_gathered_27 : decode cX2_gathered 27 = .ok (.aload_n 2, 1) := dk_44 (dk_at dksX2_gathered_1 5 rfl rfl)
theorem dX2_gathered_28 : decode cX2_gathered 28 = .ok (.iconst 0, 1) := dk_3 (dk_at dksX2_gathered_1 6 rfl rfl)
theorem dX2_gathered_29 : decode cX2_gathered 29 = .ok (.invokespecial 112, 3) := dk_183 0 112 (dk_at dksX2_gathered_1 7 rfl rfl)
theorem dX2_gathered_32 : decode cX2_gathered 32 = .ok (.invokevirtual 51, 3) := dk_182 0 51 (dk_at dksX2_gathered_1 10 rfl rfl)
theorem dX2_gathered_35 : decode cX2_gathered 35 = .ok (.pop, 1) := dk_87 (dk_at dksX2_gathered_1 13 rfl rfl)
theorem dX2_gathered_36 : decode cX2_gathered 36 = .ok (.iconst 0, 1) := dk_3 (dk_at dksX2_gathered_1 14 rfl rfl)
theorem dX2_gathered_37 : decode cX2_gathered 37 = .ok (.istore_n 3, 1) := dk_62 (dk_at dksX2_gathered_1 15 rfl rfl)
theorem dX2_gathered_38 : decode cX2_gathered 38 = .ok (.iload_n 3, 1) := dk_29 (dk_at dksX2_gathered_1 16 rfl rfl)
theorem dX2_gathered_39 : decode cX2_gathered 39 = .ok (.aload_n 1, 1) := dk_43 (dk_at dksX2_gathered_1 17 rfl rfl)
theorem dX2_gathered_40 : decode cX2_gathered 40 = .ok (.invokevirtual 38, 3) := dk_182 0 38 (dk_at dksX2_gathered_1 18 rfl rfl)
theorem dX2_gathered_43 : decode cX2_gathered 43 = .ok (.if_icmp .ge 68, 3) := dk_162 0 68 (dk_at dksX2_gathered_1 21 rfl rfl)
theorem dX2_gathered_46 : decode cX2_gathered 46 = .ok (.aload_n 1, 1) := dk_43 (dk_at dksX2_gathered_2 0 rfl rfl)
theorem dX2_gathered_47 : decode cX2_gathered 47 = .ok (.invokevirtual 38, 3) := dk_182 0 38 (dk_at dksX2_gathered_2 1 rfl rfl)
theorem dX2_gathered_50 : decode cX2_gathered 50 = .ok (.bipush 120, 2) := dk_16 120 (dk_at dksX2_gathered_2 4 rfl rfl)
theorem dX2_gathered_52 : decode cX2_gathered 52 = .ok (.if_icmp .gt 59, 3) := dk_163 0 59 (dk_at dksX2_gathered_2 6 rfl rfl)
theorem dX2_gathered_55 : decode cX2_gathered 55 = .ok (.aload_n 1, 1) := dk_43 (dk_at dksX2_gathered_2 9 rfl rfl)
theorem dX2_gathered_56 : decode cX2_gathered 56 = .ok (.iload_n 3, 1) := dk_29 (dk_at dksX2_gathered_2 10 rfl rfl)
theorem dX2_gathered_57 : decode cX2_gathered 57 = .ok (.invokevirtual 44, 3) := dk_182 0 44 (dk_at dksX2_gathered_2 11 rfl rfl)
theorem dX2_gathered_60 : decode cX2_gathered 60 = .ok (.checkcast 91, 3) := dk_192 0 91 (dk_at dksX2_gathered_2 14 rfl rfl)
theorem dX2_gathered_63 : decode cX2_gathered 63 = .ok (.astore 4, 2) := dk_58 4 (dk_at dksX2_gathered_2 17 rfl rfl)
theorem dX2_gathered_65 : decode cX2_gathered 65 = .ok (.iconst 0, 1) := dk_3 (dk_at dksX2_gathered_2 19 rfl rfl)
theorem dX2_gathered_66 : decode cX2_gathered 66 = .ok (.istore 5, 2) := dk_54 5 (dk_at dksX2_gathered_2 20 rfl rfl)
theorem dX2_gathered_68 : decode cX2_gathered 68 = .ok (.iload 5, 2) := dk_21 5 (dk_at dksX2_gathered_2 22 rfl rfl)
theorem dX2_gathered_70 : decode cX2_gathered 70 = .ok (.aload_n 0, 1) := dk_42 (dk_at dksX2_gathered_3 0 rfl rfl)
theorem dX2_gathered_71 : decode cX2_gathered 71 = .ok (.getfield 12, 3) := dk_180 0 12 (dk_at dksX2_gathered_3 1 rfl rfl)
theorem dX2_gathered_74 : decode cX2_gathered 74 = .ok (.invokevirtual 38, 3) := dk_182 0 38 (dk_at dksX2_gathered_3 4 rfl rfl)
theorem dX2_gathered_77 : decode cX2_gathered 77 = .ok (.if_icmp .ge 28, 3) := dk_162 0 28 (dk_at dksX2_gathered_3 7 rfl rfl)
theorem dX2_gathered_80 : decode cX2_gathered 80 = .ok (.aload_n 0, 1) := dk_42 (dk_at dksX2_gathered_3 10 rfl rfl)
theorem dX2_gathered_81 : decode cX2_gathered 81 = .ok (.aload 4, 2) := dk_25 4 (dk_at dksX2_gathered_3 11 rfl rfl)
theorem dX2_gathered_83 : decode cX2_gathered 83 = .ok (.aload_n 0, 1) := dk_42 (dk_at dksX2_gathered_3 13 rfl rfl)
theorem dX2_gathered_84 : decode cX2_gathered 84 = .ok (.getfield 12, 3) := dk_180 0 12 (dk_at dksX2_gathered_3 14 rfl rfl)
theorem dX2_gathered_87 : decode cX2_gathered 87 = .ok (.iload 5, 2) := dk_21 5 (dk_at dksX2_gathered_3 17 rfl rfl)
theorem dX2_gathered_89 : decode cX2_gathered 89 = .ok (.invokevirtual 44, 3) := dk_182 0 44 (dk_at dksX2_gathered_3 19 rfl rfl)
theorem dX2_gathered_92 : decode cX2_gathered 92 = .ok (.checkcast 42, 3) := dk_192 0 42 (dk_at dksX2_gathered_4 0 rfl rfl)
theorem dX2_gathered_95 : decode cX2_gathered 95 = .ok (.aload_n 1, 1) := dk_43 (dk_at dksX2_gathered_4 3 rfl rfl)
theorem dX2_gathered_96 : decode cX2_gathered 96 = .ok (.invokevirtual 115, 3) := dk_182 0 115 (dk_at dksX2_gathered_4 4 rfl rfl)
theorem dX2_gathered_99 : decode cX2_gathered 99 = .ok (.iinc 5 1, 3) := dk_132 5 1 (dk_at dksX2_gathered_4 7 rfl rfl)
theorem dX2_gathered_102 : decode cX2_gathered 102 = .ok (.goto (-34), 3) := dk_167 255 222 (dk_at dksX2_gathered_4 10 rfl rfl)
theorem dX2_gathered_105 : decode cX2_gathered 105 = .ok (.iinc 3 1, 3) := dk_132 3 1 (dk_at dksX2_gathered_4 13 rfl rfl)
theorem dX2_gathered_108 : decode cX2_gathered 108 = .ok (.goto (-70), 3) := dk_167 255 186 (dk_at dksX2_gathered_4 16 rfl rfl)
theorem dX2_gathered_111 : decode cX2_gathered 111 = .ok (.aload_n 1, 1) := dk_43 (dk_at dksX2_gathered_4 19 rfl rfl)
theorem dX2_gathered_112 : decode cX2_gathered 112 = .ok (.invokevirtual 38, 3) := dk_182 0 38 (dk_at dksX2_gathered_4 20 rfl rfl)
theorem dX2_gathered_115 : decode cX2_gathered 115 = .ok (.bipush 120, 2) := dk_16 120 (dk_at dksX2_gathered_5 0 rfl rfl)
theorem dX2_gathered_117 : decode cX2_gathered 117 = .ok (.if_icmp .le 7, 3) := dk_164 0 7 (dk_at dksX2_gathered_5 2 rfl rfl)
theorem dX2_gathered_120 : decode cX2_gathered 120 = .ok (.aconst_null, 1) := dk_1 (dk_at dksX2_gathered_5 5 rfl rfl)
theorem dX2_gathered_121 : decode cX2_gathered 121 = .ok (.goto 4, 3) := dk_167 0 4 (dk_at dksX2_gathered_5 6 rfl rfl)
theorem dX2_gathered_124 : decode cX2_gathered 124 = .ok (.aload_n 1, 1) := dk_43 (dk_at dksX2_gathered_5 9 rfl rfl)
theorem dX2_gathered_125 : decode cX2_gathered 125 = .ok (.areturn, 1) := dk_176 (dk_at dksX2_gathered_5 10 rfl rfl)
abbrev cX2_start : ByteArray := prog_2_method_8_code
def yX2_start : MethodName := ⟨RX2, "start", "()LFerryClocks$Zone;"⟩
def dkwX2_start_1 : List UInt8 := [28, 3, 182, 0, 101, 132, 2, 1, 167, 255, 241, 132, 1, 1, 167, 255, 228, 42, 176]
abbrev dktX2_start_1 : List UInt8 := dkwX2_start_1 ++ []
def dkwX2_start_0 : List UInt8 := [187, 0, 18, 89, 183, 0, 24, 75, 3, 60, 27, 7, 162, 0, 29, 3, 61, 28, 7, 162, 0, 16, 42, 27]
abbrev dktX2_start_0 : List UInt8 := dkwX2_start_0 ++ dktX2_start_1
theorem dksX2_start_0 : cX2_start.data.toList.drop 0 = dktX2_start_0 := by decide +kernel
theorem dksX2_start_1 : cX2_start.data.toList.drop 24 = dktX2_start_1 := dk_seg dksX2_start_0 24 rfl rfl
theorem dX2_start_0 : decode cX2_start 0 = .ok (.new 18, 3) := dk_187 0 18 (dk_at dksX2_start_0 0 rfl rfl)
theorem dX2_start_3 : decode cX2_start 3 = .ok (.dup, 1) := dk_89 (dk_at dksX2_start_0 3 rfl rfl)
theorem dX2_start_4 : decode cX2_start 4 = .ok (.invokespecial 24, 3) := dk_183 0 24 (dk_at dksX2_start_0 4 rfl rfl)
theorem dX2_start_7 : decode cX2_start 7 = .ok (.astore_n 0, 1) := dk_75 (dk_at dksX2_start_0 7 rfl rfl)
theorem dX2_start_8 : decode cX2_start 8 = .ok (.iconst 0, 1) := dk_3 (dk_at dksX2_start_0 8 rfl rfl)
theorem dX2_start_9 : decode cX2_start 9 = .ok (.istore_n 1, 1) := dk_60 (dk_at dksX2_start_0 9 rfl rfl)
theorem dX2_start_10 : decode cX2_start 10 = .ok (.iload_n 1, 1) := dk_27 (dk_at dksX2_start_0 10 rfl rfl)
theorem dX2_start_11 : decode cX2_start 11 = .ok (.iconst 4, 1) := dk_7 (dk_at dksX2_start_0 11 rfl rfl)
theorem dX2_start_12 : decode cX2_start 12 = .ok (.if_icmp .ge 29, 3) := dk_162 0 29 (dk_at dksX2_start_0 12 rfl rfl)
theorem dX2_start_15 : decode cX2_start 15 = .ok (.iconst 0, 1) := dk_3 (dk_at dksX2_start_0 15 rfl rfl)
theorem dX2_start_16 : decode cX2_start 16 = .ok (.istore_n 2, 1) := dk_61 (dk_at dksX2_start_0 16 rfl rfl)
theorem dX2_start_17 : decode cX2_start 17 = .ok (.iload_n 2, 1) := dk_28 (dk_at dksX2_start_0 17 rfl rfl)
theorem dX2_start_18 : decode cX2_start 18 = .ok (.iconst 4, 1) := dk_7 (dk_at dksX2_start_0 18 rfl rfl)
theorem dX2_start_19 : decode cX2_start 19 = .ok (.if_icmp .ge 16, 3) := dk_162 0 16 (dk_at dksX2_start_0 19 rfl rfl)
theorem dX2_start_22 : decode cX2_start 22 = .ok (.aload_n 0, 1) := dk_42 (dk_at dksX2_start_0 22 rfl rfl)
theorem dX2_start_23 : decode cX2_start 23 = .ok (.iload_n 1, 1) := dk_27 (dk_at dksX2_start_0 23 rfl rfl)
theorem dX2_start_24 : decode cX2_start 24 = .ok (.iload_n 2, 1) := dk_28 (dk_at dksX2_start_1 0 rfl rfl)
theorem dX2_start_25 : decode cX2_start 25 = .ok (.iconst 0, 1) := dk_3 (dk_at dksX2_start_1 1 rfl rfl)
theorem dX2_start_26 : decode cX2_start 26 = .ok (.invokevirtual 101, 3) := dk_182 0 101 (dk_at dksX2_start_1 2 rfl rfl)
theorem dX2_start_29 : decode cX2_start 29 = .ok (.iinc 2 1, 3) := dk_132 2 1 (dk_at dksX2_start_1 5 rfl rfl)
theorem dX2_start_32 : decode cX2_start 32 = .ok (.goto (-15), 3) := dk_167 255 241 (dk_at dksX2_start_1 8 rfl rfl)
theorem dX2_start_35 : decode cX2_start 35 = .ok (.iinc 1 1, 3) := dk_132 1 1 (dk_at dksX2_start_1 11 rfl rfl)
theorem dX2_start_38 : decode cX2_start 38 = .ok (.goto (-28), 3) := dk_167 255 228 (dk_at dksX2_start_1 14 rfl rfl)
theorem dX2_start_41 : decode cX2_start 41 = .ok (.aload_n 0, 1) := dk_42 (dk_at dksX2_start_1 17 rfl rfl)
theorem dX2_start_42 : decode cX2_start 42 = .ok (.areturn, 1) := dk_176 (dk_at dksX2_start_1 18 rfl rfl)
abbrev cX2_arrived : ByteArray := prog_2_method_6_code
def yX2_arrived : MethodName := ⟨RX2, "arrived", "(ILFerryClocks$Zone;)LFerryClocks$Zone;"⟩
def dkwX2_arrived_1 : List UInt8 := [182, 0, 77, 44, 182, 0, 88, 44, 182, 0, 74, 44, 176]
abbrev dktX2_arrived_1 : List UInt8 := dkwX2_arrived_1 ++ []
def dkwX2_arrived_0 : List UInt8 := [42, 27, 44, 182, 0, 77, 44, 182, 0, 81, 153, 0, 5, 1, 176, 44, 182, 0, 85, 62, 42, 27, 44]
abbrev dktX2_arrived_0 : List UInt8 := dkwX2_arrived_0 ++ dktX2_arrived_1
theorem dksX2_arrived_0 : cX2_arrived.data.toList.drop 0 = dktX2_arrived_0 := by decide +kernel
theorem dksX2_arrived_1 : cX2_arrived.data.toList.drop 23 = dktX2_arrived_1 := dk_seg dksX2_arrived_0 23 rfl rfl
theorem dX2_arrived_0 : decode cX2_arrived 0 = .ok (.aload_n 0, 1) := dk_42 (dk_at dksX2_arrived_0 0 rfl rfl)
theorem dX2_arrived_1 : decode cX2_arrived 1 = .ok (.iload_n 1, 1) := dk_27 (dk_at dksX2_arrived_0 1 rfl rfl)
theorem dX2_arrived_2 : decode cX2_arrived 2 = .ok (.aload_n 2, 1) := dk_44 (dk_at dksX2_arrived_0 2 rfl rfl)
theorem dX2_arrived_3 : decode cX2_arrived 3 = .ok (.invokevirtual 77, 3) := dk_182 0 77 (dk_at dksX2_arrived_0 3 rfl rfl)
theorem dX2_arrived_6 : decode cX2_arrived 6 = .ok (.aload_n 2, 1) := dk_44 (dk_at dksX2_arrived_0 6 rfl rfl)
theorem dX2_arrived_7 : decode cX2_arrived 7 = .ok (.invokevirtual 81, 3) := dk_182 0 81 (dk_at dksX2_arrived_0 7 rfl rfl)
theorem dX2_arrived_10 : decode cX2_arrived 10 = .ok (.ifCond .eq 5, 3) := dk_153 0 5 (dk_at dksX2_arrived_0 10 rfl rfl)
theorem dX2_arrived_13 : decode cX2_arrived 13 = .ok (.aconst_null, 1) := dk_1 (dk_at dksX2_arrived_0 13 rfl rfl)
theorem dX2_arrived_14 : decode cX2_arrived 14 = .ok (.areturn, 1) := dk_176 (dk_at dksX2_arrived_0 14 rfl rfl)
theorem dX2_arrived_15 : decode cX2_arrived 15 = .ok (.aload_n 2, 1) := dk_44 (dk_at dksX2_arrived_0 15 rfl rfl)
theorem dX2_arrived_16 : decode cX2_arrived 16 = .ok (.invokevirtual 85, 3) := dk_182 0 85 (dk_at dksX2_arrived_0 16 rfl rfl)
theorem dX2_arrived_19 : decode cX2_arrived 19 = .ok (.istore_n 3, 1) := dk_62 (dk_at dksX2_arrived_0 19 rfl rfl)
theorem dX2_arrived_20 : decode cX2_arrived 20 = .ok (.aload_n 0, 1) := dk_42 (dk_at dksX2_arrived_0 20 rfl rfl)
theorem dX2_arrived_21 : decode cX2_arrived 21 = .ok (.iload_n 1, 1) := dk_27 (dk_at dksX2_arrived_0 21 rfl rfl)
theorem dX2_arrived_22 : decode cX2_arrived 22 = .ok (.aload_n 2, 1) := dk_44 (dk_at dksX2_arrived_0 22 rfl rfl)
theorem dX2_arrived_23 : decode cX2_arrived 23 = .ok (.invokevirtual 77, 3) := dk_182 0 77 (dk_at dksX2_arrived_1 0 rfl rfl)
theorem dX2_arrived_26 : decode cX2_arrived 26 = .ok (.aload_n 2, 1) := dk_44 (dk_at dksX2_arrived_1 3 rfl rfl)
theorem dX2_arrived_27 : decode cX2_arrived 27 = .ok (.invokevirtual 88, 3) := dk_182 0 88 (dk_at dksX2_arrived_1 4 rfl rfl)
theorem dX2_arrived_30 : decode cX2_arrived 30 = .ok (.aload_n 2, 1) := dk_44 (dk_at dksX2_arrived_1 7 rfl rfl)
theorem dX2_arrived_31 : decode cX2_arrived 31 = .ok (.invokevirtual 74, 3) := dk_182 0 74 (dk_at dksX2_arrived_1 8 rfl rfl)
theorem dX2_arrived_34 : decode cX2_arrived 34 = .ok (.aload_n 2, 1) := dk_44 (dk_at dksX2_arrived_1 11 rfl rfl)
theorem dX2_arrived_35 : decode cX2_arrived 35 = .ok (.areturn, 1) := dk_176 (dk_at dksX2_arrived_1 12 rfl rfl)
abbrev cX2_keeps : ByteArray := prog_2_method_5_code
def yX2_keeps : MethodName := ⟨RX2, "keeps", "(ILFerryClocks$Zone;)V"⟩
def dkwX2_keeps_1 : List UInt8 := [167, 0, 9, 42, 27, 29, 182, 0, 66, 182, 0, 70, 132, 3, 1, 167, 255, 219, 44, 182, 0, 74, 177]
abbrev dktX2_keeps_1 : List UInt8 := dkwX2_keeps_1 ++ []
def dkwX2_keeps_0 : List UInt8 := [3, 62, 29, 6, 162, 0, 38, 44, 29, 6, 42, 27, 29, 182, 0, 66, 16, 10, 160, 0, 9, 17, 39, 15]
abbrev dktX2_keeps_0 : List UInt8 := dkwX2_keeps_0 ++ dktX2_keeps_1
theorem dksX2_keeps_0 : cX2_keeps.data.toList.drop 0 = dktX2_keeps_0 := by decide +kernel
theorem dksX2_keeps_1 : cX2_keeps.data.toList.drop 24 = dktX2_keeps_1 := dk_seg dksX2_keeps_0 24 rfl rfl
theorem dX2_keeps_0 : decode cX2_keeps 0 = .ok (.iconst 0, 1) := dk_3 (dk_at dksX2_keeps_0 0 rfl rfl)
theorem dX2_keeps_1 : decode cX2_keeps 1 = .ok (.istore_n 3, 1) := dk_62 (dk_at dksX2_keeps_0 1 rfl rfl)
theorem dX2_keeps_2 : decode cX2_keeps 2 = .ok (.iload_n 3, 1) := dk_29 (dk_at dksX2_keeps_0 2 rfl rfl)
theorem dX2_keeps_3 : decode cX2_keeps 3 = .ok (.iconst 3, 1) := dk_6 (dk_at dksX2_keeps_0 3 rfl rfl)
theorem dX2_keeps_4 : decode cX2_keeps 4 = .ok (.if_icmp .ge 38, 3) := dk_162 0 38 (dk_at dksX2_keeps_0 4 rfl rfl)
theorem dX2_keeps_7 : decode cX2_keeps 7 = .ok (.aload_n 2, 1) := dk_44 (dk_at dksX2_keeps_0 7 rfl rfl)
theorem dX2_keeps_8 : decode cX2_keeps 8 = .ok (.iload_n 3, 1) := dk_29 (dk_at dksX2_keeps_0 8 rfl rfl)
theorem dX2_keeps_9 : decode cX2_keeps 9 = .ok (.iconst 3, 1) := dk_6 (dk_at dksX2_keeps_0 9 rfl rfl)
theorem dX2_keeps_10 : decode cX2_keeps 10 = .ok (.aload_n 0, 1) := dk_42 (dk_at dksX2_keeps_0 10 rfl rfl)
theorem dX2_keeps_11 : decode cX2_keeps 11 = .ok (.iload_n 1, 1) := dk_27 (dk_at dksX2_keeps_0 11 rfl rfl)
theorem dX2_keeps_12 : decode cX2_keeps 12 = .ok (.iload_n 3, 1) := dk_29 (dk_at dksX2_keeps_0 12 rfl rfl)
theorem dX2_keeps_13 : decode cX2_keeps 13 = .ok (.invokevirtual 66, 3) := dk_182 0 66 (dk_at dksX2_keeps_0 13 rfl rfl)
theorem dX2_keeps_16 : decode cX2_keeps 16 = .ok (.bipush 10, 2) := dk_16 10 (dk_at dksX2_keeps_0 16 rfl rfl)
theorem dX2_keeps_18 : decode cX2_keeps 18 = .ok (.if_icmp .ne 9, 3) := dk_160 0 9 (dk_at dksX2_keeps_0 18 rfl rfl)
theorem dX2_keeps_21 : decode cX2_keeps 21 = .ok (.sipush 9999, 3) := dk_17 39 15 (dk_at dksX2_keeps_0 21 rfl rfl)
theorem dX2_keeps_24 : decode cX2_keeps 24 = .ok (.goto 9, 3) := dk_167 0 9 (dk_at dksX2_keeps_1 0 rfl rfl)
theorem dX2_keeps_27 : decode cX2_keeps 27 = .ok (.aload_n 0, 1) := dk_42 (dk_at dksX2_keeps_1 3 rfl rfl)
theorem dX2_keeps_28 : decode cX2_keeps 28 = .ok (.iload_n 1, 1) := dk_27 (dk_at dksX2_keeps_1 4 rfl rfl)
theorem dX2_keeps_29 : decode cX2_keeps 29 = .ok (.iload_n 3, 1) := dk_29 (dk_at dksX2_keeps_1 5 rfl rfl)
theorem dX2_keeps_30 : decode cX2_keeps 30 = .ok (.invokevirtual 66, 3) := dk_182 0 66 (dk_at dksX2_keeps_1 6 rfl rfl)
theorem dX2_keeps_33 : decode cX2_keeps 33 = .ok (.invokevirtual 70, 3) := dk_182 0 70 (dk_at dksX2_keeps_1 9 rfl rfl)
theorem dX2_keeps_36 : decode cX2_keeps 36 = .ok (.iinc 3 1, 3) := dk_132 3 1 (dk_at dksX2_keeps_1 12 rfl rfl)
theorem dX2_keeps_39 : decode cX2_keeps 39 = .ok (.goto (-37), 3) := dk_167 255 219 (dk_at dksX2_keeps_1 15 rfl rfl)
theorem dX2_keeps_42 : decode cX2_keeps 42 = .ok (.aload_n 2, 1) := dk_44 (dk_at dksX2_keeps_1 18 rfl rfl)
theorem dX2_keeps_43 : decode cX2_keeps 43 = .ok (.invokevirtual 74, 3) := dk_182 0 74 (dk_at dksX2_keeps_1 19 rfl rfl)
theorem dX2_keeps_46 : decode cX2_keeps 46 = .ok (.return_, 1) := dk_177 (dk_at dksX2_keeps_1 22 rfl rfl)
abbrev cX2_goes : ByteArray := prog_2_method_10_code
def yX2_goes : MethodName := ⟨RX2, "goes", "(LFerryClocks$Stop;LFerryClocks$Line;Ljava/util/ArrayList;)V"⟩
def dkwX2_goes_3 : List UInt8 := [180, 0, 126, 25, 5, 43, 180, 0, 133, 4, 96, 183, 0, 112, 182, 0, 51, 87, 177]
abbrev dktX2_goes_3 : List UInt8 := dkwX2_goes_3 ++ []
def dkwX2_goes_2 : List UInt8 := [198, 0, 40, 44, 180, 0, 126, 25, 5, 45, 184, 0, 129, 154, 0, 27, 45, 187, 0, 91, 89, 44]
abbrev dktX2_goes_2 : List UInt8 := dkwX2_goes_2 ++ dktX2_goes_3
def dkwX2_goes_1 : List UInt8 := [182, 0, 81, 153, 0, 7, 1, 167, 0, 13, 42, 44, 180, 0, 126, 25, 4, 182, 0, 108, 58, 5, 25, 5]
abbrev dktX2_goes_1 : List UInt8 := dkwX2_goes_1 ++ dktX2_goes_2
def dkwX2_goes_0 : List UInt8 := [44, 180, 0, 119, 43, 180, 0, 93, 159, 0, 4, 177, 44, 43, 180, 0, 96, 182, 0, 122, 58, 4, 25, 4]
abbrev dktX2_goes_0 : List UInt8 := dkwX2_goes_0 ++ dktX2_goes_1
theorem dksX2_goes_0 : cX2_goes.data.toList.drop 0 = dktX2_goes_0 := by decide +kernel
theorem dksX2_goes_1 : cX2_goes.data.toList.drop 24 = dktX2_goes_1 := dk_seg dksX2_goes_0 24 rfl rfl
theorem dksX2_goes_2 : cX2_goes.data.toList.drop 48 = dktX2_goes_2 := dk_seg dksX2_goes_1 24 rfl rfl
theorem dksX2_goes_3 : cX2_goes.data.toList.drop 70 = dktX2_goes_3 := dk_seg dksX2_goes_2 22 rfl rfl
theorem dX2_goes_0 : decode cX2_goes 0 = .ok (.aload_n 2, 1) := dk_44 (dk_at dksX2_goes_0 0 rfl rfl)
theorem dX2_goes_1 : decode cX2_goes 1 = .ok (.getfield 119, 3) := dk_180 0 119 (dk_at dksX2_goes_0 1 rfl rfl)
theorem dX2_goes_4 : decode cX2_goes 4 = .ok (.aload_n 1, 1) := dk_43 (dk_at dksX2_goes_0 4 rfl rfl)
theorem dX2_goes_5 : decode cX2_goes 5 = .ok (.getfield 93, 3) := dk_180 0 93 (dk_at dksX2_goes_0 5 rfl rfl)
theorem dX2_goes_8 : decode cX2_goes 8 = .ok (.if_icmp .eq 4, 3) := dk_159 0 4 (dk_at dksX2_goes_0 8 rfl rfl)
theorem dX2_goes_11 : decode cX2_goes 11 = .ok (.return_, 1) := dk_177 (dk_at dksX2_goes_0 11 rfl rfl)
theorem dX2_goes_12 : decode cX2_goes 12 = .ok (.aload_n 2, 1) := dk_44 (dk_at dksX2_goes_0 12 rfl rfl)
theorem dX2_goes_13 : decode cX2_goes 13 = .ok (.aload_n 1, 1) := dk_43 (dk_at dksX2_goes_0 13 rfl rfl)
theorem dX2_goes_14 : decode cX2_goes 14 = .ok (.getfield 96, 3) := dk_180 0 96 (dk_at dksX2_goes_0 14 rfl rfl)
theorem dX2_goes_17 : decode cX2_goes 17 = .ok (.invokevirtual 122, 3) := dk_182 0 122 (dk_at dksX2_goes_0 17 rfl rfl)
theorem dX2_goes_20 : decode cX2_goes 20 = .ok (.astore 4, 2) := dk_58 4 (dk_at dksX2_goes_0 20 rfl rfl)
theorem dX2_goes_22 : decode cX2_goes 22 = .ok (.aload 4, 2) := dk_25 4 (dk_at dksX2_goes_0 22 rfl rfl)
theorem dX2_goes_24 : decode cX2_goes 24 = .ok (.invokevirtual 81, 3) := dk_182 0 81 (dk_at dksX2_goes_1 0 rfl rfl)
theorem dX2_goes_27 : decode cX2_goes 27 = .ok (.ifCond .eq 7, 3) := dk_153 0 7 (dk_at dksX2_goes_1 3 rfl rfl)
theorem dX2_goes_30 : decode cX2_goes 30 = .ok (.aconst_null, 1) := dk_1 (dk_at dksX2_goes_1 6 rfl rfl)
theorem dX2_goes_31 : decode cX2_goes 31 = .ok (.goto 13, 3) := dk_167 0 13 (dk_at dksX2_goes_1 7 rfl rfl)
theorem dX2_goes_34 : decode cX2_goes 34 = .ok (.aload_n 0, 1) := dk_42 (dk_at dksX2_goes_1 10 rfl rfl)
theorem dX2_goes_35 : decode cX2_goes 35 = .ok (.aload_n 2, 1) := dk_44 (dk_at dksX2_goes_1 11 rfl rfl)
theorem dX2_goes_36 : decode cX2_goes 36 = .ok (.getfield 126, 3) := dk_180 0 126 (dk_at dksX2_goes_1 12 rfl rfl)
theorem dX2_goes_39 : decode cX2_goes 39 = .ok (.aload 4, 2) := dk_25 4 (dk_at dksX2_goes_1 15 rfl rfl)
theorem dX2_goes_41 : decode cX2_goes 41 = .ok (.invokevirtual 108, 3) := dk_182 0 108 (dk_at dksX2_goes_1 17 rfl rfl)
theorem dX2_goes_44 : decode cX2_goes 44 = .ok (.astore 5, 2) := dk_58 5 (dk_at dksX2_goes_1 20 rfl rfl)
theorem dX2_goes_46 : decode cX2_goes 46 = .ok (.aload 5, 2) := dk_25 5 (dk_at dksX2_goes_1 22 rfl rfl)
theorem dX2_goes_48 : decode cX2_goes 48 = .ok (.ifnull 40, 3) := dk_198 0 40 (dk_at dksX2_goes_2 0 rfl rfl)
theorem dX2_goes_51 : decode cX2_goes 51 = .ok (.aload_n 2, 1) := dk_44 (dk_at dksX2_goes_2 3 rfl rfl)
theorem dX2_goes_52 : decode cX2_goes 52 = .ok (.getfield 126, 3) := dk_180 0 126 (dk_at dksX2_goes_2 4 rfl rfl)
theorem dX2_goes_55 : decode cX2_goes 55 = .ok (.aload 5, 2) := dk_25 5 (dk_at dksX2_goes_2 7 rfl rfl)
theorem dX2_goes_57 : decode cX2_goes 57 = .ok (.aload_n 3, 1) := dk_45 (dk_at dksX2_goes_2 9 rfl rfl)
theorem dX2_goes_58 : decode cX2_goes 58 = .ok (.invokestatic 129, 3) := dk_184 0 129 (dk_at dksX2_goes_2 10 rfl rfl)
theorem dX2_goes_61 : decode cX2_goes 61 = .ok (.ifCond .ne 27, 3) := dk_154 0 27 (dk_at dksX2_goes_2 13 rfl rfl)
theorem dX2_goes_64 : decode cX2_goes 64 = .ok (.aload_n 3, 1) := dk_45 (dk_at dksX2_goes_2 16 rfl rfl)
theorem dX2_goes_65 : decode cX2_goes 65 = .ok (.new 91, 3) := dk_187 0 91 (dk_at dksX2_goes_2 17 rfl rfl)
theorem dX2_goes_68 : decode cX2_goes 68 = .ok (.dup, 1) := dk_89 (dk_at dksX2_goes_2 20 rfl rfl)
theorem dX2_goes_69 : decode cX2_goes 69 = .ok (.aload_n 2, 1) := dk_44 (dk_at dksX2_goes_2 21 rfl rfl)
theorem dX2_goes_70 : decode cX2_goes 70 = .ok (.getfield 126, 3) := dk_180 0 126 (dk_at dksX2_goes_3 0 rfl rfl)
theorem dX2_goes_73 : decode cX2_goes 73 = .ok (.aload 5, 2) := dk_25 5 (dk_at dksX2_goes_3 3 rfl rfl)
theorem dX2_goes_75 : decode cX2_goes 75 = .ok (.aload_n 1, 1) := dk_43 (dk_at dksX2_goes_3 5 rfl rfl)
theorem dX2_goes_76 : decode cX2_goes 76 = .ok (.getfield 133, 3) := dk_180 0 133 (dk_at dksX2_goes_3 6 rfl rfl)
theorem dX2_goes_79 : decode cX2_goes 79 = .ok (.iconst 1, 1) := dk_4 (dk_at dksX2_goes_3 9 rfl rfl)
theorem dX2_goes_80 : decode cX2_goes 80 = .ok (.iadd, 1) := dk_96 (dk_at dksX2_goes_3 10 rfl rfl)
theorem dX2_goes_81 : decode cX2_goes 81 = .ok (.invokespecial 112, 3) := dk_183 0 112 (dk_at dksX2_goes_3 11 rfl rfl)
theorem dX2_goes_84 : decode cX2_goes 84 = .ok (.invokevirtual 51, 3) := dk_182 0 51 (dk_at dksX2_goes_3 14 rfl rfl)
theorem dX2_goes_87 : decode cX2_goes 87 = .ok (.pop, 1) := dk_87 (dk_at dksX2_goes_3 17 rfl rfl)
theorem dX2_goes_88 : decode cX2_goes 88 = .ok (.return_, 1) := dk_177 (dk_at dksX2_goes_3 18 rfl rfl)
abbrev cX2_isKnown : ByteArray := prog_2_method_7_code
def yX2_isKnown : MethodName := ⟨RX2, "isKnown", "(ILFerryClocks$Zone;Ljava/util/ArrayList;)Z"⟩
def dkwX2_isKnown_2 : List UInt8 := [153, 0, 7, 4, 167, 0, 4, 3, 128, 62, 132, 4, 1, 167, 255, 201, 29, 172]
abbrev dktX2_isKnown_2 : List UInt8 := dkwX2_isKnown_2 ++ []
def dkwX2_isKnown_1 : List UInt8 := [180, 0, 93, 26, 160, 0, 26, 43, 44, 21, 4, 182, 0, 44, 192, 0, 91, 180, 0, 96, 182, 0, 97]
abbrev dktX2_isKnown_1 : List UInt8 := dkwX2_isKnown_1 ++ dktX2_isKnown_2
def dkwX2_isKnown_0 : List UInt8 := [3, 62, 3, 54, 4, 21, 4, 44, 182, 0, 38, 162, 0, 52, 29, 44, 21, 4, 182, 0, 44, 192, 0, 91]
abbrev dktX2_isKnown_0 : List UInt8 := dkwX2_isKnown_0 ++ dktX2_isKnown_1
theorem dksX2_isKnown_0 : cX2_isKnown.data.toList.drop 0 = dktX2_isKnown_0 := by decide +kernel
theorem dksX2_isKnown_1 : cX2_isKnown.data.toList.drop 24 = dktX2_isKnown_1 := dk_seg dksX2_isKnown_0 24 rfl rfl
theorem dksX2_isKnown_2 : cX2_isKnown.data.toList.drop 47 = dktX2_isKnown_2 := dk_seg dksX2_isKnown_1 23 rfl rfl
theorem dX2_isKnown_0 : decode cX2_isKnown 0 = .ok (.iconst 0, 1) := dk_3 (dk_at dksX2_isKnown_0 0 rfl rfl)
theorem dX2_isKnown_1 : decode cX2_isKnown 1 = .ok (.istore_n 3, 1) := dk_62 (dk_at dksX2_isKnown_0 1 rfl rfl)
theorem dX2_isKnown_2 : decode cX2_isKnown 2 = .ok (.iconst 0, 1) := dk_3 (dk_at dksX2_isKnown_0 2 rfl rfl)
theorem dX2_isKnown_3 : decode cX2_isKnown 3 = .ok (.istore 4, 2) := dk_54 4 (dk_at dksX2_isKnown_0 3 rfl rfl)
theorem dX2_isKnown_5 : decode cX2_isKnown 5 = .ok (.iload 4, 2) := dk_21 4 (dk_at dksX2_isKnown_0 5 rfl rfl)
theorem dX2_isKnown_7 : decode cX2_isKnown 7 = .ok (.aload_n 2, 1) := dk_44 (dk_at dksX2_isKnown_0 7 rfl rfl)
theorem dX2_isKnown_8 : decode cX2_isKnown 8 = .ok (.invokevirtual 38, 3) := dk_182 0 38 (dk_at dksX2_isKnown_0 8 rfl rfl)
theorem dX2_isKnown_11 : decode cX2_isKnown 11 = .ok (.if_icmp .ge 52, 3) := dk_162 0 52 (dk_at dksX2_isKnown_0 11 rfl rfl)
theorem dX2_isKnown_14 : decode cX2_isKnown 14 = .ok (.iload_n 3, 1) := dk_29 (dk_at dksX2_isKnown_0 14 rfl rfl)
theorem dX2_isKnown_15 : decode cX2_isKnown 15 = .ok (.aload_n 2, 1) := dk_44 (dk_at dksX2_isKnown_0 15 rfl rfl)
theorem dX2_isKnown_16 : decode cX2_isKnown 16 = .ok (.iload 4, 2) := dk_21 4 (dk_at dksX2_isKnown_0 16 rfl rfl)
theorem dX2_isKnown_18 : decode cX2_isKnown 18 = .ok (.invokevirtual 44, 3) := dk_182 0 44 (dk_at dksX2_isKnown_0 18 rfl rfl)
theorem dX2_isKnown_21 : decode cX2_isKnown 21 = .ok (.checkcast 91, 3) := dk_192 0 91 (dk_at dksX2_isKnown_0 21 rfl rfl)
theorem dX2_isKnown_24 : decode cX2_isKnown 24 = .ok (.getfield 93, 3) := dk_180 0 93 (dk_at dksX2_isKnown_1 0 rfl rfl)
theorem dX2_isKnown_27 : decode cX2_isKnown 27 = .ok (.iload_n 0, 1) := dk_26 (dk_at dksX2_isKnown_1 3 rfl rfl)
theorem dX2_isKnown_28 : decode cX2_isKnown 28 = .ok (.if_icmp .ne 26, 3) := dk_160 0 26 (dk_at dksX2_isKnown_1 4 rfl rfl)
theorem dX2_isKnown_31 : decode cX2_isKnown 31 = .ok (.aload_n 1, 1) := dk_43 (dk_at dksX2_isKnown_1 7 rfl rfl)
theorem dX2_isKnown_32 : decode cX2_isKnown 32 = .ok (.aload_n 2, 1) := dk_44 (dk_at dksX2_isKnown_1 8 rfl rfl)
theorem dX2_isKnown_33 : decode cX2_isKnown 33 = .ok (.iload 4, 2) := dk_21 4 (dk_at dksX2_isKnown_1 9 rfl rfl)
theorem dX2_isKnown_35 : decode cX2_isKnown 35 = .ok (.invokevirtual 44, 3) := dk_182 0 44 (dk_at dksX2_isKnown_1 11 rfl rfl)
theorem dX2_isKnown_38 : decode cX2_isKnown 38 = .ok (.checkcast 91, 3) := dk_192 0 91 (dk_at dksX2_isKnown_1 14 rfl rfl)
theorem dX2_isKnown_41 : decode cX2_isKnown 41 = .ok (.getfield 96, 3) := dk_180 0 96 (dk_at dksX2_isKnown_1 17 rfl rfl)
theorem dX2_isKnown_44 : decode cX2_isKnown 44 = .ok (.invokevirtual 97, 3) := dk_182 0 97 (dk_at dksX2_isKnown_1 20 rfl rfl)
theorem dX2_isKnown_47 : decode cX2_isKnown 47 = .ok (.ifCond .eq 7, 3) := dk_153 0 7 (dk_at dksX2_isKnown_2 0 rfl rfl)
theorem dX2_isKnown_50 : decode cX2_isKnown 50 = .ok (.iconst 1, 1) := dk_4 (dk_at dksX2_isKnown_2 3 rfl rfl)
theorem dX2_isKnown_51 : decode cX2_isKnown 51 = .ok (.goto 4, 3) := dk_167 0 4 (dk_at dksX2_isKnown_2 4 rfl rfl)
theorem dX2_isKnown_54 : decode cX2_isKnown 54 = .ok (.iconst 0, 1) := dk_3 (dk_at dksX2_isKnown_2 7 rfl rfl)
theorem dX2_isKnown_55 : decode cX2_isKnown 55 = .ok (.ior, 1) := dk_128 (dk_at dksX2_isKnown_2 8 rfl rfl)
theorem dX2_isKnown_56 : decode cX2_isKnown 56 = .ok (.istore_n 3, 1) := dk_62 (dk_at dksX2_isKnown_2 9 rfl rfl)
theorem dX2_isKnown_57 : decode cX2_isKnown 57 = .ok (.iinc 4 1, 3) := dk_132 4 1 (dk_at dksX2_isKnown_2 10 rfl rfl)
theorem dX2_isKnown_60 : decode cX2_isKnown 60 = .ok (.goto (-55), 3) := dk_167 255 201 (dk_at dksX2_isKnown_2 13 rfl rfl)
theorem dX2_isKnown_63 : decode cX2_isKnown 63 = .ok (.iload_n 3, 1) := dk_29 (dk_at dksX2_isKnown_2 16 rfl rfl)
theorem dX2_isKnown_64 : decode cX2_isKnown 64 = .ok (.ireturn, 1) := dk_172 (dk_at dksX2_isKnown_2 17 rfl rfl)
abbrev cX2_fewestTicksTo : ByteArray := prog_2_method_17_code
def yX2_fewestTicksTo : MethodName := ⟨RX2, "fewestTicksTo", "(I)I"⟩
def dkwX2_fewestTicksTo_3 : List UInt8 := [167, 255, 199, 29, 172]
abbrev dktX2_fewestTicksTo_3 : List UInt8 := dkwX2_fewestTicksTo_3 ++ []
def dkwX2_fewestTicksTo_2 : List UInt8 := [4, 167, 0, 4, 3, 54, 5, 21, 5, 153, 0, 10, 44, 21, 4, 46, 167, 0, 4, 29, 62, 132, 4, 1]
abbrev dktX2_fewestTicksTo_2 : List UInt8 := dkwX2_fewestTicksTo_2 ++ dktX2_fewestTicksTo_3
def dkwX2_fewestTicksTo_1 : List UInt8 := [162, 0, 51, 44, 21, 4, 46, 2, 159, 0, 20, 29, 2, 159, 0, 11, 44, 21, 4, 46, 29, 162, 0, 7]
abbrev dktX2_fewestTicksTo_1 : List UInt8 := dkwX2_fewestTicksTo_1 ++ dktX2_fewestTicksTo_2
def dkwX2_fewestTicksTo_0 : List UInt8 := [42, 182, 0, 170, 77, 2, 62, 17, 5, 51, 27, 104, 54, 4, 21, 4, 17, 5, 51, 27, 4, 96, 104]
abbrev dktX2_fewestTicksTo_0 : List UInt8 := dkwX2_fewestTicksTo_0 ++ dktX2_fewestTicksTo_1
theorem dksX2_fewestTicksTo_0 : cX2_fewestTicksTo.data.toList.drop 0 = dktX2_fewestTicksTo_0 := by decide +kernel
theorem dksX2_fewestTicksTo_1 : cX2_fewestTicksTo.data.toList.drop 23 = dktX2_fewestTicksTo_1 := dk_seg dksX2_fewestTicksTo_0 23 rfl rfl
theorem dksX2_fewestTicksTo_2 : cX2_fewestTicksTo.data.toList.drop 47 = dktX2_fewestTicksTo_2 := dk_seg dksX2_fewestTicksTo_1 24 rfl rfl
theorem dksX2_fewestTicksTo_3 : cX2_fewestTicksTo.data.toList.drop 71 = dktX2_fewestTicksTo_3 := dk_seg dksX2_fewestTicksTo_2 24 rfl rfl
theorem dX2_fewestTicksTo_0 : decode cX2_fewestTicksTo 0 = .ok (.aload_n 0, 1) := dk_42 (dk_at dksX2_fewestTicksTo_0 0 rfl rfl)
theorem dX2_fewestTicksTo_1 : decode cX2_fewestTicksTo 1 = .ok (.invokevirtual 170, 3) := dk_182 0 170 (dk_at dksX2_fewestTicksTo_0 1 rfl rfl)
theorem dX2_fewestTicksTo_4 : decode cX2_fewestTicksTo 4 = .ok (.astore_n 2, 1) := dk_77 (dk_at dksX2_fewestTicksTo_0 4 rfl rfl)
theorem dX2_fewestTicksTo_5 : decode cX2_fewestTicksTo 5 = .ok (.iconst (-1), 1) := dk_2 (dk_at dksX2_fewestTicksTo_0 5 rfl rfl)
theorem dX2_fewestTicksTo_6 : decode cX2_fewestTicksTo 6 = .ok (.istore_n 3, 1) := dk_62 (dk_at dksX2_fewestTicksTo_0 6 rfl rfl)
theorem dX2_fewestTicksTo_7 : decode cX2_fewestTicksTo 7 = .ok (.sipush 1331, 3) := dk_17 5 51 (dk_at dksX2_fewestTicksTo_0 7 rfl rfl)
theorem dX2_fewestTicksTo_10 : decode cX2_fewestTicksTo 10 = .ok (.iload_n 1, 1) := dk_27 (dk_at dksX2_fewestTicksTo_0 10 rfl rfl)
theorem dX2_fewestTicksTo_11 : decode cX2_fewestTicksTo 11 = .ok (.imul, 1) := dk_104 (dk_at dksX2_fewestTicksTo_0 11 rfl rfl)
theorem dX2_fewestTicksTo_12 : decode cX2_fewestTicksTo 12 = .ok (.istore 4, 2) := dk_54 4 (dk_at dksX2_fewestTicksTo_0 12 rfl rfl)
theorem dX2_fewestTicksTo_14 : decode cX2_fewestTicksTo 14 = .ok (.iload 4, 2) := dk_21 4 (dk_at dksX2_fewestTicksTo_0 14 rfl rfl)
theorem dX2_fewestTicksTo_16 : decode cX2_fewestTicksTo 16 = .ok (.sipush 1331, 3) := dk_17 5 51 (dk_at dksX2_fewestTicksTo_0 16 rfl rfl)
theorem dX2_fewestTicksTo_19 : decode cX2_fewestTicksTo 19 = .ok (.iload_n 1, 1) := dk_27 (dk_at dksX2_fewestTicksTo_0 19 rfl rfl)
theorem dX2_fewestTicksTo_20 : decode cX2_fewestTicksTo 20 = .ok (.iconst 1, 1) := dk_4 (dk_at dksX2_fewestTicksTo_0 20 rfl rfl)
theorem dX2_fewestTicksTo_21 : decode cX2_fewestTicksTo 21 = .ok (.iadd, 1) := dk_96 (dk_at dksX2_fewestTicksTo_0 21 rfl rfl)
theorem dX2_fewestTicksTo_22 : decode cX2_fewestTicksTo 22 = .ok (.imul, 1) := dk_104 (dk_at dksX2_fewestTicksTo_0 22 rfl rfl)
theorem dX2_fewestTicksTo_23 : decode cX2_fewestTicksTo 23 = .ok (.if_icmp .ge 51, 3) := dk_162 0 51 (dk_at dksX2_fewestTicksTo_1 0 rfl rfl)
theorem dX2_fewestTicksTo_26 : decode cX2_fewestTicksTo 26 = .ok (.aload_n 2, 1) := dk_44 (dk_at dksX2_fewestTicksTo_1 3 rfl rfl)
theorem dX2_fewestTicksTo_27 : decode cX2_fewestTicksTo 27 = .ok (.iload 4, 2) := dk_21 4 (dk_at dksX2_fewestTicksTo_1 4 rfl rfl)
theorem dX2_fewestTicksTo_29 : decode cX2_fewestTicksTo 29 = .ok (.iaload, 1) := dk_46 (dk_at dksX2_fewestTicksTo_1 6 rfl rfl)
theorem dX2_fewestTicksTo_30 : decode cX2_fewestTicksTo 30 = .ok (.iconst (-1), 1) := dk_2 (dk_at dksX2_fewestTicksTo_1 7 rfl rfl)
theorem dX2_fewestTicksTo_31 : decode cX2_fewestTicksTo 31 = .ok (.if_icmp .eq 20, 3) := dk_159 0 20 (dk_at dksX2_fewestTicksTo_1 8 rfl rfl)
theorem dX2_fewestTicksTo_34 : decode cX2_fewestTicksTo 34 = .ok (.iload_n 3, 1) := dk_29 (dk_at dksX2_fewestTicksTo_1 11 rfl rfl)
theorem dX2_fewestTicksTo_35 : decode cX2_fewestTicksTo 35 = .ok (.iconst (-1), 1) := dk_2 (dk_at dksX2_fewestTicksTo_1 12 rfl rfl)
theorem dX2_fewestTicksTo_36 : decode cX2_fewestTicksTo 36 = .ok (.if_icmp .eq 11, 3) := dk_159 0 11 (dk_at dksX2_fewestTicksTo_1 13 rfl rfl)
theorem dX2_fewestTicksTo_39 : decode cX2_fewestTicksTo 39 = .ok (.aload_n 2, 1) := dk_44 (dk_at dksX2_fewestTicksTo_1 16 rfl rfl)
theorem dX2_fewestTicksTo_40 : decode cX2_fewestTicksTo 40 = .ok (.iload 4, 2) := dk_21 4 (dk_at dksX2_fewestTicksTo_1 17 rfl rfl)
theorem dX2_fewestTicksTo_42 : decode cX2_fewestTicksTo 42 = .ok (.iaload, 1) := dk_46 (dk_at dksX2_fewestTicksTo_1 19 rfl rfl)
theorem dX2_fewestTicksTo_43 : decode cX2_fewestTicksTo 43 = .ok (.iload_n 3, 1) := dk_29 (dk_at dksX2_fewestTicksTo_1 20 rfl rfl)
theorem dX2_fewestTicksTo_44 : decode cX2_fewestTicksTo 44 = .ok (.if_icmp .ge 7, 3) := dk_162 0 7 (dk_at dksX2_fewestTicksTo_1 21 rfl rfl)
theorem dX2_fewestTicksTo_47 : decode cX2_fewestTicksTo 47 = .ok (.iconst 1, 1) := dk_4 (dk_at dksX2_fewestTicksTo_2 0 rfl rfl)
theorem dX2_fewestTicksTo_48 : decode cX2_fewestTicksTo 48 = .ok (.goto 4, 3) := dk_167 0 4 (dk_at dksX2_fewestTicksTo_2 1 rfl rfl)
theorem dX2_fewestTicksTo_51 : decode cX2_fewestTicksTo 51 = .ok (.iconst 0, 1) := dk_3 (dk_at dksX2_fewestTicksTo_2 4 rfl rfl)
theorem dX2_fewestTicksTo_52 : decode cX2_fewestTicksTo 52 = .ok (.istore 5, 2) := dk_54 5 (dk_at dksX2_fewestTicksTo_2 5 rfl rfl)
theorem dX2_fewestTicksTo_54 : decode cX2_fewestTicksTo 54 = .ok (.iload 5, 2) := dk_21 5 (dk_at dksX2_fewestTicksTo_2 7 rfl rfl)
theorem dX2_fewestTicksTo_56 : decode cX2_fewestTicksTo 56 = .ok (.ifCond .eq 10, 3) := dk_153 0 10 (dk_at dksX2_fewestTicksTo_2 9 rfl rfl)
theorem dX2_fewestTicksTo_59 : decode cX2_fewestTicksTo 59 = .ok (.aload_n 2, 1) := dk_44 (dk_at dksX2_fewestTicksTo_2 12 rfl rfl)
theorem dX2_fewestTicksTo_60 : decode cX2_fewestTicksTo 60 = .ok (.iload 4, 2) := dk_21 4 (dk_at dksX2_fewestTicksTo_2 13 rfl rfl)
theorem dX2_fewestTicksTo_62 : decode cX2_fewestTicksTo 62 = .ok (.iaload, 1) := dk_46 (dk_at dksX2_fewestTicksTo_2 15 rfl rfl)
theorem dX2_fewestTicksTo_63 : decode cX2_fewestTicksTo 63 = .ok (.goto 4, 3) := dk_167 0 4 (dk_at dksX2_fewestTicksTo_2 16 rfl rfl)
theorem dX2_fewestTicksTo_66 : decode cX2_fewestTicksTo 66 = .ok (.iload_n 3, 1) := dk_29 (dk_at dksX2_fewestTicksTo_2 19 rfl rfl)
theorem dX2_fewestTicksTo_67 : decode cX2_fewestTicksTo 67 = .ok (.istore_n 3, 1) := dk_62 (dk_at dksX2_fewestTicksTo_2 20 rfl rfl)
theorem dX2_fewestTicksTo_68 : decode cX2_fewestTicksTo 68 = .ok (.iinc 4 1, 3) := dk_132 4 1 (dk_at dksX2_fewestTicksTo_2 21 rfl rfl)
theorem dX2_fewestTicksTo_71 : decode cX2_fewestTicksTo 71 = .ok (.goto (-57), 3) := dk_167 255 199 (dk_at dksX2_fewestTicksTo_3 0 rfl rfl)
theorem dX2_fewestTicksTo_74 : decode cX2_fewestTicksTo 74 = .ok (.iload_n 3, 1) := dk_29 (dk_at dksX2_fewestTicksTo_3 3 rfl rfl)
theorem dX2_fewestTicksTo_75 : decode cX2_fewestTicksTo 75 = .ok (.ireturn, 1) := dk_172 (dk_at dksX2_fewestTicksTo_3 4 rfl rfl)
theorem q93 : (Jvm.Cond.initialized "FerryClocks$Desk") ∈ lw_all := lw_g (lw_at lw_m1 2 rfl) rfl
theorem q135 : (Jvm.Cond.instantiable "FerryClocks$Desk" (5 : Nat)) ∈ lw_all := lw_g (lw_at lw_m1 44 rfl) rfl
theorem q137 : (Jvm.Cond.instanceMethod ({ cls := "FerryClocks$Desk", name := "<init>", desc := "()V" } : Jvm.MethodName)) ∈ lw_all := lw_g (lw_at lw_m1 46 rfl) rfl
theorem q138 : (Jvm.Cond.code ({ cls := "FerryClocks$Desk", name := "<init>", desc := "()V" } : Jvm.MethodName) prog_2_method_1_code (2 : Nat) (Option.none : Option Jvm.ClassFile.FieldType)) ∈ lw_all := lw_g (lw_at lw_m1 47 rfl) rfl
theorem q139 : (Jvm.Cond.methodLink "FerryClocks$Desk" (3 : Nat) ({ cls := "java/lang/Object", name := "<init>", desc := "()V" } : Jvm.MethodName)) ∈ lw_all := lw_g (lw_at lw_m1 48 rfl) rfl
theorem q140 : (Jvm.Cond.classLink "FerryClocks$Desk" (9 : Nat) "java/util/ArrayList") ∈ lw_all := lw_g (lw_at lw_m1 49 rfl) rfl
theorem q142 : (Jvm.Cond.methodLink "FerryClocks$Desk" (11 : Nat) ({ cls := "java/util/ArrayList", name := "<init>", desc := "()V" } : Jvm.MethodName)) ∈ lw_all := lw_g (lw_at lw_m1 51 rfl) rfl
theorem q166 : (Jvm.Cond.classLink "FerryClocks$Desk" (18 : Nat) "FerryClocks$Zone") ∈ lw_all := lw_g (lw_at lw_m1 75 rfl) rfl
theorem q169 : (Jvm.Cond.methodLink "FerryClocks$Desk" (24 : Nat) ({ cls := "FerryClocks$Zone", name := "<init>", desc := "()V" } : Jvm.MethodName)) ∈ lw_all := lw_g (lw_at lw_m1 78 rfl) rfl
theorem q177 : (Jvm.Cond.fieldLinkNest "FerryClocks$Desk" (244 : Nat) "FerryClocks$Zone" "bounds" "[I" "FerryClocks") ∈ lw_tbl := lw_at lw_m1 86 rfl
theorem q183 : (Jvm.Cond.fieldLink "FerryClocks$Desk" (29 : Nat) "FerryClocks$Desk" "stays" "[I") ∈ lw_all := lw_g (lw_at lw_m1 92 rfl) rfl
theorem q184 : (Jvm.Cond.fieldLink "FerryClocks$Desk" (12 : Nat) "FerryClocks$Desk" "all" "Ljava/util/ArrayList;") ∈ lw_all := lw_g (lw_at lw_m1 93 rfl) rfl
theorem q186 : (Jvm.Cond.fieldLink "FerryClocks$Desk" (20 : Nat) "FerryClocks$Desk" "shelves" "[LFerryClocks$Zone;") ∈ lw_all := lw_g (lw_at lw_m1 95 rfl) rfl
theorem q188 : (Jvm.Cond.fieldLink "FerryClocks$Desk" (25 : Nat) "FerryClocks$Desk" "zone" "LFerryClocks$Zone;") ∈ lw_all := lw_g (lw_at lw_m1 97 rfl) rfl
theorem q190 : (Jvm.Cond.fieldLink "FerryClocks$Desk" (58 : Nat) "FerryClocks$Desk" "works" "I") ∈ lw_all := lw_g (lw_at lw_m1 99 rfl) rfl
theorem q192 : (Jvm.Cond.laysFinal "FerryClocks$Desk" "FerryClocks$Desk" "stays" "[I") ∈ lw_all := lw_g (lw_at lw_m1 101 rfl) rfl
theorem q193 : (Jvm.Cond.soleField "FerryClocks$Desk" "stays") ∈ lw_all := lw_g (lw_at lw_m1 102 rfl) rfl
theorem q194 : (Jvm.Cond.laysFinal "FerryClocks$Desk" "FerryClocks$Desk" "all" "Ljava/util/ArrayList;") ∈ lw_all := lw_g (lw_at lw_m1 103 rfl) rfl
theorem q195 : (Jvm.Cond.soleField "FerryClocks$Desk" "all") ∈ lw_all := lw_g (lw_at lw_m1 104 rfl) rfl
theorem q196 : (Jvm.Cond.laysFinal "FerryClocks$Desk" "FerryClocks$Desk" "shelves" "[LFerryClocks$Zone;") ∈ lw_all := lw_g (lw_at lw_m1 105 rfl) rfl
theorem q197 : (Jvm.Cond.soleField "FerryClocks$Desk" "shelves") ∈ lw_all := lw_g (lw_at lw_m1 106 rfl) rfl
theorem q198 : (Jvm.Cond.lays "FerryClocks$Desk" "FerryClocks$Desk" "zone" "LFerryClocks$Zone;") ∈ lw_all := lw_g (lw_at lw_m1 107 rfl) rfl
theorem q199 : (Jvm.Cond.soleField "FerryClocks$Desk" "zone") ∈ lw_all := lw_g (lw_at lw_m1 108 rfl) rfl
theorem q200 : (Jvm.Cond.lays "FerryClocks$Desk" "FerryClocks$Desk" "works" "I") ∈ lw_all := lw_g (lw_at lw_m1 109 rfl) rfl
theorem q201 : (Jvm.Cond.soleField "FerryClocks$Desk" "works") ∈ lw_all := lw_g (lw_at lw_m1 110 rfl) rfl
theorem q202 : (Jvm.Cond.superclass "FerryClocks$Desk" "java/lang/Object") ∈ lw_all := lw_g (lw_at lw_m1 111 rfl) rfl
theorem q279 : (Jvm.Cond.instanceMethod ({ cls := "FerryClocks$Desk", name := "<init>", desc := "(LFerryClocks$Desk;)V" } : Jvm.MethodName)) ∈ lw_all := lw_g (lw_at lw_m1 188 rfl) rfl
theorem q280 : (Jvm.Cond.code ({ cls := "FerryClocks$Desk", name := "<init>", desc := "(LFerryClocks$Desk;)V" } : Jvm.MethodName) prog_2_method_2_code (3 : Nat) (Option.none : Option Jvm.ClassFile.FieldType)) ∈ lw_all := lw_g (lw_at lw_m1 189 rfl) rfl
theorem q281 : (Jvm.Cond.methodLink "FerryClocks$Desk" (33 : Nat) ({ cls := "[I", name := "clone", desc := "()Ljava/lang/Object;" } : Jvm.MethodName)) ∈ lw_all := lw_g (lw_at lw_m1 190 rfl) rfl
theorem q287 : (Jvm.Cond.classLink "FerryClocks$Desk" (34 : Nat) "[I") ∈ lw_all := lw_g (lw_at lw_m1 196 rfl) rfl
theorem q288 : (Jvm.Cond.methodLink "FerryClocks$Desk" (38 : Nat) ({ cls := "java/util/ArrayList", name := "size", desc := "()I" } : Jvm.MethodName)) ∈ lw_all := lw_g (lw_at lw_m1 197 rfl) rfl
theorem q292 : (Jvm.Cond.classLink "FerryClocks$Desk" (42 : Nat) "FerryClocks$Line") ∈ lw_all := lw_g (lw_at lw_m1 201 rfl) rfl
theorem q294 : (Jvm.Cond.methodLink "FerryClocks$Desk" (44 : Nat) ({ cls := "java/util/ArrayList", name := "get", desc := "(I)Ljava/lang/Object;" } : Jvm.MethodName)) ∈ lw_all := lw_g (lw_at lw_m1 203 rfl) rfl
theorem q308 : (Jvm.Cond.methodLink "FerryClocks$Desk" (48 : Nat) ({ cls := "FerryClocks$Line", name := "<init>", desc := "(LFerryClocks$Line;)V" } : Jvm.MethodName)) ∈ lw_all := lw_g (lw_at lw_m1 217 rfl) rfl
theorem q315 : (Jvm.Cond.fieldLinkNest "FerryClocks$Desk" (119 : Nat) "FerryClocks$Line" "from" "I" "FerryClocks") ∈ lw_tbl := lw_at lw_m1 224 rfl
theorem q318 : (Jvm.Cond.fieldLinkNest "FerryClocks$Desk" (126 : Nat) "FerryClocks$Line" "to" "I" "FerryClocks") ∈ lw_tbl := lw_at lw_m1 227 rfl
theorem q321 : (Jvm.Cond.fieldLinkNest "FerryClocks$Desk" (260 : Nat) "FerryClocks$Line" "least" "[I" "FerryClocks") ∈ lw_tbl := lw_at lw_m1 230 rfl
theorem q323 : (Jvm.Cond.fieldLinkNest "FerryClocks$Desk" (263 : Nat) "FerryClocks$Line" "most" "[I" "FerryClocks") ∈ lw_tbl := lw_at lw_m1 232 rfl
theorem q325 : (Jvm.Cond.fieldLinkNest "FerryClocks$Desk" (266 : Nat) "FerryClocks$Line" "resets" "I" "FerryClocks") ∈ lw_tbl := lw_at lw_m1 234 rfl
theorem q337 : (Jvm.Cond.methodLink "FerryClocks$Desk" (51 : Nat) ({ cls := "java/util/ArrayList", name := "add", desc := "(Ljava/lang/Object;)Z" } : Jvm.MethodName)) ∈ lw_all := lw_g (lw_at lw_m2 6 rfl) rfl
theorem q370 : (Jvm.Cond.selects "FerryClocks$Desk" ({ cls := "java/lang/Object", name := "getClass", desc := "()Ljava/lang/Class;" } : Jvm.MethodName) ({ cls := "java/lang/Object", name := "getClass", desc := "()Ljava/lang/Class;" } : Jvm.MethodName)) ∈ lw_all := lw_g (lw_at lw_m2 39 rfl) rfl
theorem q398 : (Jvm.Cond.methodLink "FerryClocks$Desk" (55 : Nat) ({ cls := "FerryClocks$Zone", name := "<init>", desc := "(LFerryClocks$Zone;)V" } : Jvm.MethodName)) ∈ lw_all := lw_g (lw_at lw_m2 67 rfl) rfl
theorem q407 : (Jvm.Cond.instanceMethod ({ cls := "FerryClocks$Desk", name := "tells", desc := "(III)I" } : Jvm.MethodName)) ∈ lw_all := lw_g (lw_at lw_m2 76 rfl) rfl
theorem q408 : (Jvm.Cond.selects "FerryClocks$Desk" ({ cls := "FerryClocks$Desk", name := "tells", desc := "(III)I" } : Jvm.MethodName) ({ cls := "FerryClocks$Desk", name := "tells", desc := "(III)I" } : Jvm.MethodName)) ∈ lw_all := lw_g (lw_at lw_m2 77 rfl) rfl
theorem q409 : (Jvm.Cond.code ({ cls := "FerryClocks$Desk", name := "tells", desc := "(III)I" } : Jvm.MethodName) prog_2_method_24_code (5 : Nat) (Option.some Jvm.ClassFile.FieldType.int)) ∈ lw_all := lw_g (lw_at lw_m2 78 rfl) rfl
theorem q410 : (Jvm.Cond.methodLinkNest "FerryClocks$Desk" (197 : Nat) ({ cls := "FerryClocks", name := "arePair", desc := "(II)Z" } : Jvm.MethodName) "FerryClocks") ∈ lw_tbl := lw_at lw_m2 79 rfl
theorem q417 : (Jvm.Cond.constantLong "FerryClocks$Desk" (201 : Nat) (-9 : Int64)) ∈ lw_all := lw_g (lw_at lw_m2 86 rfl) rfl
theorem q418 : (Jvm.Cond.constantLong "FerryClocks$Desk" (203 : Nat) (9 : Int64)) ∈ lw_all := lw_g (lw_at lw_m2 87 rfl) rfl
theorem q419 : (Jvm.Cond.methodLinkNest "FerryClocks$Desk" (62 : Nat) ({ cls := "FerryClocks", name := "isBetween", desc := "(JJJ)Z" } : Jvm.MethodName) "FerryClocks") ∈ lw_tbl := lw_at lw_m2 88 rfl
theorem q420 : (Jvm.Cond.methodLinkNest "FerryClocks$Desk" (180 : Nat) ({ cls := "FerryClocks", name := "need", desc := "(ZI)V" } : Jvm.MethodName) "FerryClocks") ∈ lw_tbl := lw_at lw_m2 89 rfl
theorem q490 : (Jvm.Cond.methodLink "FerryClocks$Desk" (70 : Nat) ({ cls := "FerryClocks$Zone", name := "tells", desc := "(III)V" } : Jvm.MethodName)) ∈ lw_all := lw_g (lw_at lw_m2 159 rfl) rfl
theorem q503 : (Jvm.Cond.methodLink "FerryClocks$Desk" (194 : Nat) ({ cls := "FerryClocks$Desk", name := "takes", desc := "(LFerryClocks$Zone;)I" } : Jvm.MethodName)) ∈ lw_all := lw_g (lw_at lw_m2 172 rfl) rfl
theorem q504 : (Jvm.Cond.privateMethod ({ cls := "FerryClocks$Desk", name := "takes", desc := "(LFerryClocks$Zone;)I" } : Jvm.MethodName)) ∈ lw_tbl := lw_at lw_m2 173 rfl
theorem q505 : (Jvm.Cond.instanceMethod ({ cls := "FerryClocks$Desk", name := "takes", desc := "(LFerryClocks$Zone;)I" } : Jvm.MethodName)) ∈ lw_all := lw_g (lw_at lw_m2 174 rfl) rfl
theorem q506 : (Jvm.Cond.code ({ cls := "FerryClocks$Desk", name := "takes", desc := "(LFerryClocks$Zone;)I" } : Jvm.MethodName) prog_2_method_22_code (4 : Nat) (Option.some Jvm.ClassFile.FieldType.int)) ∈ lw_all := lw_g (lw_at lw_m2 175 rfl) rfl
theorem q507 : (Jvm.Cond.methodLink "FerryClocks$Desk" (177 : Nat) ({ cls := "FerryClocks$Zone", name := "tight", desc := "()LFerryClocks$Zone;" } : Jvm.MethodName)) ∈ lw_all := lw_g (lw_at lw_m2 176 rfl) rfl
theorem q521 : (Jvm.Cond.methodLink "FerryClocks$Desk" (81 : Nat) ({ cls := "FerryClocks$Zone", name := "hasNone", desc := "()Z" } : Jvm.MethodName)) ∈ lw_all := lw_g (lw_at lw_m2 190 rfl) rfl
theorem q525 : (Jvm.Cond.methodLink "FerryClocks$Desk" (184 : Nat) ({ cls := "FerryClocks$Zone", name := "isTooFar", desc := "()Z" } : Jvm.MethodName)) ∈ lw_all := lw_g (lw_at lw_m2 194 rfl) rfl
theorem q529 : (Jvm.Cond.methodLink "FerryClocks$Desk" (187 : Nat) ({ cls := "FerryClocks$Zone", name := "isTooGreat", desc := "()Z" } : Jvm.MethodName)) ∈ lw_all := lw_g (lw_at lw_m2 198 rfl) rfl
theorem q533 : (Jvm.Cond.methodLink "FerryClocks$Desk" (190 : Nat) ({ cls := "FerryClocks$Zone", name := "unlike", desc := "(LFerryClocks$Zone;)I" } : Jvm.MethodName)) ∈ lw_all := lw_g (lw_at lw_m2 202 rfl) rfl
theorem q538 : (Jvm.Cond.instanceMethod ({ cls := "FerryClocks$Desk", name := "forgets", desc := "(II)I" } : Jvm.MethodName)) ∈ lw_all := lw_g (lw_at lw_m2 207 rfl) rfl
theorem q539 : (Jvm.Cond.selects "FerryClocks$Desk" ({ cls := "FerryClocks$Desk", name := "forgets", desc := "(II)I" } : Jvm.MethodName) ({ cls := "FerryClocks$Desk", name := "forgets", desc := "(II)I" } : Jvm.MethodName)) ∈ lw_all := lw_g (lw_at lw_m2 208 rfl) rfl
theorem q540 : (Jvm.Cond.code ({ cls := "FerryClocks$Desk", name := "forgets", desc := "(II)I" } : Jvm.MethodName) prog_2_method_25_code (4 : Nat) (Option.some Jvm.ClassFile.FieldType.int)) ∈ lw_all := lw_g (lw_at lw_m2 209 rfl) rfl
theorem q541 : (Jvm.Cond.methodLinkNest "FerryClocks$Desk" (205 : Nat) ({ cls := "FerryClocks$Zone", name := "plain", desc := "(I)I" } : Jvm.MethodName) "FerryClocks") ∈ lw_tbl := lw_at lw_m2 210 rfl
theorem q542 : (Jvm.Cond.methodLink "FerryClocks$Desk" (101 : Nat) ({ cls := "FerryClocks$Zone", name := "sets", desc := "(III)V" } : Jvm.MethodName)) ∈ lw_all := lw_g (lw_at lw_m2 211 rfl) rfl
theorem q544 : (Jvm.Cond.instanceMethod ({ cls := "FerryClocks$Desk", name := "forgetsAll", desc := "()I" } : Jvm.MethodName)) ∈ lw_all := lw_g (lw_at lw_m2 213 rfl) rfl
theorem q545 : (Jvm.Cond.selects "FerryClocks$Desk" ({ cls := "FerryClocks$Desk", name := "forgetsAll", desc := "()I" } : Jvm.MethodName) ({ cls := "FerryClocks$Desk", name := "forgetsAll", desc := "()I" } : Jvm.MethodName)) ∈ lw_all := lw_g (lw_at lw_m2 214 rfl) rfl
theorem q546 : (Jvm.Cond.code ({ cls := "FerryClocks$Desk", name := "forgetsAll", desc := "()I" } : Jvm.MethodName) prog_2_method_26_code (1 : Nat) (Option.some Jvm.ClassFile.FieldType.int)) ∈ lw_all := lw_g (lw_at lw_m2 215 rfl) rfl
theorem q548 : (Jvm.Cond.instanceMethod ({ cls := "FerryClocks$Desk", name := "tightens", desc := "()I" } : Jvm.MethodName)) ∈ lw_all := lw_g (lw_at lw_m2 217 rfl) rfl
theorem q549 : (Jvm.Cond.selects "FerryClocks$Desk" ({ cls := "FerryClocks$Desk", name := "tightens", desc := "()I" } : Jvm.MethodName) ({ cls := "FerryClocks$Desk", name := "tightens", desc := "()I" } : Jvm.MethodName)) ∈ lw_all := lw_g (lw_at lw_m2 218 rfl) rfl
theorem q550 : (Jvm.Cond.code ({ cls := "FerryClocks$Desk", name := "tightens", desc := "()I" } : Jvm.MethodName) prog_2_method_27_code (1 : Nat) (Option.some Jvm.ClassFile.FieldType.int)) ∈ lw_all := lw_g (lw_at lw_m2 219 rfl) rfl
theorem q551 : (Jvm.Cond.methodLink "FerryClocks$Desk" (208 : Nat) ({ cls := "FerryClocks$Desk", name := "readied", desc := "()LFerryClocks$Zone;" } : Jvm.MethodName)) ∈ lw_all := lw_g (lw_at lw_m2 220 rfl) rfl
theorem q552 : (Jvm.Cond.privateMethod ({ cls := "FerryClocks$Desk", name := "readied", desc := "()LFerryClocks$Zone;" } : Jvm.MethodName)) ∈ lw_tbl := lw_at lw_m2 221 rfl
theorem q553 : (Jvm.Cond.instanceMethod ({ cls := "FerryClocks$Desk", name := "readied", desc := "()LFerryClocks$Zone;" } : Jvm.MethodName)) ∈ lw_all := lw_g (lw_at lw_m2 222 rfl) rfl
theorem q554 : (Jvm.Cond.code ({ cls := "FerryClocks$Desk", name := "readied", desc := "()LFerryClocks$Zone;" } : Jvm.MethodName) prog_2_method_21_code (2 : Nat) (Option.some (Jvm.ClassFile.FieldType.object "FerryClocks$Zone"))) ∈ lw_all := lw_g (lw_at lw_m2 223 rfl) rfl
theorem q556 : (Jvm.Cond.instanceMethod ({ cls := "FerryClocks$Desk", name := "resets", desc := "(II)I" } : Jvm.MethodName)) ∈ lw_all := lw_g (lw_at lw_m2 225 rfl) rfl
theorem q557 : (Jvm.Cond.selects "FerryClocks$Desk" ({ cls := "FerryClocks$Desk", name := "resets", desc := "(II)I" } : Jvm.MethodName) ({ cls := "FerryClocks$Desk", name := "resets", desc := "(II)I" } : Jvm.MethodName)) ∈ lw_all := lw_g (lw_at lw_m2 226 rfl) rfl
theorem q558 : (Jvm.Cond.code ({ cls := "FerryClocks$Desk", name := "resets", desc := "(II)I" } : Jvm.MethodName) prog_2_method_28_code (6 : Nat) (Option.some Jvm.ClassFile.FieldType.int)) ∈ lw_all := lw_g (lw_at lw_m2 227 rfl) rfl
theorem q559 : (Jvm.Cond.methodLinkNest "FerryClocks$Desk" (211 : Nat) ({ cls := "FerryClocks", name := "isClock", desc := "(I)Z" } : Jvm.MethodName) "FerryClocks") ∈ lw_tbl := lw_at lw_m2 228 rfl
theorem q563 : (Jvm.Cond.methodLink "FerryClocks$Desk" (214 : Nat) ({ cls := "FerryClocks$Zone", name := "at", desc := "(II)I" } : Jvm.MethodName)) ∈ lw_all := lw_g (lw_at lw_m2 232 rfl) rfl
theorem q564 : (Jvm.Cond.methodLink "FerryClocks$Desk" (217 : Nat) ({ cls := "FerryClocks$Zone", name := "resets", desc := "(II)V" } : Jvm.MethodName)) ∈ lw_all := lw_g (lw_at lw_m2 233 rfl) rfl
theorem q568 : (Jvm.Cond.methodLink "FerryClocks$Desk" (221 : Nat) ({ cls := "FerryClocks$Desk", name := "takesWorked", desc := "(LFerryClocks$Zone;)I" } : Jvm.MethodName)) ∈ lw_all := lw_g (lw_at lw_m2 237 rfl) rfl
theorem q569 : (Jvm.Cond.privateMethod ({ cls := "FerryClocks$Desk", name := "takesWorked", desc := "(LFerryClocks$Zone;)I" } : Jvm.MethodName)) ∈ lw_tbl := lw_at lw_m2 238 rfl
theorem q570 : (Jvm.Cond.instanceMethod ({ cls := "FerryClocks$Desk", name := "takesWorked", desc := "(LFerryClocks$Zone;)I" } : Jvm.MethodName)) ∈ lw_all := lw_g (lw_at lw_m2 239 rfl) rfl
theorem q571 : (Jvm.Cond.code ({ cls := "FerryClocks$Desk", name := "takesWorked", desc := "(LFerryClocks$Zone;)I" } : Jvm.MethodName) prog_2_method_23_code (2 : Nat) (Option.some Jvm.ClassFile.FieldType.int)) ∈ lw_all := lw_g (lw_at lw_m3 0 rfl) rfl
theorem q573 : (Jvm.Cond.instanceMethod ({ cls := "FerryClocks$Desk", name := "delays", desc := "()I" } : Jvm.MethodName)) ∈ lw_all := lw_g (lw_at lw_m3 2 rfl) rfl
theorem q574 : (Jvm.Cond.selects "FerryClocks$Desk" ({ cls := "FerryClocks$Desk", name := "delays", desc := "()I" } : Jvm.MethodName) ({ cls := "FerryClocks$Desk", name := "delays", desc := "()I" } : Jvm.MethodName)) ∈ lw_all := lw_g (lw_at lw_m3 3 rfl) rfl
theorem q575 : (Jvm.Cond.code ({ cls := "FerryClocks$Desk", name := "delays", desc := "()I" } : Jvm.MethodName) prog_2_method_29_code (4 : Nat) (Option.some Jvm.ClassFile.FieldType.int)) ∈ lw_all := lw_g (lw_at lw_m3 4 rfl) rfl
theorem q576 : (Jvm.Cond.methodLink "FerryClocks$Desk" (85 : Nat) ({ cls := "FerryClocks$Zone", name := "delays", desc := "()I" } : Jvm.MethodName)) ∈ lw_all := lw_g (lw_at lw_m3 5 rfl) rfl
theorem q581 : (Jvm.Cond.instanceMethod ({ cls := "FerryClocks$Desk", name := "goesBack", desc := "()I" } : Jvm.MethodName)) ∈ lw_all := lw_g (lw_at lw_m3 10 rfl) rfl
theorem q582 : (Jvm.Cond.selects "FerryClocks$Desk" ({ cls := "FerryClocks$Desk", name := "goesBack", desc := "()I" } : Jvm.MethodName) ({ cls := "FerryClocks$Desk", name := "goesBack", desc := "()I" } : Jvm.MethodName)) ∈ lw_all := lw_g (lw_at lw_m3 11 rfl) rfl
theorem q583 : (Jvm.Cond.code ({ cls := "FerryClocks$Desk", name := "goesBack", desc := "()I" } : Jvm.MethodName) prog_2_method_30_code (2 : Nat) (Option.some Jvm.ClassFile.FieldType.int)) ∈ lw_all := lw_g (lw_at lw_m3 12 rfl) rfl
theorem q584 : (Jvm.Cond.methodLink "FerryClocks$Desk" (224 : Nat) ({ cls := "FerryClocks$Zone", name := "goesBack", desc := "()V" } : Jvm.MethodName)) ∈ lw_all := lw_g (lw_at lw_m3 13 rfl) rfl
theorem q589 : (Jvm.Cond.instanceMethod ({ cls := "FerryClocks$Desk", name := "frees", desc := "(I)I" } : Jvm.MethodName)) ∈ lw_all := lw_g (lw_at lw_m3 18 rfl) rfl
theorem q590 : (Jvm.Cond.selects "FerryClocks$Desk" ({ cls := "FerryClocks$Desk", name := "frees", desc := "(I)I" } : Jvm.MethodName) ({ cls := "FerryClocks$Desk", name := "frees", desc := "(I)I" } : Jvm.MethodName)) ∈ lw_all := lw_g (lw_at lw_m3 19 rfl) rfl
theorem q591 : (Jvm.Cond.code ({ cls := "FerryClocks$Desk", name := "frees", desc := "(I)I" } : Jvm.MethodName) prog_2_method_31_code (3 : Nat) (Option.some Jvm.ClassFile.FieldType.int)) ∈ lw_all := lw_g (lw_at lw_m3 20 rfl) rfl
theorem q592 : (Jvm.Cond.methodLink "FerryClocks$Desk" (227 : Nat) ({ cls := "FerryClocks$Zone", name := "frees", desc := "(I)V" } : Jvm.MethodName)) ∈ lw_all := lw_g (lw_at lw_m3 21 rfl) rfl
theorem q597 : (Jvm.Cond.instanceMethod ({ cls := "FerryClocks$Desk", name := "copies", desc := "(II)I" } : Jvm.MethodName)) ∈ lw_all := lw_g (lw_at lw_m3 26 rfl) rfl
theorem q598 : (Jvm.Cond.selects "FerryClocks$Desk" ({ cls := "FerryClocks$Desk", name := "copies", desc := "(II)I" } : Jvm.MethodName) ({ cls := "FerryClocks$Desk", name := "copies", desc := "(II)I" } : Jvm.MethodName)) ∈ lw_all := lw_g (lw_at lw_m3 27 rfl) rfl
theorem q599 : (Jvm.Cond.code ({ cls := "FerryClocks$Desk", name := "copies", desc := "(II)I" } : Jvm.MethodName) prog_2_method_32_code (5 : Nat) (Option.some Jvm.ClassFile.FieldType.int)) ∈ lw_all := lw_g (lw_at lw_m3 28 rfl) rfl
theorem q600 : (Jvm.Cond.methodLink "FerryClocks$Desk" (231 : Nat) ({ cls := "FerryClocks$Zone", name := "copies", desc := "(II)V" } : Jvm.MethodName)) ∈ lw_all := lw_g (lw_at lw_m3 29 rfl) rfl
theorem q605 : (Jvm.Cond.instanceMethod ({ cls := "FerryClocks$Desk", name := "shifts", desc := "(II)I" } : Jvm.MethodName)) ∈ lw_all := lw_g (lw_at lw_m3 34 rfl) rfl
theorem q606 : (Jvm.Cond.selects "FerryClocks$Desk" ({ cls := "FerryClocks$Desk", name := "shifts", desc := "(II)I" } : Jvm.MethodName) ({ cls := "FerryClocks$Desk", name := "shifts", desc := "(II)I" } : Jvm.MethodName)) ∈ lw_all := lw_g (lw_at lw_m3 35 rfl) rfl
theorem q607 : (Jvm.Cond.code ({ cls := "FerryClocks$Desk", name := "shifts", desc := "(II)I" } : Jvm.MethodName) prog_2_method_33_code (5 : Nat) (Option.some Jvm.ClassFile.FieldType.int)) ∈ lw_all := lw_g (lw_at lw_m3 36 rfl) rfl
theorem q608 : (Jvm.Cond.methodLink "FerryClocks$Desk" (234 : Nat) ({ cls := "FerryClocks$Zone", name := "shifts", desc := "(II)V" } : Jvm.MethodName)) ∈ lw_all := lw_g (lw_at lw_m3 37 rfl) rfl
theorem q616 : (Jvm.Cond.instanceMethod ({ cls := "FerryClocks$Desk", name := "puts", desc := "(I)I" } : Jvm.MethodName)) ∈ lw_all := lw_g (lw_at lw_m3 45 rfl) rfl
theorem q617 : (Jvm.Cond.selects "FerryClocks$Desk" ({ cls := "FerryClocks$Desk", name := "puts", desc := "(I)I" } : Jvm.MethodName) ({ cls := "FerryClocks$Desk", name := "puts", desc := "(I)I" } : Jvm.MethodName)) ∈ lw_all := lw_g (lw_at lw_m3 46 rfl) rfl
theorem q618 : (Jvm.Cond.code ({ cls := "FerryClocks$Desk", name := "puts", desc := "(I)I" } : Jvm.MethodName) prog_2_method_34_code (3 : Nat) (Option.some Jvm.ClassFile.FieldType.int)) ∈ lw_all := lw_g (lw_at lw_m3 47 rfl) rfl
theorem q619 : (Jvm.Cond.methodLinkNest "FerryClocks$Desk" (237 : Nat) ({ cls := "FerryClocks", name := "isShelf", desc := "(I)Z" } : Jvm.MethodName) "FerryClocks") ∈ lw_tbl := lw_at lw_m3 48 rfl
theorem q623 : (Jvm.Cond.instanceMethod ({ cls := "FerryClocks$Desk", name := "meets", desc := "(I)I" } : Jvm.MethodName)) ∈ lw_all := lw_g (lw_at lw_m3 52 rfl) rfl
theorem q624 : (Jvm.Cond.selects "FerryClocks$Desk" ({ cls := "FerryClocks$Desk", name := "meets", desc := "(I)I" } : Jvm.MethodName) ({ cls := "FerryClocks$Desk", name := "meets", desc := "(I)I" } : Jvm.MethodName)) ∈ lw_all := lw_g (lw_at lw_m3 53 rfl) rfl
theorem q625 : (Jvm.Cond.code ({ cls := "FerryClocks$Desk", name := "meets", desc := "(I)I" } : Jvm.MethodName) prog_2_method_36_code (5 : Nat) (Option.some Jvm.ClassFile.FieldType.int)) ∈ lw_all := lw_g (lw_at lw_m3 54 rfl) rfl
theorem q626 : (Jvm.Cond.methodLink "FerryClocks$Desk" (240 : Nat) ({ cls := "FerryClocks$Desk", name := "onShelf", desc := "(I)LFerryClocks$Zone;" } : Jvm.MethodName)) ∈ lw_all := lw_g (lw_at lw_m3 55 rfl) rfl
theorem q627 : (Jvm.Cond.privateMethod ({ cls := "FerryClocks$Desk", name := "onShelf", desc := "(I)LFerryClocks$Zone;" } : Jvm.MethodName)) ∈ lw_tbl := lw_at lw_m3 56 rfl
theorem q628 : (Jvm.Cond.instanceMethod ({ cls := "FerryClocks$Desk", name := "onShelf", desc := "(I)LFerryClocks$Zone;" } : Jvm.MethodName)) ∈ lw_all := lw_g (lw_at lw_m3 57 rfl) rfl
theorem q629 : (Jvm.Cond.code ({ cls := "FerryClocks$Desk", name := "onShelf", desc := "(I)LFerryClocks$Zone;" } : Jvm.MethodName) prog_2_method_35_code (2 : Nat) (Option.some (Jvm.ClassFile.FieldType.object "FerryClocks$Zone"))) ∈ lw_all := lw_g (lw_at lw_m3 58 rfl) rfl
theorem q630 : (Jvm.Cond.methodLink "FerryClocks$Desk" (139 : Nat) ({ cls := "java/lang/Math", name := "min", desc := "(II)I" } : Jvm.MethodName)) ∈ lw_all := lw_g (lw_at lw_m3 59 rfl) rfl
theorem q632 : (Jvm.Cond.instanceMethod ({ cls := "FerryClocks$Desk", name := "wraps", desc := "(I)I" } : Jvm.MethodName)) ∈ lw_all := lw_g (lw_at lw_m3 61 rfl) rfl
theorem q633 : (Jvm.Cond.selects "FerryClocks$Desk" ({ cls := "FerryClocks$Desk", name := "wraps", desc := "(I)I" } : Jvm.MethodName) ({ cls := "FerryClocks$Desk", name := "wraps", desc := "(I)I" } : Jvm.MethodName)) ∈ lw_all := lw_g (lw_at lw_m3 62 rfl) rfl
theorem q634 : (Jvm.Cond.code ({ cls := "FerryClocks$Desk", name := "wraps", desc := "(I)I" } : Jvm.MethodName) prog_2_method_37_code (5 : Nat) (Option.some Jvm.ClassFile.FieldType.int)) ∈ lw_all := lw_g (lw_at lw_m3 63 rfl) rfl
theorem q635 : (Jvm.Cond.methodLink "FerryClocks$Desk" (247 : Nat) ({ cls := "java/lang/Math", name := "max", desc := "(II)I" } : Jvm.MethodName)) ∈ lw_all := lw_g (lw_at lw_m3 64 rfl) rfl
theorem q637 : (Jvm.Cond.instanceMethod ({ cls := "FerryClocks$Desk", name := "allows", desc := "(III)I" } : Jvm.MethodName)) ∈ lw_all := lw_g (lw_at lw_m3 66 rfl) rfl
theorem q638 : (Jvm.Cond.selects "FerryClocks$Desk" ({ cls := "FerryClocks$Desk", name := "allows", desc := "(III)I" } : Jvm.MethodName) ({ cls := "FerryClocks$Desk", name := "allows", desc := "(III)I" } : Jvm.MethodName)) ∈ lw_all := lw_g (lw_at lw_m3 67 rfl) rfl
theorem q639 : (Jvm.Cond.code ({ cls := "FerryClocks$Desk", name := "allows", desc := "(III)I" } : Jvm.MethodName) prog_2_method_38_code (5 : Nat) (Option.some Jvm.ClassFile.FieldType.int)) ∈ lw_all := lw_g (lw_at lw_m3 68 rfl) rfl
theorem q640 : (Jvm.Cond.methodLinkNest "FerryClocks$Desk" (250 : Nat) ({ cls := "FerryClocks", name := "isHarbour", desc := "(I)Z" } : Jvm.MethodName) "FerryClocks") ∈ lw_tbl := lw_at lw_m3 69 rfl
theorem q644 : (Jvm.Cond.constantLong "FerryClocks$Desk" (253 : Nat) (10 : Int64)) ∈ lw_all := lw_g (lw_at lw_m3 73 rfl) rfl
theorem q645 : (Jvm.Cond.methodLink "FerryClocks$Desk" (66 : Nat) ({ cls := "FerryClocks$Desk", name := "stay", desc := "(II)I" } : Jvm.MethodName)) ∈ lw_all := lw_g (lw_at lw_m3 74 rfl) rfl
theorem q646 : (Jvm.Cond.instanceMethod ({ cls := "FerryClocks$Desk", name := "stay", desc := "(II)I" } : Jvm.MethodName)) ∈ lw_all := lw_g (lw_at lw_m3 75 rfl) rfl
theorem q647 : (Jvm.Cond.selects "FerryClocks$Desk" ({ cls := "FerryClocks$Desk", name := "stay", desc := "(II)I" } : Jvm.MethodName) ({ cls := "FerryClocks$Desk", name := "stay", desc := "(II)I" } : Jvm.MethodName)) ∈ lw_all := lw_g (lw_at lw_m3 76 rfl) rfl
theorem q648 : (Jvm.Cond.code ({ cls := "FerryClocks$Desk", name := "stay", desc := "(II)I" } : Jvm.MethodName) prog_2_method_4_code (3 : Nat) (Option.some Jvm.ClassFile.FieldType.int)) ∈ lw_all := lw_g (lw_at lw_m3 77 rfl) rfl
theorem q650 : (Jvm.Cond.instanceMethod ({ cls := "FerryClocks$Desk", name := "getsLine", desc := "(II)I" } : Jvm.MethodName)) ∈ lw_all := lw_g (lw_at lw_m3 79 rfl) rfl
theorem q651 : (Jvm.Cond.selects "FerryClocks$Desk" ({ cls := "FerryClocks$Desk", name := "getsLine", desc := "(II)I" } : Jvm.MethodName) ({ cls := "FerryClocks$Desk", name := "getsLine", desc := "(II)I" } : Jvm.MethodName)) ∈ lw_all := lw_g (lw_at lw_m3 80 rfl) rfl
theorem q652 : (Jvm.Cond.code ({ cls := "FerryClocks$Desk", name := "getsLine", desc := "(II)I" } : Jvm.MethodName) prog_2_method_39_code (3 : Nat) (Option.some Jvm.ClassFile.FieldType.int)) ∈ lw_all := lw_g (lw_at lw_m3 81 rfl) rfl
theorem q653 : (Jvm.Cond.methodLink "FerryClocks$Desk" (255 : Nat) ({ cls := "FerryClocks$Line", name := "<init>", desc := "(II)V" } : Jvm.MethodName)) ∈ lw_all := lw_g (lw_at lw_m3 82 rfl) rfl
theorem q657 : (Jvm.Cond.instanceMethod ({ cls := "FerryClocks$Desk", name := "wants", desc := "(IIII)I" } : Jvm.MethodName)) ∈ lw_all := lw_g (lw_at lw_m3 86 rfl) rfl
theorem q658 : (Jvm.Cond.selects "FerryClocks$Desk" ({ cls := "FerryClocks$Desk", name := "wants", desc := "(IIII)I" } : Jvm.MethodName) ({ cls := "FerryClocks$Desk", name := "wants", desc := "(IIII)I" } : Jvm.MethodName)) ∈ lw_all := lw_g (lw_at lw_m3 87 rfl) rfl
theorem q659 : (Jvm.Cond.code ({ cls := "FerryClocks$Desk", name := "wants", desc := "(IIII)I" } : Jvm.MethodName) prog_2_method_40_code (7 : Nat) (Option.some Jvm.ClassFile.FieldType.int)) ∈ lw_all := lw_g (lw_at lw_m3 88 rfl) rfl
theorem q660 : (Jvm.Cond.methodLink "FerryClocks$Desk" (257 : Nat) ({ cls := "FerryClocks$Desk", name := "isLine", desc := "(I)Z" } : Jvm.MethodName)) ∈ lw_all := lw_g (lw_at lw_m3 89 rfl) rfl
theorem q661 : (Jvm.Cond.instanceMethod ({ cls := "FerryClocks$Desk", name := "isLine", desc := "(I)Z" } : Jvm.MethodName)) ∈ lw_all := lw_g (lw_at lw_m3 90 rfl) rfl
theorem q662 : (Jvm.Cond.selects "FerryClocks$Desk" ({ cls := "FerryClocks$Desk", name := "isLine", desc := "(I)Z" } : Jvm.MethodName) ({ cls := "FerryClocks$Desk", name := "isLine", desc := "(I)Z" } : Jvm.MethodName)) ∈ lw_all := lw_g (lw_at lw_m3 91 rfl) rfl
theorem q663 : (Jvm.Cond.code ({ cls := "FerryClocks$Desk", name := "isLine", desc := "(I)Z" } : Jvm.MethodName) prog_2_method_3_code (2 : Nat) (Option.some Jvm.ClassFile.FieldType.boolean)) ∈ lw_all := lw_g (lw_at lw_m3 92 rfl) rfl
theorem q665 : (Jvm.Cond.instanceMethod ({ cls := "FerryClocks$Desk", name := "turnsReset", desc := "(II)I" } : Jvm.MethodName)) ∈ lw_all := lw_g (lw_at lw_m3 94 rfl) rfl
theorem q666 : (Jvm.Cond.selects "FerryClocks$Desk" ({ cls := "FerryClocks$Desk", name := "turnsReset", desc := "(II)I" } : Jvm.MethodName) ({ cls := "FerryClocks$Desk", name := "turnsReset", desc := "(II)I" } : Jvm.MethodName)) ∈ lw_all := lw_g (lw_at lw_m3 95 rfl) rfl
theorem q667 : (Jvm.Cond.code ({ cls := "FerryClocks$Desk", name := "turnsReset", desc := "(II)I" } : Jvm.MethodName) prog_2_method_41_code (3 : Nat) (Option.some Jvm.ClassFile.FieldType.int)) ∈ lw_all := lw_g (lw_at lw_m3 96 rfl) rfl
theorem q668 : (Jvm.Cond.methodLink "FerryClocks$Desk" (156 : Nat) ({ cls := "FerryClocks$Line", name := "isReset", desc := "(I)Z" } : Jvm.MethodName)) ∈ lw_all := lw_g (lw_at lw_m3 97 rfl) rfl
theorem q824 : (Jvm.Cond.instanceMethod ({ cls := "FerryClocks$Desk", name := "harboursByMoments", desc := "()I" } : Jvm.MethodName)) ∈ lw_all := lw_g (lw_at lw_m4 13 rfl) rfl
theorem q825 : (Jvm.Cond.selects "FerryClocks$Desk" ({ cls := "FerryClocks$Desk", name := "harboursByMoments", desc := "()I" } : Jvm.MethodName) ({ cls := "FerryClocks$Desk", name := "harboursByMoments", desc := "()I" } : Jvm.MethodName)) ∈ lw_all := lw_g (lw_at lw_m4 14 rfl) rfl
theorem q826 : (Jvm.Cond.code ({ cls := "FerryClocks$Desk", name := "harboursByMoments", desc := "()I" } : Jvm.MethodName) prog_2_method_16_code (4 : Nat) (Option.some Jvm.ClassFile.FieldType.int)) ∈ lw_all := lw_g (lw_at lw_m4 15 rfl) rfl
theorem q827 : (Jvm.Cond.methodLink "FerryClocks$Desk" (170 : Nat) ({ cls := "FerryClocks$Desk", name := "ticksTo", desc := "()[I" } : Jvm.MethodName)) ∈ lw_all := lw_g (lw_at lw_m4 16 rfl) rfl
theorem q828 : (Jvm.Cond.instanceMethod ({ cls := "FerryClocks$Desk", name := "ticksTo", desc := "()[I" } : Jvm.MethodName)) ∈ lw_all := lw_g (lw_at lw_m4 17 rfl) rfl
theorem q829 : (Jvm.Cond.selects "FerryClocks$Desk" ({ cls := "FerryClocks$Desk", name := "ticksTo", desc := "()[I" } : Jvm.MethodName) ({ cls := "FerryClocks$Desk", name := "ticksTo", desc := "()[I" } : Jvm.MethodName)) ∈ lw_all := lw_g (lw_at lw_m4 18 rfl) rfl
theorem q830 : (Jvm.Cond.code ({ cls := "FerryClocks$Desk", name := "ticksTo", desc := "()[I" } : Jvm.MethodName) prog_2_method_14_code (9 : Nat) (Option.some (Jvm.ClassFile.FieldType.array Jvm.ClassFile.FieldType.int))) ∈ lw_all := lw_g (lw_at lw_m4 19 rfl) rfl
theorem q831 : (Jvm.Cond.methodLink "FerryClocks$Desk" (148 : Nat) ({ cls := "FerryClocks$Desk", name := "allowed", desc := "(I)I" } : Jvm.MethodName)) ∈ lw_all := lw_g (lw_at lw_m4 20 rfl) rfl
theorem q832 : (Jvm.Cond.privateMethod ({ cls := "FerryClocks$Desk", name := "allowed", desc := "(I)I" } : Jvm.MethodName)) ∈ lw_tbl := lw_at lw_m4 21 rfl
theorem q833 : (Jvm.Cond.instanceMethod ({ cls := "FerryClocks$Desk", name := "allowed", desc := "(I)I" } : Jvm.MethodName)) ∈ lw_all := lw_g (lw_at lw_m4 22 rfl) rfl
theorem q834 : (Jvm.Cond.code ({ cls := "FerryClocks$Desk", name := "allowed", desc := "(I)I" } : Jvm.MethodName) prog_2_method_11_code (5 : Nat) (Option.some Jvm.ClassFile.FieldType.int)) ∈ lw_all := lw_g (lw_at lw_m4 23 rfl) rfl
theorem q835 : (Jvm.Cond.methodLinkNest "FerryClocks$Desk" (136 : Nat) ({ cls := "FerryClocks", name := "clockOf", desc := "(II)I" } : Jvm.MethodName) "FerryClocks") ∈ lw_tbl := lw_at lw_m4 24 rfl
theorem q838 : (Jvm.Cond.methodLink "FerryClocks$Desk" (159 : Nat) ({ cls := "FerryClocks$Desk", name := "spreads", desc := "(III[I[I)I" } : Jvm.MethodName)) ∈ lw_all := lw_g (lw_at lw_m4 27 rfl) rfl
theorem q839 : (Jvm.Cond.privateMethod ({ cls := "FerryClocks$Desk", name := "spreads", desc := "(III[I[I)I" } : Jvm.MethodName)) ∈ lw_tbl := lw_at lw_m4 28 rfl
theorem q840 : (Jvm.Cond.instanceMethod ({ cls := "FerryClocks$Desk", name := "spreads", desc := "(III[I[I)I" } : Jvm.MethodName)) ∈ lw_all := lw_g (lw_at lw_m4 29 rfl) rfl
theorem q841 : (Jvm.Cond.code ({ cls := "FerryClocks$Desk", name := "spreads", desc := "(III[I[I)I" } : Jvm.MethodName) prog_2_method_15_code (9 : Nat) (Option.some Jvm.ClassFile.FieldType.int)) ∈ lw_all := lw_g (lw_at lw_m4 30 rfl) rfl
theorem q842 : (Jvm.Cond.methodLink "FerryClocks$Desk" (166 : Nat) ({ cls := "FerryClocks$Desk", name := "moved", desc := "(ILFerryClocks$Line;)I" } : Jvm.MethodName)) ∈ lw_all := lw_g (lw_at lw_m4 31 rfl) rfl
theorem q843 : (Jvm.Cond.privateMethod ({ cls := "FerryClocks$Desk", name := "moved", desc := "(ILFerryClocks$Line;)I" } : Jvm.MethodName)) ∈ lw_tbl := lw_at lw_m4 32 rfl
theorem q844 : (Jvm.Cond.instanceMethod ({ cls := "FerryClocks$Desk", name := "moved", desc := "(ILFerryClocks$Line;)I" } : Jvm.MethodName)) ∈ lw_all := lw_g (lw_at lw_m4 33 rfl) rfl
theorem q845 : (Jvm.Cond.code ({ cls := "FerryClocks$Desk", name := "moved", desc := "(ILFerryClocks$Line;)I" } : Jvm.MethodName) prog_2_method_13_code (6 : Nat) (Option.some Jvm.ClassFile.FieldType.int)) ∈ lw_all := lw_g (lw_at lw_m4 34 rfl) rfl
theorem q846 : (Jvm.Cond.methodLink "FerryClocks$Desk" (152 : Nat) ({ cls := "FerryClocks$Line", name := "canBeTaken", desc := "(I)Z" } : Jvm.MethodName)) ∈ lw_all := lw_g (lw_at lw_m4 35 rfl) rfl
theorem q851 : (Jvm.Cond.methodLinkNest "FerryClocks$Desk" (144 : Nat) ({ cls := "FerryClocks", name := "codeOf", desc := "(IIII)I" } : Jvm.MethodName) "FerryClocks") ∈ lw_tbl := lw_at lw_m4 40 rfl
theorem q854 : (Jvm.Cond.methodLink "FerryClocks$Desk" (163 : Nat) ({ cls := "FerryClocks$Desk", name := "ticked", desc := "(I)I" } : Jvm.MethodName)) ∈ lw_all := lw_g (lw_at lw_m4 43 rfl) rfl
theorem q855 : (Jvm.Cond.privateMethod ({ cls := "FerryClocks$Desk", name := "ticked", desc := "(I)I" } : Jvm.MethodName)) ∈ lw_tbl := lw_at lw_m4 44 rfl
theorem q856 : (Jvm.Cond.instanceMethod ({ cls := "FerryClocks$Desk", name := "ticked", desc := "(I)I" } : Jvm.MethodName)) ∈ lw_all := lw_g (lw_at lw_m4 45 rfl) rfl
theorem q857 : (Jvm.Cond.code ({ cls := "FerryClocks$Desk", name := "ticked", desc := "(I)I" } : Jvm.MethodName) prog_2_method_12_code (5 : Nat) (Option.some Jvm.ClassFile.FieldType.int)) ∈ lw_all := lw_g (lw_at lw_m4 46 rfl) rfl
theorem q863 : (Jvm.Cond.instanceMethod ({ cls := "FerryClocks$Desk", name := "stuck", desc := "()I" } : Jvm.MethodName)) ∈ lw_all := lw_g (lw_at lw_m4 52 rfl) rfl
theorem q864 : (Jvm.Cond.selects "FerryClocks$Desk" ({ cls := "FerryClocks$Desk", name := "stuck", desc := "()I" } : Jvm.MethodName) ({ cls := "FerryClocks$Desk", name := "stuck", desc := "()I" } : Jvm.MethodName)) ∈ lw_all := lw_g (lw_at lw_m4 53 rfl) rfl
theorem q865 : (Jvm.Cond.code ({ cls := "FerryClocks$Desk", name := "stuck", desc := "()I" } : Jvm.MethodName) prog_2_method_19_code (5 : Nat) (Option.some Jvm.ClassFile.FieldType.int)) ∈ lw_all := lw_g (lw_at lw_m4 54 rfl) rfl
theorem q866 : (Jvm.Cond.methodLink "FerryClocks$Desk" (174 : Nat) ({ cls := "FerryClocks$Desk", name := "takable", desc := "(I)I" } : Jvm.MethodName)) ∈ lw_all := lw_g (lw_at lw_m4 55 rfl) rfl
theorem q867 : (Jvm.Cond.privateMethod ({ cls := "FerryClocks$Desk", name := "takable", desc := "(I)I" } : Jvm.MethodName)) ∈ lw_tbl := lw_at lw_m4 56 rfl
theorem q868 : (Jvm.Cond.instanceMethod ({ cls := "FerryClocks$Desk", name := "takable", desc := "(I)I" } : Jvm.MethodName)) ∈ lw_all := lw_g (lw_at lw_m4 57 rfl) rfl
theorem q869 : (Jvm.Cond.code ({ cls := "FerryClocks$Desk", name := "takable", desc := "(I)I" } : Jvm.MethodName) prog_2_method_18_code (4 : Nat) (Option.some Jvm.ClassFile.FieldType.int)) ∈ lw_all := lw_g (lw_at lw_m4 58 rfl) rfl
theorem q875 : (Jvm.Cond.instanceMethod ({ cls := "FerryClocks$Desk", name := "usable", desc := "()I" } : Jvm.MethodName)) ∈ lw_all := lw_g (lw_at lw_m4 64 rfl) rfl
theorem q876 : (Jvm.Cond.selects "FerryClocks$Desk" ({ cls := "FerryClocks$Desk", name := "usable", desc := "()I" } : Jvm.MethodName) ({ cls := "FerryClocks$Desk", name := "usable", desc := "()I" } : Jvm.MethodName)) ∈ lw_all := lw_g (lw_at lw_m4 65 rfl) rfl
theorem q877 : (Jvm.Cond.code ({ cls := "FerryClocks$Desk", name := "usable", desc := "()I" } : Jvm.MethodName) prog_2_method_20_code (4 : Nat) (Option.some Jvm.ClassFile.FieldType.int)) ∈ lw_all := lw_g (lw_at lw_m4 66 rfl) rfl
theorem q1419 : (Jvm.Cond.instanceMethod ({ cls := "FerryClocks$Desk", name := "gathered", desc := "()Ljava/util/ArrayList;" } : Jvm.MethodName)) ∈ lw_all := lw_g (lw_at lw_m6 128 rfl) rfl
theorem q1420 : (Jvm.Cond.selects "FerryClocks$Desk" ({ cls := "FerryClocks$Desk", name := "gathered", desc := "()Ljava/util/ArrayList;" } : Jvm.MethodName) ({ cls := "FerryClocks$Desk", name := "gathered", desc := "()Ljava/util/ArrayList;" } : Jvm.MethodName)) ∈ lw_all := lw_g (lw_at lw_m6 129 rfl) rfl
theorem q1421 : (Jvm.Cond.code ({ cls := "FerryClocks$Desk", name := "gathered", desc := "()Ljava/util/ArrayList;" } : Jvm.MethodName) prog_2_method_9_code (6 : Nat) (Option.some (Jvm.ClassFile.FieldType.object "java/util/ArrayList"))) ∈ lw_all := lw_g (lw_at lw_m6 130 rfl) rfl
theorem q1422 : (Jvm.Cond.methodLink "FerryClocks$Desk" (104 : Nat) ({ cls := "FerryClocks$Desk", name := "start", desc := "()LFerryClocks$Zone;" } : Jvm.MethodName)) ∈ lw_all := lw_g (lw_at lw_m6 131 rfl) rfl
theorem q1423 : (Jvm.Cond.static ({ cls := "FerryClocks$Desk", name := "start", desc := "()LFerryClocks$Zone;" } : Jvm.MethodName)) ∈ lw_all := lw_g (lw_at lw_m6 132 rfl) rfl
theorem q1424 : (Jvm.Cond.code ({ cls := "FerryClocks$Desk", name := "start", desc := "()LFerryClocks$Zone;" } : Jvm.MethodName) prog_2_method_8_code (3 : Nat) (Option.some (Jvm.ClassFile.FieldType.object "FerryClocks$Zone"))) ∈ lw_all := lw_g (lw_at lw_m6 133 rfl) rfl
theorem q1425 : (Jvm.Cond.methodLink "FerryClocks$Desk" (108 : Nat) ({ cls := "FerryClocks$Desk", name := "arrived", desc := "(ILFerryClocks$Zone;)LFerryClocks$Zone;" } : Jvm.MethodName)) ∈ lw_all := lw_g (lw_at lw_m6 134 rfl) rfl
theorem q1426 : (Jvm.Cond.privateMethod ({ cls := "FerryClocks$Desk", name := "arrived", desc := "(ILFerryClocks$Zone;)LFerryClocks$Zone;" } : Jvm.MethodName)) ∈ lw_tbl := lw_at lw_m6 135 rfl
theorem q1427 : (Jvm.Cond.instanceMethod ({ cls := "FerryClocks$Desk", name := "arrived", desc := "(ILFerryClocks$Zone;)LFerryClocks$Zone;" } : Jvm.MethodName)) ∈ lw_all := lw_g (lw_at lw_m6 136 rfl) rfl
theorem q1428 : (Jvm.Cond.code ({ cls := "FerryClocks$Desk", name := "arrived", desc := "(ILFerryClocks$Zone;)LFerryClocks$Zone;" } : Jvm.MethodName) prog_2_method_6_code (4 : Nat) (Option.some (Jvm.ClassFile.FieldType.object "FerryClocks$Zone"))) ∈ lw_all := lw_g (lw_at lw_m6 137 rfl) rfl
theorem q1429 : (Jvm.Cond.methodLink "FerryClocks$Desk" (77 : Nat) ({ cls := "FerryClocks$Desk", name := "keeps", desc := "(ILFerryClocks$Zone;)V" } : Jvm.MethodName)) ∈ lw_all := lw_g (lw_at lw_m6 138 rfl) rfl
theorem q1430 : (Jvm.Cond.privateMethod ({ cls := "FerryClocks$Desk", name := "keeps", desc := "(ILFerryClocks$Zone;)V" } : Jvm.MethodName)) ∈ lw_tbl := lw_at lw_m6 139 rfl
theorem q1431 : (Jvm.Cond.instanceMethod ({ cls := "FerryClocks$Desk", name := "keeps", desc := "(ILFerryClocks$Zone;)V" } : Jvm.MethodName)) ∈ lw_all := lw_g (lw_at lw_m6 140 rfl) rfl
theorem q1432 : (Jvm.Cond.code ({ cls := "FerryClocks$Desk", name := "keeps", desc := "(ILFerryClocks$Zone;)V" } : Jvm.MethodName) prog_2_method_5_code (4 : Nat) (Option.none : Option Jvm.ClassFile.FieldType)) ∈ lw_all := lw_g (lw_at lw_m6 141 rfl) rfl
theorem q1433 : (Jvm.Cond.methodLink "FerryClocks$Desk" (74 : Nat) ({ cls := "FerryClocks$Zone", name := "tightens", desc := "()V" } : Jvm.MethodName)) ∈ lw_all := lw_g (lw_at lw_m6 142 rfl) rfl
theorem q1434 : (Jvm.Cond.methodLink "FerryClocks$Desk" (88 : Nat) ({ cls := "FerryClocks$Zone", name := "widens", desc := "()V" } : Jvm.MethodName)) ∈ lw_all := lw_g (lw_at lw_m6 143 rfl) rfl
theorem q1439 : (Jvm.Cond.classLink "FerryClocks$Desk" (91 : Nat) "FerryClocks$Stop") ∈ lw_all := lw_g (lw_at lw_m6 148 rfl) rfl
theorem q1441 : (Jvm.Cond.methodLink "FerryClocks$Desk" (112 : Nat) ({ cls := "FerryClocks$Stop", name := "<init>", desc := "(ILFerryClocks$Zone;I)V" } : Jvm.MethodName)) ∈ lw_all := lw_g (lw_at lw_m6 150 rfl) rfl
theorem q1446 : (Jvm.Cond.fieldLinkNest "FerryClocks$Desk" (93 : Nat) "FerryClocks$Stop" "harbour" "I" "FerryClocks") ∈ lw_tbl := lw_at lw_m6 155 rfl
theorem q1449 : (Jvm.Cond.fieldLinkNest "FerryClocks$Desk" (96 : Nat) "FerryClocks$Stop" "zone" "LFerryClocks$Zone;" "FerryClocks") ∈ lw_tbl := lw_at lw_m6 158 rfl
theorem q1451 : (Jvm.Cond.fieldLinkNest "FerryClocks$Desk" (133 : Nat) "FerryClocks$Stop" "way" "I" "FerryClocks") ∈ lw_tbl := lw_at lw_m6 160 rfl
theorem q1460 : (Jvm.Cond.methodLink "FerryClocks$Desk" (115 : Nat) ({ cls := "FerryClocks$Desk", name := "goes", desc := "(LFerryClocks$Stop;LFerryClocks$Line;Ljava/util/ArrayList;)V" } : Jvm.MethodName)) ∈ lw_all := lw_g (lw_at lw_m6 169 rfl) rfl
theorem q1461 : (Jvm.Cond.privateMethod ({ cls := "FerryClocks$Desk", name := "goes", desc := "(LFerryClocks$Stop;LFerryClocks$Line;Ljava/util/ArrayList;)V" } : Jvm.MethodName)) ∈ lw_tbl := lw_at lw_m6 170 rfl
theorem q1462 : (Jvm.Cond.instanceMethod ({ cls := "FerryClocks$Desk", name := "goes", desc := "(LFerryClocks$Stop;LFerryClocks$Line;Ljava/util/ArrayList;)V" } : Jvm.MethodName)) ∈ lw_all := lw_g (lw_at lw_m6 171 rfl) rfl
theorem q1463 : (Jvm.Cond.code ({ cls := "FerryClocks$Desk", name := "goes", desc := "(LFerryClocks$Stop;LFerryClocks$Line;Ljava/util/ArrayList;)V" } : Jvm.MethodName) prog_2_method_10_code (6 : Nat) (Option.none : Option Jvm.ClassFile.FieldType)) ∈ lw_all := lw_g (lw_at lw_m6 172 rfl) rfl
theorem q1464 : (Jvm.Cond.methodLink "FerryClocks$Desk" (122 : Nat) ({ cls := "FerryClocks$Line", name := "taken", desc := "(LFerryClocks$Zone;)LFerryClocks$Zone;" } : Jvm.MethodName)) ∈ lw_all := lw_g (lw_at lw_m6 173 rfl) rfl
theorem q1475 : (Jvm.Cond.methodLink "FerryClocks$Desk" (129 : Nat) ({ cls := "FerryClocks$Desk", name := "isKnown", desc := "(ILFerryClocks$Zone;Ljava/util/ArrayList;)Z" } : Jvm.MethodName)) ∈ lw_all := lw_g (lw_at lw_m6 184 rfl) rfl
theorem q1476 : (Jvm.Cond.static ({ cls := "FerryClocks$Desk", name := "isKnown", desc := "(ILFerryClocks$Zone;Ljava/util/ArrayList;)Z" } : Jvm.MethodName)) ∈ lw_all := lw_g (lw_at lw_m6 185 rfl) rfl
theorem q1477 : (Jvm.Cond.code ({ cls := "FerryClocks$Desk", name := "isKnown", desc := "(ILFerryClocks$Zone;Ljava/util/ArrayList;)Z" } : Jvm.MethodName) prog_2_method_7_code (5 : Nat) (Option.some Jvm.ClassFile.FieldType.boolean)) ∈ lw_all := lw_g (lw_at lw_m6 186 rfl) rfl
theorem q1478 : (Jvm.Cond.methodLink "FerryClocks$Desk" (97 : Nat) ({ cls := "FerryClocks$Zone", name := "isInside", desc := "(LFerryClocks$Zone;)Z" } : Jvm.MethodName)) ∈ lw_all := lw_g (lw_at lw_m6 187 rfl) rfl
theorem q1509 : (Jvm.Cond.instanceMethod ({ cls := "FerryClocks$Desk", name := "fewestTicksTo", desc := "(I)I" } : Jvm.MethodName)) ∈ lw_all := lw_g (lw_at lw_m6 218 rfl) rfl
theorem q1510 : (Jvm.Cond.selects "FerryClocks$Desk" ({ cls := "FerryClocks$Desk", name := "fewestTicksTo", desc := "(I)I" } : Jvm.MethodName) ({ cls := "FerryClocks$Desk", name := "fewestTicksTo", desc := "(I)I" } : Jvm.MethodName)) ∈ lw_all := lw_g (lw_at lw_m6 219 rfl) rfl
theorem q1511 : (Jvm.Cond.code ({ cls := "FerryClocks$Desk", name := "fewestTicksTo", desc := "(I)I" } : Jvm.MethodName) prog_2_method_17_code (6 : Nat) (Option.some Jvm.ClassFile.FieldType.int)) ∈ lw_all := lw_g (lw_at lw_m6 220 rfl) rfl
theorem q2405 : (Jvm.Cond.castable "FerryClocks$Desk" "java/lang/Object") ∈ lw_tbl := lw_at lw_m10 154 rfl
theorem in_X2 : ∀ w ∈ wsX20, w ∈ lw_all := lw_in wsX20 [192, 194, 196, 198, 200] (by decide +kernel) (by decide +kernel)
/-! FerryClocks$Zone -/
set_option maxRecDepth 100000
def RX3 : String := "FerryClocks$Zone"
def TX3 : u_T := fun k => match k with
  | _ => ("FerryClocks$Zone", "bounds", "[I", true)
def tyX3 : Nat → FieldType := fun k => match k with
  | _ => .array .int
abbrev wsX30 : List Cond := u_ws RX3 TX3 1
theorem nmX3 : ∀ a, a < 1 → ∀ b, b < 1 → a ≠ b → (TX3 a).2.1 ≠ (TX3 b).2.1 := by decide +kernel
theorem tyX3_ok : ∀ k, k < 1 → parseFieldDescriptor (TX3 k).2.2.1 = some (tyX3 k) := by decide +kernel
abbrev cX3_init : ByteArray := prog_7_method_1_code
def yX3_init : MethodName := ⟨RX3, "<init>", "()V"⟩
def dkwX3_init_2 : List UInt8 := [184, 0, 15, 79, 132, 2, 1, 167, 255, 225, 132, 1, 1, 167, 255, 212, 177]
abbrev dktX3_init_2 : List UInt8 := dkwX3_init_2 ++ []
def dkwX3_init_1 : List UInt8 := [162, 0, 32, 42, 180, 0, 9, 7, 27, 104, 28, 96, 27, 28, 160, 0, 7, 3, 167, 0, 7, 27]
abbrev dktX3_init_1 : List UInt8 := dkwX3_init_1 ++ dktX3_init_2
def dkwX3_init_0 : List UInt8 := [42, 183, 0, 3, 42, 16, 16, 188, 10, 181, 0, 9, 3, 60, 27, 7, 162, 0, 45, 3, 61, 28, 7]
abbrev dktX3_init_0 : List UInt8 := dkwX3_init_0 ++ dktX3_init_1
theorem dksX3_init_0 : cX3_init.data.toList.drop 0 = dktX3_init_0 := by decide +kernel
theorem dksX3_init_1 : cX3_init.data.toList.drop 23 = dktX3_init_1 := dk_seg dksX3_init_0 23 rfl rfl
theorem dksX3_init_2 : cX3_init.data.toList.drop 45 = dktX3_init_2 := dk_seg dksX3_init_1 22 rfl rfl
theorem dX3_init_0 : decode cX3_init 0 = .ok (.aload_n 0, 1) := dk_42 (dk_at dksX3_init_0 0 rfl rfl)
theorem dX3_init_1 : decode cX3_init 1 = .ok (.invokespecial 3, 3) := dk_183 0 3 (dk_at dksX3_init_0 1 rfl rfl)
theorem dX3_init_4 : decode cX3_init 4 = .ok (.aload_n 0, 1) := dk_42 (dk_at dksX3_init_0 4 rfl rfl)
theorem dX3_init_5 : decode cX3_init 5 = .ok (.bipush 16, 2) := dk_16 16 (dk_at dksX3_init_0 5 rfl rfl)
theorem dX3_init_7 : decode cX3_init 7 = .ok (.newarray .int, 2) := dk_188_10 (dk_at dksX3_init_0 7 rfl rfl)
theorem dX3_init_9 : decode cX3_init 9 = .ok (.putfield 9, 3) := dk_181 0 9 (dk_at dksX3_init_0 9 rfl rfl)
theorem dX3_init_12 : decode cX3_init 12 = .ok (.iconst 0, 1) := dk_3 (dk_at dksX3_init_0 12 rfl rfl)
theorem dX3_init_13 : decode cX3_init 13 = .ok (.istore_n 1, 1) := dk_60 (dk_at dksX3_init_0 13 rfl rfl)
theorem dX3_init_14 : decode cX3_init 14 = .ok (.iload_n 1, 1) := dk_27 (dk_at dksX3_init_0 14 rfl rfl)
theorem dX3_init_15 : decode cX3_init 15 = .ok (.iconst 4, 1) := dk_7 (dk_at dksX3_init_0 15 rfl rfl)
theorem dX3_init_16 : decode cX3_init 16 = .ok (.if_icmp .ge 45, 3) := dk_162 0 45 (dk_at dksX3_init_0 16 rfl rfl)
theorem dX3_init_19 : decode cX3_init 19 = .ok (.iconst 0, 1) := dk_3 (dk_at dksX3_init_0 19 rfl rfl)
theorem dX3_init_20 : decode cX3_init 20 = .ok (.istore_n 2, 1) := dk_61 (dk_at dksX3_init_0 20 rfl rfl)
theorem dX3_init_21 : decode cX3_init 21 = .ok (.iload_n 2, 1) := dk_28 (dk_at dksX3_init_0 21 rfl rfl)
theorem dX3_init_22 : decode cX3_init 22 = .ok (.iconst 4, 1) := dk_7 (dk_at dksX3_init_0 22 rfl rfl)
theorem dX3_init_23 : decode cX3_init 23 = .ok (.if_icmp .ge 32, 3) := dk_162 0 32 (dk_at dksX3_init_1 0 rfl rfl)
theorem dX3_init_26 : decode cX3_init 26 = .ok (.aload_n 0, 1) := dk_42 (dk_at dksX3_init_1 3 rfl rfl)
theorem dX3_init_27 : decode cX3_init 27 = .ok (.getfield 9, 3) := dk_180 0 9 (dk_at dksX3_init_1 4 rfl rfl)
theorem dX3_init_30 : decode cX3_init 30 = .ok (.iconst 4, 1) := dk_7 (dk_at dksX3_init_1 7 rfl rfl)
theorem dX3_init_31 : decode cX3_init 31 = .ok (.iload_n 1, 1) := dk_27 (dk_at dksX3_init_1 8 rfl rfl)
theorem dX3_init_32 : decode cX3_init 32 = .ok (.imul, 1) := dk_104 (dk_at dksX3_init_1 9 rfl rfl)
theorem dX3_init_33 : decode cX3_init 33 = .ok (.iload_n 2, 1) := dk_28 (dk_at dksX3_init_1 10 rfl rfl)
theorem dX3_init_34 : decode cX3_init 34 = .ok (.iadd, 1) := dk_96 (dk_at dksX3_init_1 11 rfl rfl)
theorem dX3_init_35 : decode cX3_init 35 = .ok (.iload_n 1, 1) := dk_27 (dk_at dksX3_init_1 12 rfl rfl)
theorem dX3_init_36 : decode cX3_init 36 = .ok (.iload_n 2, 1) := dk_28 (dk_at dksX3_init_1 13 rfl rfl)
theorem dX3_init_37 : decode cX3_init 37 = .ok (.if_icmp .ne 7, 3) := dk_160 0 7 (dk_at dksX3_init_1 14 rfl rfl)
theorem dX3_init_40 : decode cX3_init 40 = .ok (.iconst 0, 1) := dk_3 (dk_at dksX3_init_1 17 rfl rfl)
theorem dX3_init_41 : decode cX3_init 41 = .ok (.goto 7, 3) := dk_167 0 7 (dk_at dksX3_init_1 18 rfl rfl)
theorem dX3_init_44 : decode cX3_init 44 = .ok (.iload_n 1, 1) := dk_27 (dk_at dksX3_init_1 21 rfl rfl)
theorem dX3_init_45 : decode cX3_init 45 = .ok (.invokestatic 15, 3) := dk_184 0 15 (dk_at dksX3_init_2 0 rfl rfl)
theorem dX3_init_48 : decode cX3_init 48 = .ok (.iastore, 1) := dk_79 (dk_at dksX3_init_2 3 rfl rfl)
theorem dX3_init_49 : decode cX3_init 49 = .ok (.iinc 2 1, 3) := dk_132 2 1 (dk_at dksX3_init_2 4 rfl rfl)
theorem dX3_init_52 : decode cX3_init 52 = .ok (.goto (-31), 3) := dk_167 255 225 (dk_at dksX3_init_2 7 rfl rfl)
theorem dX3_init_55 : decode cX3_init 55 = .ok (.iinc 1 1, 3) := dk_132 1 1 (dk_at dksX3_init_2 10 rfl rfl)
theorem dX3_init_58 : decode cX3_init 58 = .ok (.goto (-44), 3) := dk_167 255 212 (dk_at dksX3_init_2 13 rfl rfl)
theorem dX3_init_61 : decode cX3_init 61 = .ok (.return_, 1) := dk_177 (dk_at dksX3_init_2 16 rfl rfl)
abbrev cX3_plain : ByteArray := prog_7_method_3_code
def yX3_plain : MethodName := ⟨RX3, "plain", "(I)I"⟩
def dkwX3_plain_0 : List UInt8 := [26, 6, 160, 0, 7, 3, 167, 0, 6, 17, 39, 15, 172]
abbrev dktX3_plain_0 : List UInt8 := dkwX3_plain_0 ++ []
theorem dksX3_plain_0 : cX3_plain.data.toList.drop 0 = dktX3_plain_0 := by decide +kernel
theorem dX3_plain_0 : decode cX3_plain 0 = .ok (.iload_n 0, 1) := dk_26 (dk_at dksX3_plain_0 0 rfl rfl)
theorem dX3_plain_1 : decode cX3_plain 1 = .ok (.iconst 3, 1) := dk_6 (dk_at dksX3_plain_0 1 rfl rfl)
theorem dX3_plain_2 : decode cX3_plain 2 = .ok (.if_icmp .ne 7, 3) := dk_160 0 7 (dk_at dksX3_plain_0 2 rfl rfl)
theorem dX3_plain_5 : decode cX3_plain 5 = .ok (.iconst 0, 1) := dk_3 (dk_at dksX3_plain_0 5 rfl rfl)
theorem dX3_plain_6 : decode cX3_plain 6 = .ok (.goto 6, 3) := dk_167 0 6 (dk_at dksX3_plain_0 6 rfl rfl)
theorem dX3_plain_9 : decode cX3_plain 9 = .ok (.sipush 9999, 3) := dk_17 39 15 (dk_at dksX3_plain_0 9 rfl rfl)
theorem dX3_plain_12 : decode cX3_plain 12 = .ok (.ireturn, 1) := dk_172 (dk_at dksX3_plain_0 12 rfl rfl)
abbrev cX3_init_2 : ByteArray := prog_7_method_2_code
def yX3_init_2 : MethodName := ⟨RX3, "<init>", "(LFerryClocks$Zone;)V"⟩
def dkwX3_init_2_0 : List UInt8 := [42, 183, 0, 3, 42, 43, 180, 0, 9, 182, 0, 19, 192, 0, 20, 181, 0, 9, 177]
abbrev dktX3_init_2_0 : List UInt8 := dkwX3_init_2_0 ++ []
theorem dksX3_init_2_0 : cX3_init_2.data.toList.drop 0 = dktX3_init_2_0 := by decide +kernel
theorem dX3_init_2_0 : decode cX3_init_2 0 = .ok (.aload_n 0, 1) := dk_42 (dk_at dksX3_init_2_0 0 rfl rfl)
theorem dX3_init_2_1 : decode cX3_init_2 1 = .ok (.invokespecial 3, 3) := dk_183 0 3 (dk_at dksX3_init_2_0 1 rfl rfl)
theorem dX3_init_2_4 : decode cX3_init_2 4 = .ok (.aload_n 0, 1) := dk_42 (dk_at dksX3_init_2_0 4 rfl rfl)
theorem dX3_init_2_5 : decode cX3_init_2 5 = .ok (.aload_n 1, 1) := dk_43 (dk_at dksX3_init_2_0 5 rfl rfl)
theorem dX3_init_2_6 : decode cX3_init_2 6 = .ok (.getfield 9, 3) := dk_180 0 9 (dk_at dksX3_init_2_0 6 rfl rfl)
theorem dX3_init_2_9 : decode cX3_init_2 9 = .ok (.invokevirtual 19, 3) := dk_182 0 19 (dk_at dksX3_init_2_0 9 rfl rfl)
theorem dX3_init_2_12 : decode cX3_init_2 12 = .ok (.checkcast 20, 3) := dk_192 0 20 (dk_at dksX3_init_2_0 12 rfl rfl)
theorem dX3_init_2_15 : decode cX3_init_2 15 = .ok (.putfield 9, 3) := dk_181 0 9 (dk_at dksX3_init_2_0 15 rfl rfl)
theorem dX3_init_2_18 : decode cX3_init_2 18 = .ok (.return_, 1) := dk_177 (dk_at dksX3_init_2_0 18 rfl rfl)
abbrev cX3_tells : ByteArray := prog_7_method_25_code
def yX3_tells : MethodName := ⟨RX3, "tells", "(III)V"⟩
def dkwX3_tells_0 : List UInt8 := [42, 27, 28, 42, 27, 28, 182, 0, 30, 29, 184, 0, 60, 182, 0, 57, 177]
abbrev dktX3_tells_0 : List UInt8 := dkwX3_tells_0 ++ []
theorem dksX3_tells_0 : cX3_tells.data.toList.drop 0 = dktX3_tells_0 := by decide +kernel
theorem dX3_tells_0 : decode cX3_tells 0 = .ok (.aload_n 0, 1) := dk_42 (dk_at dksX3_tells_0 0 rfl rfl)
theorem dX3_tells_1 : decode cX3_tells 1 = .ok (.iload_n 1, 1) := dk_27 (dk_at dksX3_tells_0 1 rfl rfl)
theorem dX3_tells_2 : decode cX3_tells 2 = .ok (.iload_n 2, 1) := dk_28 (dk_at dksX3_tells_0 2 rfl rfl)
theorem dX3_tells_3 : decode cX3_tells 3 = .ok (.aload_n 0, 1) := dk_42 (dk_at dksX3_tells_0 3 rfl rfl)
theorem dX3_tells_4 : decode cX3_tells 4 = .ok (.iload_n 1, 1) := dk_27 (dk_at dksX3_tells_0 4 rfl rfl)
theorem dX3_tells_5 : decode cX3_tells 5 = .ok (.iload_n 2, 1) := dk_28 (dk_at dksX3_tells_0 5 rfl rfl)
theorem dX3_tells_6 : decode cX3_tells 6 = .ok (.invokevirtual 30, 3) := dk_182 0 30 (dk_at dksX3_tells_0 6 rfl rfl)
theorem dX3_tells_9 : decode cX3_tells 9 = .ok (.iload_n 3, 1) := dk_29 (dk_at dksX3_tells_0 9 rfl rfl)
theorem dX3_tells_10 : decode cX3_tells 10 = .ok (.invokestatic 60, 3) := dk_184 0 60 (dk_at dksX3_tells_0 10 rfl rfl)
theorem dX3_tells_13 : decode cX3_tells 13 = .ok (.invokevirtual 57, 3) := dk_182 0 57 (dk_at dksX3_tells_0 13 rfl rfl)
theorem dX3_tells_16 : decode cX3_tells 16 = .ok (.return_, 1) := dk_177 (dk_at dksX3_tells_0 16 rfl rfl)
abbrev cX3_at : ByteArray := prog_7_method_4_code
def yX3_at : MethodName := ⟨RX3, "at", "(II)I"⟩
def dkwX3_at_0 : List UInt8 := [42, 180, 0, 9, 7, 27, 104, 28, 96, 46, 172]
abbrev dktX3_at_0 : List UInt8 := dkwX3_at_0 ++ []
theorem dksX3_at_0 : cX3_at.data.toList.drop 0 = dktX3_at_0 := by decide +kernel
theorem dX3_at_0 : decode cX3_at 0 = .ok (.aload_n 0, 1) := dk_42 (dk_at dksX3_at_0 0 rfl rfl)
theorem dX3_at_1 : decode cX3_at 1 = .ok (.getfield 9, 3) := dk_180 0 9 (dk_at dksX3_at_0 1 rfl rfl)
theorem dX3_at_4 : decode cX3_at 4 = .ok (.iconst 4, 1) := dk_7 (dk_at dksX3_at_0 4 rfl rfl)
theorem dX3_at_5 : decode cX3_at 5 = .ok (.iload_n 1, 1) := dk_27 (dk_at dksX3_at_0 5 rfl rfl)
theorem dX3_at_6 : decode cX3_at 6 = .ok (.imul, 1) := dk_104 (dk_at dksX3_at_0 6 rfl rfl)
theorem dX3_at_7 : decode cX3_at 7 = .ok (.iload_n 2, 1) := dk_28 (dk_at dksX3_at_0 7 rfl rfl)
theorem dX3_at_8 : decode cX3_at 8 = .ok (.iadd, 1) := dk_96 (dk_at dksX3_at_0 8 rfl rfl)
theorem dX3_at_9 : decode cX3_at 9 = .ok (.iaload, 1) := dk_46 (dk_at dksX3_at_0 9 rfl rfl)
theorem dX3_at_10 : decode cX3_at 10 = .ok (.ireturn, 1) := dk_172 (dk_at dksX3_at_0 10 rfl rfl)
abbrev cX3_sets : ByteArray := prog_7_method_5_code
def yX3_sets : MethodName := ⟨RX3, "sets", "(III)V"⟩
def dkwX3_sets_0 : List UInt8 := [42, 180, 0, 9, 7, 27, 104, 28, 96, 29, 79, 177]
abbrev dktX3_sets_0 : List UInt8 := dkwX3_sets_0 ++ []
theorem dksX3_sets_0 : cX3_sets.data.toList.drop 0 = dktX3_sets_0 := by decide +kernel
theorem dX3_sets_0 : decode cX3_sets 0 = .ok (.aload_n 0, 1) := dk_42 (dk_at dksX3_sets_0 0 rfl rfl)
theorem dX3_sets_1 : decode cX3_sets 1 = .ok (.getfield 9, 3) := dk_180 0 9 (dk_at dksX3_sets_0 1 rfl rfl)
theorem dX3_sets_4 : decode cX3_sets 4 = .ok (.iconst 4, 1) := dk_7 (dk_at dksX3_sets_0 4 rfl rfl)
theorem dX3_sets_5 : decode cX3_sets 5 = .ok (.iload_n 1, 1) := dk_27 (dk_at dksX3_sets_0 5 rfl rfl)
theorem dX3_sets_6 : decode cX3_sets 6 = .ok (.imul, 1) := dk_104 (dk_at dksX3_sets_0 6 rfl rfl)
theorem dX3_sets_7 : decode cX3_sets 7 = .ok (.iload_n 2, 1) := dk_28 (dk_at dksX3_sets_0 7 rfl rfl)
theorem dX3_sets_8 : decode cX3_sets 8 = .ok (.iadd, 1) := dk_96 (dk_at dksX3_sets_0 8 rfl rfl)
theorem dX3_sets_9 : decode cX3_sets 9 = .ok (.iload_n 3, 1) := dk_29 (dk_at dksX3_sets_0 9 rfl rfl)
theorem dX3_sets_10 : decode cX3_sets 10 = .ok (.iastore, 1) := dk_79 (dk_at dksX3_sets_0 10 rfl rfl)
theorem dX3_sets_11 : decode cX3_sets 11 = .ok (.return_, 1) := dk_177 (dk_at dksX3_sets_0 11 rfl rfl)
abbrev cX3_tight : ByteArray := prog_7_method_7_code
def yX3_tight : MethodName := ⟨RX3, "tight", "()LFerryClocks$Zone;"⟩
def dkwX3_tight_0 : List UInt8 := [187, 0, 10, 89, 42, 183, 0, 24, 76, 43, 182, 0, 27, 43, 176]
abbrev dktX3_tight_0 : List UInt8 := dkwX3_tight_0 ++ []
theorem dksX3_tight_0 : cX3_tight.data.toList.drop 0 = dktX3_tight_0 := by decide +kernel
theorem dX3_tight_0 : decode cX3_tight 0 = .ok (.new 10, 3) := dk_187 0 10 (dk_at dksX3_tight_0 0 rfl rfl)
theorem dX3_tight_3 : decode cX3_tight 3 = .ok (.dup, 1) := dk_89 (dk_at dksX3_tight_0 3 rfl rfl)
theorem dX3_tight_4 : decode cX3_tight 4 = .ok (.aload_n 0, 1) := dk_42 (dk_at dksX3_tight_0 4 rfl rfl)
theorem dX3_tight_5 : decode cX3_tight 5 = .ok (.invokespecial 24, 3) := dk_183 0 24 (dk_at dksX3_tight_0 5 rfl rfl)
theorem dX3_tight_8 : decode cX3_tight 8 = .ok (.astore_n 1, 1) := dk_76 (dk_at dksX3_tight_0 8 rfl rfl)
theorem dX3_tight_9 : decode cX3_tight 9 = .ok (.aload_n 1, 1) := dk_43 (dk_at dksX3_tight_0 9 rfl rfl)
theorem dX3_tight_10 : decode cX3_tight 10 = .ok (.invokevirtual 27, 3) := dk_182 0 27 (dk_at dksX3_tight_0 10 rfl rfl)
theorem dX3_tight_13 : decode cX3_tight 13 = .ok (.aload_n 1, 1) := dk_43 (dk_at dksX3_tight_0 13 rfl rfl)
theorem dX3_tight_14 : decode cX3_tight 14 = .ok (.areturn, 1) := dk_176 (dk_at dksX3_tight_0 14 rfl rfl)
abbrev cX3_tightens : ByteArray := prog_7_method_8_code
def yX3_tightens : MethodName := ⟨RX3, "tightens", "()V"⟩
def dkwX3_tightens_2 : List UInt8 := [132, 2, 1, 167, 255, 214, 132, 1, 1, 167, 255, 201, 177]
abbrev dktX3_tightens_2 : List UInt8 := dkwX3_tightens_2 ++ []
def dkwX3_tightens_1 : List UInt8 := [42, 28, 27, 182, 0, 30, 42, 27, 29, 182, 0, 30, 184, 0, 34, 182, 0, 37, 132, 3, 1, 167, 255, 227]
abbrev dktX3_tightens_1 : List UInt8 := dkwX3_tightens_1 ++ dktX3_tightens_2
def dkwX3_tightens_0 : List UInt8 := [3, 60, 27, 7, 162, 0, 56, 3, 61, 28, 7, 162, 0, 43, 3, 62, 29, 7, 162, 0, 30, 42, 28, 29]
abbrev dktX3_tightens_0 : List UInt8 := dkwX3_tightens_0 ++ dktX3_tightens_1
theorem dksX3_tightens_0 : cX3_tightens.data.toList.drop 0 = dktX3_tightens_0 := by decide +kernel
theorem dksX3_tightens_1 : cX3_tightens.data.toList.drop 24 = dktX3_tightens_1 := dk_seg dksX3_tightens_0 24 rfl rfl
theorem dksX3_tightens_2 : cX3_tightens.data.toList.drop 48 = dktX3_tightens_2 := dk_seg dksX3_tightens_1 24 rfl rfl
theorem dX3_tightens_0 : decode cX3_tightens 0 = .ok (.iconst 0, 1) := dk_3 (dk_at dksX3_tightens_0 0 rfl rfl)
theorem dX3_tightens_1 : decode cX3_tightens 1 = .ok (.istore_n 1, 1) := dk_60 (dk_at dksX3_tightens_0 1 rfl rfl)
theorem dX3_tightens_2 : decode cX3_tightens 2 = .ok (.iload_n 1, 1) := dk_27 (dk_at dksX3_tightens_0 2 rfl rfl)
theorem dX3_tightens_3 : decode cX3_tightens 3 = .ok (.iconst 4, 1) := dk_7 (dk_at dksX3_tightens_0 3 rfl rfl)
theorem dX3_tightens_4 : decode cX3_tightens 4 = .ok (.if_icmp .ge 56, 3) := dk_162 0 56 (dk_at dksX3_tightens_0 4 rfl rfl)
theorem dX3_tightens_7 : decode cX3_tightens 7 = .ok (.iconst 0, 1) := dk_3 (dk_at dksX3_tightens_0 7 rfl rfl)
theorem dX3_tightens_8 : decode cX3_tightens 8 = .ok (.istore_n 2, 1) := dk_61 (dk_at dksX3_tightens_0 8 rfl rfl)
theorem dX3_tightens_9 : decode cX3_tightens 9 = .ok (.iload_n 2, 1) := dk_28 (dk_at dksX3_tightens_0 9 rfl rfl)
theorem dX3_tightens_10 : decode cX3_tightens 10 = .ok (.iconst 4, 1) := dk_7 (dk_at dksX3_tightens_0 10 rfl rfl)
theorem dX3_tightens_11 : decode cX3_tightens 11 = .ok (.if_icmp .ge 43, 3) := dk_162 0 43 (dk_at dksX3_tightens_0 11 rfl rfl)
theorem dX3_tightens_14 : decode cX3_tightens 14 = .ok (.iconst 0, 1) := dk_3 (dk_at dksX3_tightens_0 14 rfl rfl)
theorem dX3_tightens_15 : decode cX3_tightens 15 = .ok (.istore_n 3, 1) := dk_62 (dk_at dksX3_tightens_0 15 rfl rfl)
theorem dX3_tightens_16 : decode cX3_tightens 16 = .ok (.iload_n 3, 1) := dk_29 (dk_at dksX3_tightens_0 16 rfl rfl)
theorem dX3_tightens_17 : decode cX3_tightens 17 = .ok (.iconst 4, 1) := dk_7 (dk_at dksX3_tightens_0 17 rfl rfl)
theorem dX3_tightens_18 : decode cX3_tightens 18 = .ok (.if_icmp .ge 30, 3) := dk_162 0 30 (dk_at dksX3_tightens_0 18 rfl rfl)
theorem dX3_tightens_21 : decode cX3_tightens 21 = .ok (.aload_n 0, 1) := dk_42 (dk_at dksX3_tightens_0 21 rfl rfl)
theorem dX3_tightens_22 : decode cX3_tightens 22 = .ok (.iload_n 2, 1) := dk_28 (dk_at dksX3_tightens_0 22 rfl rfl)
theorem dX3_tightens_23 : decode cX3_tightens 23 = .ok (.iload_n 3, 1) := dk_29 (dk_at dksX3_tightens_0 23 rfl rfl)
theorem dX3_tightens_24 : decode cX3_tightens 24 = .ok (.aload_n 0, 1) := dk_42 (dk_at dksX3_tightens_1 0 rfl rfl)
theorem dX3_tightens_25 : decode cX3_tightens 25 = .ok (.iload_n 2, 1) := dk_28 (dk_at dksX3_tightens_1 1 rfl rfl)
theorem dX3_tightens_26 : decode cX3_tightens 26 = .ok (.iload_n 1, 1) := dk_27 (dk_at dksX3_tightens_1 2 rfl rfl)
theorem dX3_tightens_27 : decode cX3_tightens 27 = .ok (.invokevirtual 30, 3) := dk_182 0 30 (dk_at dksX3_tightens_1 3 rfl rfl)
theorem dX3_tightens_30 : decode cX3_tightens 30 = .ok (.aload_n 0, 1) := dk_42 (dk_at dksX3_tightens_1 6 rfl rfl)
theorem dX3_tightens_31 : decode cX3_tightens 31 = .ok (.iload_n 1, 1) := dk_27 (dk_at dksX3_tightens_1 7 rfl rfl)
theorem dX3_tightens_32 : decode cX3_tightens 32 = .ok (.iload_n 3, 1) := dk_29 (dk_at dksX3_tightens_1 8 rfl rfl)
theorem dX3_tightens_33 : decode cX3_tightens 33 = .ok (.invokevirtual 30, 3) := dk_182 0 30 (dk_at dksX3_tightens_1 9 rfl rfl)
theorem dX3_tightens_36 : decode cX3_tightens 36 = .ok (.invokestatic 34, 3) := dk_184 0 34 (dk_at dksX3_tightens_1 12 rfl rfl)
theorem dX3_tightens_39 : decode cX3_tightens 39 = .ok (.invokevirtual 37, 3) := dk_182 0 37 (dk_at dksX3_tightens_1 15 rfl rfl)
theorem dX3_tightens_42 : decode cX3_tightens 42 = .ok (.iinc 3 1, 3) := dk_132 3 1 (dk_at dksX3_tightens_1 18 rfl rfl)
theorem dX3_tightens_45 : decode cX3_tightens 45 = .ok (.goto (-29), 3) := dk_167 255 227 (dk_at dksX3_tightens_1 21 rfl rfl)
theorem dX3_tightens_48 : decode cX3_tightens 48 = .ok (.iinc 2 1, 3) := dk_132 2 1 (dk_at dksX3_tightens_2 0 rfl rfl)
theorem dX3_tightens_51 : decode cX3_tightens 51 = .ok (.goto (-42), 3) := dk_167 255 214 (dk_at dksX3_tightens_2 3 rfl rfl)
theorem dX3_tightens_54 : decode cX3_tightens 54 = .ok (.iinc 1 1, 3) := dk_132 1 1 (dk_at dksX3_tightens_2 6 rfl rfl)
theorem dX3_tightens_57 : decode cX3_tightens 57 = .ok (.goto (-55), 3) := dk_167 255 201 (dk_at dksX3_tightens_2 9 rfl rfl)
theorem dX3_tightens_60 : decode cX3_tightens 60 = .ok (.return_, 1) := dk_177 (dk_at dksX3_tightens_2 12 rfl rfl)
abbrev cX3_sum : ByteArray := prog_7_method_6_code
def yX3_sum : MethodName := ⟨RX3, "sum", "(II)I"⟩
def dkwX3_sum_0 : List UInt8 := [26, 17, 39, 15, 159, 0, 10, 27, 17, 39, 15, 160, 0, 9, 17, 39, 15, 167, 0, 6, 26, 27, 96, 172]
abbrev dktX3_sum_0 : List UInt8 := dkwX3_sum_0 ++ []
theorem dksX3_sum_0 : cX3_sum.data.toList.drop 0 = dktX3_sum_0 := by decide +kernel
theorem dX3_sum_0 : decode cX3_sum 0 = .ok (.iload_n 0, 1) := dk_26 (dk_at dksX3_sum_0 0 rfl rfl)
theorem dX3_sum_1 : decode cX3_sum 1 = .ok (.sipush 9999, 3) := dk_17 39 15 (dk_at dksX3_sum_0 1 rfl rfl)
theorem dX3_sum_4 : decode cX3_sum 4 = .ok (.if_icmp .eq 10, 3) := dk_159 0 10 (dk_at dksX3_sum_0 4 rfl rfl)
theorem dX3_sum_7 : decode cX3_sum 7 = .ok (.iload_n 1, 1) := dk_27 (dk_at dksX3_sum_0 7 rfl rfl)
theorem dX3_sum_8 : decode cX3_sum 8 = .ok (.sipush 9999, 3) := dk_17 39 15 (dk_at dksX3_sum_0 8 rfl rfl)
theorem dX3_sum_11 : decode cX3_sum 11 = .ok (.if_icmp .ne 9, 3) := dk_160 0 9 (dk_at dksX3_sum_0 11 rfl rfl)
theorem dX3_sum_14 : decode cX3_sum 14 = .ok (.sipush 9999, 3) := dk_17 39 15 (dk_at dksX3_sum_0 14 rfl rfl)
theorem dX3_sum_17 : decode cX3_sum 17 = .ok (.goto 6, 3) := dk_167 0 6 (dk_at dksX3_sum_0 17 rfl rfl)
theorem dX3_sum_20 : decode cX3_sum 20 = .ok (.iload_n 0, 1) := dk_26 (dk_at dksX3_sum_0 20 rfl rfl)
theorem dX3_sum_21 : decode cX3_sum 21 = .ok (.iload_n 1, 1) := dk_27 (dk_at dksX3_sum_0 21 rfl rfl)
theorem dX3_sum_22 : decode cX3_sum 22 = .ok (.iadd, 1) := dk_96 (dk_at dksX3_sum_0 22 rfl rfl)
theorem dX3_sum_23 : decode cX3_sum 23 = .ok (.ireturn, 1) := dk_172 (dk_at dksX3_sum_0 23 rfl rfl)
abbrev cX3_hasNone : ByteArray := prog_7_method_9_code
def yX3_hasNone : MethodName := ⟨RX3, "hasNone", "()Z"⟩
def dkwX3_hasNone_1 : List UInt8 := [128, 60, 132, 2, 1, 167, 255, 231, 27, 172]
abbrev dktX3_hasNone_1 : List UInt8 := dkwX3_hasNone_1 ++ []
def dkwX3_hasNone_0 : List UInt8 := [3, 60, 3, 61, 28, 7, 162, 0, 26, 27, 42, 28, 28, 182, 0, 30, 156, 0, 7, 4, 167, 0, 4, 3]
abbrev dktX3_hasNone_0 : List UInt8 := dkwX3_hasNone_0 ++ dktX3_hasNone_1
theorem dksX3_hasNone_0 : cX3_hasNone.data.toList.drop 0 = dktX3_hasNone_0 := by decide +kernel
theorem dksX3_hasNone_1 : cX3_hasNone.data.toList.drop 24 = dktX3_hasNone_1 := dk_seg dksX3_hasNone_0 24 rfl rfl
theorem dX3_hasNone_0 : decode cX3_hasNone 0 = .ok (.iconst 0, 1) := dk_3 (dk_at dksX3_hasNone_0 0 rfl rfl)
theorem dX3_hasNone_1 : decode cX3_hasNone 1 = .ok (.istore_n 1, 1) := dk_60 (dk_at dksX3_hasNone_0 1 rfl rfl)
theorem dX3_hasNone_2 : decode cX3_hasNone 2 = .ok (.iconst 0, 1) := dk_3 (dk_at dksX3_hasNone_0 2 rfl rfl)
theorem dX3_hasNone_3 : decode cX3_hasNone 3 = .ok (.istore_n 2, 1) := dk_61 (dk_at dksX3_hasNone_0 3 rfl rfl)
theorem dX3_hasNone_4 : decode cX3_hasNone 4 = .ok (.iload_n 2, 1) := dk_28 (dk_at dksX3_hasNone_0 4 rfl rfl)
theorem dX3_hasNone_5 : decode cX3_hasNone 5 = .ok (.iconst 4, 1) := dk_7 (dk_at dksX3_hasNone_0 5 rfl rfl)
theorem dX3_hasNone_6 : decode cX3_hasNone 6 = .ok (.if_icmp .ge 26, 3) := dk_162 0 26 (dk_at dksX3_hasNone_0 6 rfl rfl)
theorem dX3_hasNone_9 : decode cX3_hasNone 9 = .ok (.iload_n 1, 1) := dk_27 (dk_at dksX3_hasNone_0 9 rfl rfl)
theorem dX3_hasNone_10 : decode cX3_hasNone 10 = .ok (.aload_n 0, 1) := dk_42 (dk_at dksX3_hasNone_0 10 rfl rfl)
theorem dX3_hasNone_11 : decode cX3_hasNone 11 = .ok (.iload_n 2, 1) := dk_28 (dk_at dksX3_hasNone_0 11 rfl rfl)
theorem dX3_hasNone_12 : decode cX3_hasNone 12 = .ok (.iload_n 2, 1) := dk_28 (dk_at dksX3_hasNone_0 12 rfl rfl)
theorem dX3_hasNone_13 : decode cX3_hasNone 13 = .ok (.invokevirtual 30, 3) := dk_182 0 30 (dk_at dksX3_hasNone_0 13 rfl rfl)
theorem dX3_hasNone_16 : decode cX3_hasNone 16 = .ok (.ifCond .ge 7, 3) := dk_156 0 7 (dk_at dksX3_hasNone_0 16 rfl rfl)
theorem dX3_hasNone_19 : decode cX3_hasNone 19 = .ok (.iconst 1, 1) := dk_4 (dk_at dksX3_hasNone_0 19 rfl rfl)
theorem dX3_hasNone_20 : decode cX3_hasNone 20 = .ok (.goto 4, 3) := dk_167 0 4 (dk_at dksX3_hasNone_0 20 rfl rfl)
theorem dX3_hasNone_23 : decode cX3_hasNone 23 = .ok (.iconst 0, 1) := dk_3 (dk_at dksX3_hasNone_0 23 rfl rfl)
theorem dX3_hasNone_24 : decode cX3_hasNone 24 = .ok (.ior, 1) := dk_128 (dk_at dksX3_hasNone_1 0 rfl rfl)
theorem dX3_hasNone_25 : decode cX3_hasNone 25 = .ok (.istore_n 1, 1) := dk_60 (dk_at dksX3_hasNone_1 1 rfl rfl)
theorem dX3_hasNone_26 : decode cX3_hasNone 26 = .ok (.iinc 2 1, 3) := dk_132 2 1 (dk_at dksX3_hasNone_1 2 rfl rfl)
theorem dX3_hasNone_29 : decode cX3_hasNone 29 = .ok (.goto (-25), 3) := dk_167 255 231 (dk_at dksX3_hasNone_1 5 rfl rfl)
theorem dX3_hasNone_32 : decode cX3_hasNone 32 = .ok (.iload_n 1, 1) := dk_27 (dk_at dksX3_hasNone_1 8 rfl rfl)
theorem dX3_hasNone_33 : decode cX3_hasNone 33 = .ok (.ireturn, 1) := dk_172 (dk_at dksX3_hasNone_1 9 rfl rfl)
abbrev cX3_isTooFar : ByteArray := prog_7_method_17_code
def yX3_isTooFar : MethodName := ⟨RX3, "isTooFar", "()Z"⟩
def dkwX3_isTooFar_1 : List UInt8 := [167, 0, 4, 3, 128, 60, 132, 2, 1, 167, 255, 228, 27, 172]
abbrev dktX3_isTooFar_1 : List UInt8 := dkwX3_isTooFar_1 ++ []
def dkwX3_isTooFar_0 : List UInt8 := [3, 60, 3, 61, 28, 6, 162, 0, 29, 27, 42, 6, 28, 182, 0, 30, 116, 16, 30, 164, 0, 7, 4]
abbrev dktX3_isTooFar_0 : List UInt8 := dkwX3_isTooFar_0 ++ dktX3_isTooFar_1
theorem dksX3_isTooFar_0 : cX3_isTooFar.data.toList.drop 0 = dktX3_isTooFar_0 := by decide +kernel
theorem dksX3_isTooFar_1 : cX3_isTooFar.data.toList.drop 23 = dktX3_isTooFar_1 := dk_seg dksX3_isTooFar_0 23 rfl rfl
theorem dX3_isTooFar_0 : decode cX3_isTooFar 0 = .ok (.iconst 0, 1) := dk_3 (dk_at dksX3_isTooFar_0 0 rfl rfl)
theorem dX3_isTooFar_1 : decode cX3_isTooFar 1 = .ok (.istore_n 1, 1) := dk_60 (dk_at dksX3_isTooFar_0 1 rfl rfl)
theorem dX3_isTooFar_2 : decode cX3_isTooFar 2 = .ok (.iconst 0, 1) := dk_3 (dk_at dksX3_isTooFar_0 2 rfl rfl)
theorem dX3_isTooFar_3 : decode cX3_isTooFar 3 = .ok (.istore_n 2, 1) := dk_61 (dk_at dksX3_isTooFar_0 3 rfl rfl)
theorem dX3_isTooFar_4 : decode cX3_isTooFar 4 = .ok (.iload_n 2, 1) := dk_28 (dk_at dksX3_isTooFar_0 4 rfl rfl)
theorem dX3_isTooFar_5 : decode cX3_isTooFar 5 = .ok (.iconst 3, 1) := dk_6 (dk_at dksX3_isTooFar_0 5 rfl rfl)
theorem dX3_isTooFar_6 : decode cX3_isTooFar 6 = .ok (.if_icmp .ge 29, 3) := dk_162 0 29 (dk_at dksX3_isTooFar_0 6 rfl rfl)
theorem dX3_isTooFar_9 : decode cX3_isTooFar 9 = .ok (.iload_n 1, 1) := dk_27 (dk_at dksX3_isTooFar_0 9 rfl rfl)
theorem dX3_isTooFar_10 : decode cX3_isTooFar 10 = .ok (.aload_n 0, 1) := dk_42 (dk_at dksX3_isTooFar_0 10 rfl rfl)
theorem dX3_isTooFar_11 : decode cX3_isTooFar 11 = .ok (.iconst 3, 1) := dk_6 (dk_at dksX3_isTooFar_0 11 rfl rfl)
theorem dX3_isTooFar_12 : decode cX3_isTooFar 12 = .ok (.iload_n 2, 1) := dk_28 (dk_at dksX3_isTooFar_0 12 rfl rfl)
theorem dX3_isTooFar_13 : decode cX3_isTooFar 13 = .ok (.invokevirtual 30, 3) := dk_182 0 30 (dk_at dksX3_isTooFar_0 13 rfl rfl)
theorem dX3_isTooFar_16 : decode cX3_isTooFar 16 = .ok (.ineg, 1) := dk_116 (dk_at dksX3_isTooFar_0 16 rfl rfl)
theorem dX3_isTooFar_17 : decode cX3_isTooFar 17 = .ok (.bipush 30, 2) := dk_16 30 (dk_at dksX3_isTooFar_0 17 rfl rfl)
theorem dX3_isTooFar_19 : decode cX3_isTooFar 19 = .ok (.if_icmp .le 7, 3) := dk_164 0 7 (dk_at dksX3_isTooFar_0 19 rfl rfl)
theorem dX3_isTooFar_22 : decode cX3_isTooFar 22 = .ok (.iconst 1, 1) := dk_4 (dk_at dksX3_isTooFar_0 22 rfl rfl)
theorem dX3_isTooFar_23 : decode cX3_isTooFar 23 = .ok (.goto 4, 3) := dk_167 0 4 (dk_at dksX3_isTooFar_1 0 rfl rfl)
theorem dX3_isTooFar_26 : decode cX3_isTooFar 26 = .ok (.iconst 0, 1) := dk_3 (dk_at dksX3_isTooFar_1 3 rfl rfl)
theorem dX3_isTooFar_27 : decode cX3_isTooFar 27 = .ok (.ior, 1) := dk_128 (dk_at dksX3_isTooFar_1 4 rfl rfl)
theorem dX3_isTooFar_28 : decode cX3_isTooFar 28 = .ok (.istore_n 1, 1) := dk_60 (dk_at dksX3_isTooFar_1 5 rfl rfl)
theorem dX3_isTooFar_29 : decode cX3_isTooFar 29 = .ok (.iinc 2 1, 3) := dk_132 2 1 (dk_at dksX3_isTooFar_1 6 rfl rfl)
theorem dX3_isTooFar_32 : decode cX3_isTooFar 32 = .ok (.goto (-28), 3) := dk_167 255 228 (dk_at dksX3_isTooFar_1 9 rfl rfl)
theorem dX3_isTooFar_35 : decode cX3_isTooFar 35 = .ok (.iload_n 1, 1) := dk_27 (dk_at dksX3_isTooFar_1 12 rfl rfl)
theorem dX3_isTooFar_36 : decode cX3_isTooFar 36 = .ok (.ireturn, 1) := dk_172 (dk_at dksX3_isTooFar_1 13 rfl rfl)
abbrev cX3_isTooGreat : ByteArray := prog_7_method_18_code
def yX3_isTooGreat : MethodName := ⟨RX3, "isTooGreat", "()Z"⟩
def dkwX3_isTooGreat_2 : List UInt8 := [27, 172]
abbrev dktX3_isTooGreat_2 : List UInt8 := dkwX3_isTooGreat_2 ++ []
def dkwX3_isTooGreat_1 : List UInt8 := [180, 0, 9, 28, 46, 17, 3, 231, 164, 0, 7, 4, 167, 0, 4, 3, 128, 60, 132, 2, 1, 167, 255, 215]
abbrev dktX3_isTooGreat_1 : List UInt8 := dkwX3_isTooGreat_1 ++ dktX3_isTooGreat_2
def dkwX3_isTooGreat_0 : List UInt8 := [3, 60, 3, 61, 28, 16, 16, 162, 0, 41, 27, 42, 180, 0, 9, 28, 46, 17, 39, 15, 159, 0, 19, 42]
abbrev dktX3_isTooGreat_0 : List UInt8 := dkwX3_isTooGreat_0 ++ dktX3_isTooGreat_1
theorem dksX3_isTooGreat_0 : cX3_isTooGreat.data.toList.drop 0 = dktX3_isTooGreat_0 := by decide +kernel
theorem dksX3_isTooGreat_1 : cX3_isTooGreat.data.toList.drop 24 = dktX3_isTooGreat_1 := dk_seg dksX3_isTooGreat_0 24 rfl rfl
theorem dksX3_isTooGreat_2 : cX3_isTooGreat.data.toList.drop 48 = dktX3_isTooGreat_2 := dk_seg dksX3_isTooGreat_1 24 rfl rfl
theorem dX3_isTooGreat_0 : decode cX3_isTooGreat 0 = .ok (.iconst 0, 1) := dk_3 (dk_at dksX3_isTooGreat_0 0 rfl rfl)
theorem dX3_isTooGreat_1 : decode cX3_isTooGreat 1 = .ok (.istore_n 1, 1) := dk_60 (dk_at dksX3_isTooGreat_0 1 rfl rfl)
theorem dX3_isTooGreat_2 : decode cX3_isTooGreat 2 = .ok (.iconst 0, 1) := dk_3 (dk_at dksX3_isTooGreat_0 2 rfl rfl)
theorem dX3_isTooGreat_3 : decode cX3_isTooGreat 3 = .ok (.istore_n 2, 1) := dk_61 (dk_at dksX3_isTooGreat_0 3 rfl rfl)
theorem dX3_isTooGreat_4 : decode cX3_isTooGreat 4 = .ok (.iload_n 2, 1) := dk_28 (dk_at dksX3_isTooGreat_0 4 rfl rfl)
theorem dX3_isTooGreat_5 : decode cX3_isTooGreat 5 = .ok (.bipush 16, 2) := dk_16 16 (dk_at dksX3_isTooGreat_0 5 rfl rfl)
theorem dX3_isTooGreat_7 : decode cX3_isTooGreat 7 = .ok (.if_icmp .ge 41, 3) := dk_162 0 41 (dk_at dksX3_isTooGreat_0 7 rfl rfl)
theorem dX3_isTooGreat_10 : decode cX3_isTooGreat 10 = .ok (.iload_n 1, 1) := dk_27 (dk_at dksX3_isTooGreat_0 10 rfl rfl)
theorem dX3_isTooGreat_11 : decode cX3_isTooGreat 11 = .ok (.aload_n 0, 1) := dk_42 (dk_at dksX3_isTooGreat_0 11 rfl rfl)
theorem dX3_isTooGreat_12 : decode cX3_isTooGreat 12 = .ok (.getfield 9, 3) := dk_180 0 9 (dk_at dksX3_isTooGreat_0 12 rfl rfl)
theorem dX3_isTooGreat_15 : decode cX3_isTooGreat 15 = .ok (.iload_n 2, 1) := dk_28 (dk_at dksX3_isTooGreat_0 15 rfl rfl)
theorem dX3_isTooGreat_16 : decode cX3_isTooGreat 16 = .ok (.iaload, 1) := dk_46 (dk_at dksX3_isTooGreat_0 16 rfl rfl)
theorem dX3_isTooGreat_17 : decode cX3_isTooGreat 17 = .ok (.sipush 9999, 3) := dk_17 39 15 (dk_at dksX3_isTooGreat_0 17 rfl rfl)
theorem dX3_isTooGreat_20 : decode cX3_isTooGreat 20 = .ok (.if_icmp .eq 19, 3) := dk_159 0 19 (dk_at dksX3_isTooGreat_0 20 rfl rfl)
theorem dX3_isTooGreat_23 : decode cX3_isTooGreat 23 = .ok (.aload_n 0, 1) := dk_42 (dk_at dksX3_isTooGreat_0 23 rfl rfl)
theorem dX3_isTooGreat_24 : decode cX3_isTooGreat 24 = .ok (.getfield 9, 3) := dk_180 0 9 (dk_at dksX3_isTooGreat_1 0 rfl rfl)
theorem dX3_isTooGreat_27 : decode cX3_isTooGreat 27 = .ok (.iload_n 2, 1) := dk_28 (dk_at dksX3_isTooGreat_1 3 rfl rfl)
theorem dX3_isTooGreat_28 : decode cX3_isTooGreat 28 = .ok (.iaload, 1) := dk_46 (dk_at dksX3_isTooGreat_1 4 rfl rfl)
theorem dX3_isTooGreat_29 : decode cX3_isTooGreat 29 = .ok (.sipush 999, 3) := dk_17 3 231 (dk_at dksX3_isTooGreat_1 5 rfl rfl)
theorem dX3_isTooGreat_32 : decode cX3_isTooGreat 32 = .ok (.if_icmp .le 7, 3) := dk_164 0 7 (dk_at dksX3_isTooGreat_1 8 rfl rfl)
theorem dX3_isTooGreat_35 : decode cX3_isTooGreat 35 = .ok (.iconst 1, 1) := dk_4 (dk_at dksX3_isTooGreat_1 11 rfl rfl)
theorem dX3_isTooGreat_36 : decode cX3_isTooGreat 36 = .ok (.goto 4, 3) := dk_167 0 4 (dk_at dksX3_isTooGreat_1 12 rfl rfl)
theorem dX3_isTooGreat_39 : decode cX3_isTooGreat 39 = .ok (.iconst 0, 1) := dk_3 (dk_at dksX3_isTooGreat_1 15 rfl rfl)
theorem dX3_isTooGreat_40 : decode cX3_isTooGreat 40 = .ok (.ior, 1) := dk_128 (dk_at dksX3_isTooGreat_1 16 rfl rfl)
theorem dX3_isTooGreat_41 : decode cX3_isTooGreat 41 = .ok (.istore_n 1, 1) := dk_60 (dk_at dksX3_isTooGreat_1 17 rfl rfl)
theorem dX3_isTooGreat_42 : decode cX3_isTooGreat 42 = .ok (.iinc 2 1, 3) := dk_132 2 1 (dk_at dksX3_isTooGreat_1 18 rfl rfl)
theorem dX3_isTooGreat_45 : decode cX3_isTooGreat 45 = .ok (.goto (-41), 3) := dk_167 255 215 (dk_at dksX3_isTooGreat_1 21 rfl rfl)
theorem dX3_isTooGreat_48 : decode cX3_isTooGreat 48 = .ok (.iload_n 1, 1) := dk_27 (dk_at dksX3_isTooGreat_2 0 rfl rfl)
theorem dX3_isTooGreat_49 : decode cX3_isTooGreat 49 = .ok (.ireturn, 1) := dk_172 (dk_at dksX3_isTooGreat_2 1 rfl rfl)
abbrev cX3_unlike : ByteArray := prog_7_method_12_code
def yX3_unlike : MethodName := ⟨RX3, "unlike", "(LFerryClocks$Zone;)I"⟩
def dkwX3_unlike_1 : List UInt8 := [159, 0, 7, 4, 167, 0, 4, 3, 96, 61, 132, 3, 1, 167, 255, 224, 28, 172]
abbrev dktX3_unlike_1 : List UInt8 := dkwX3_unlike_1 ++ []
def dkwX3_unlike_0 : List UInt8 := [3, 61, 3, 62, 29, 16, 16, 162, 0, 32, 28, 42, 180, 0, 9, 29, 46, 43, 180, 0, 9, 29, 46]
abbrev dktX3_unlike_0 : List UInt8 := dkwX3_unlike_0 ++ dktX3_unlike_1
theorem dksX3_unlike_0 : cX3_unlike.data.toList.drop 0 = dktX3_unlike_0 := by decide +kernel
theorem dksX3_unlike_1 : cX3_unlike.data.toList.drop 23 = dktX3_unlike_1 := dk_seg dksX3_unlike_0 23 rfl rfl
theorem dX3_unlike_0 : decode cX3_unlike 0 = .ok (.iconst 0, 1) := dk_3 (dk_at dksX3_unlike_0 0 rfl rfl)
theorem dX3_unlike_1 : decode cX3_unlike 1 = .ok (.istore_n 2, 1) := dk_61 (dk_at dksX3_unlike_0 1 rfl rfl)
theorem dX3_unlike_2 : decode cX3_unlike 2 = .ok (.iconst 0, 1) := dk_3 (dk_at dksX3_unlike_0 2 rfl rfl)
theorem dX3_unlike_3 : decode cX3_unlike 3 = .ok (.istore_n 3, 1) := dk_62 (dk_at dksX3_unlike_0 3 rfl rfl)
theorem dX3_unlike_4 : decode cX3_unlike 4 = .ok (.iload_n 3, 1) := dk_29 (dk_at dksX3_unlike_0 4 rfl rfl)
theorem dX3_unlike_5 : decode cX3_unlike 5 = .ok (.bipush 16, 2) := dk_16 16 (dk_at dksX3_unlike_0 5 rfl rfl)
theorem dX3_unlike_7 : decode cX3_unlike 7 = .ok (.if_icmp .ge 32, 3) := dk_162 0 32 (dk_at dksX3_unlike_0 7 rfl rfl)
theorem dX3_unlike_10 : decode cX3_unlike 10 = .ok (.iload_n 2, 1) := dk_28 (dk_at dksX3_unlike_0 10 rfl rfl)
theorem dX3_unlike_11 : decode cX3_unlike 11 = .ok (.aload_n 0, 1) := dk_42 (dk_at dksX3_unlike_0 11 rfl rfl)
theorem dX3_unlike_12 : decode cX3_unlike 12 = .ok (.getfield 9, 3) := dk_180 0 9 (dk_at dksX3_unlike_0 12 rfl rfl)
theorem dX3_unlike_15 : decode cX3_unlike 15 = .ok (.iload_n 3, 1) := dk_29 (dk_at dksX3_unlike_0 15 rfl rfl)
theorem dX3_unlike_16 : decode cX3_unlike 16 = .ok (.iaload, 1) := dk_46 (dk_at dksX3_unlike_0 16 rfl rfl)
theorem dX3_unlike_17 : decode cX3_unlike 17 = .ok (.aload_n 1, 1) := dk_43 (dk_at dksX3_unlike_0 17 rfl rfl)
theorem dX3_unlike_18 : decode cX3_unlike 18 = .ok (.getfield 9, 3) := dk_180 0 9 (dk_at dksX3_unlike_0 18 rfl rfl)
theorem dX3_unlike_21 : decode cX3_unlike 21 = .ok (.iload_n 3, 1) := dk_29 (dk_at dksX3_unlike_0 21 rfl rfl)
theorem dX3_unlike_22 : decode cX3_unlike 22 = .ok (.iaload, 1) := dk_46 (dk_at dksX3_unlike_0 22 rfl rfl)
theorem dX3_unlike_23 : decode cX3_unlike 23 = .ok (.if_icmp .eq 7, 3) := dk_159 0 7 (dk_at dksX3_unlike_1 0 rfl rfl)
theorem dX3_unlike_26 : decode cX3_unlike 26 = .ok (.iconst 1, 1) := dk_4 (dk_at dksX3_unlike_1 3 rfl rfl)
theorem dX3_unlike_27 : decode cX3_unlike 27 = .ok (.goto 4, 3) := dk_167 0 4 (dk_at dksX3_unlike_1 4 rfl rfl)
theorem dX3_unlike_30 : decode cX3_unlike 30 = .ok (.iconst 0, 1) := dk_3 (dk_at dksX3_unlike_1 7 rfl rfl)
theorem dX3_unlike_31 : decode cX3_unlike 31 = .ok (.iadd, 1) := dk_96 (dk_at dksX3_unlike_1 8 rfl rfl)
theorem dX3_unlike_32 : decode cX3_unlike 32 = .ok (.istore_n 2, 1) := dk_61 (dk_at dksX3_unlike_1 9 rfl rfl)
theorem dX3_unlike_33 : decode cX3_unlike 33 = .ok (.iinc 3 1, 3) := dk_132 3 1 (dk_at dksX3_unlike_1 10 rfl rfl)
theorem dX3_unlike_36 : decode cX3_unlike 36 = .ok (.goto (-32), 3) := dk_167 255 224 (dk_at dksX3_unlike_1 13 rfl rfl)
theorem dX3_unlike_39 : decode cX3_unlike 39 = .ok (.iload_n 2, 1) := dk_28 (dk_at dksX3_unlike_1 16 rfl rfl)
theorem dX3_unlike_40 : decode cX3_unlike 40 = .ok (.ireturn, 1) := dk_172 (dk_at dksX3_unlike_1 17 rfl rfl)
abbrev cX3_resets : ByteArray := prog_7_method_19_code
def yX3_resets : MethodName := ⟨RX3, "resets", "(II)V"⟩
def dkwX3_resets_2 : List UInt8 := [132, 3, 1, 167, 255, 210, 177]
abbrev dktX3_resets_2 : List UInt8 := dkwX3_resets_2 ++ []
def dkwX3_resets_1 : List UInt8 := [184, 0, 34, 182, 0, 57, 42, 29, 27, 42, 29, 6, 182, 0, 30, 28, 116, 184, 0, 34, 182, 0, 57]
abbrev dktX3_resets_1 : List UInt8 := dkwX3_resets_1 ++ dktX3_resets_2
def dkwX3_resets_0 : List UInt8 := [3, 62, 29, 7, 162, 0, 47, 29, 27, 159, 0, 36, 42, 27, 29, 28, 42, 6, 29, 182, 0, 30]
abbrev dktX3_resets_0 : List UInt8 := dkwX3_resets_0 ++ dktX3_resets_1
theorem dksX3_resets_0 : cX3_resets.data.toList.drop 0 = dktX3_resets_0 := by decide +kernel
theorem dksX3_resets_1 : cX3_resets.data.toList.drop 22 = dktX3_resets_1 := dk_seg dksX3_resets_0 22 rfl rfl
theorem dksX3_resets_2 : cX3_resets.data.toList.drop 45 = dktX3_resets_2 := dk_seg dksX3_resets_1 23 rfl rfl
theorem dX3_resets_0 : decode cX3_resets 0 = .ok (.iconst 0, 1) := dk_3 (dk_at dksX3_resets_0 0 rfl rfl)
theorem dX3_resets_1 : decode cX3_resets 1 = .ok (.istore_n 3, 1) := dk_62 (dk_at dksX3_resets_0 1 rfl rfl)
theorem dX3_resets_2 : decode cX3_resets 2 = .ok (.iload_n 3, 1) := dk_29 (dk_at dksX3_resets_0 2 rfl rfl)
theorem dX3_resets_3 : decode cX3_resets 3 = .ok (.iconst 4, 1) := dk_7 (dk_at dksX3_resets_0 3 rfl rfl)
theorem dX3_resets_4 : decode cX3_resets 4 = .ok (.if_icmp .ge 47, 3) := dk_162 0 47 (dk_at dksX3_resets_0 4 rfl rfl)
theorem dX3_resets_7 : decode cX3_resets 7 = .ok (.iload_n 3, 1) := dk_29 (dk_at dksX3_resets_0 7 rfl rfl)
theorem dX3_resets_8 : decode cX3_resets 8 = .ok (.iload_n 1, 1) := dk_27 (dk_at dksX3_resets_0 8 rfl rfl)
theorem dX3_resets_9 : decode cX3_resets 9 = .ok (.if_icmp .eq 36, 3) := dk_159 0 36 (dk_at dksX3_resets_0 9 rfl rfl)
theorem dX3_resets_12 : decode cX3_resets 12 = .ok (.aload_n 0, 1) := dk_42 (dk_at dksX3_resets_0 12 rfl rfl)
theorem dX3_resets_13 : decode cX3_resets 13 = .ok (.iload_n 1, 1) := dk_27 (dk_at dksX3_resets_0 13 rfl rfl)
theorem dX3_resets_14 : decode cX3_resets 14 = .ok (.iload_n 3, 1) := dk_29 (dk_at dksX3_resets_0 14 rfl rfl)
theorem dX3_resets_15 : decode cX3_resets 15 = .ok (.iload_n 2, 1) := dk_28 (dk_at dksX3_resets_0 15 rfl rfl)
theorem dX3_resets_16 : decode cX3_resets 16 = .ok (.aload_n 0, 1) := dk_42 (dk_at dksX3_resets_0 16 rfl rfl)
theorem dX3_resets_17 : decode cX3_resets 17 = .ok (.iconst 3, 1) := dk_6 (dk_at dksX3_resets_0 17 rfl rfl)
theorem dX3_resets_18 : decode cX3_resets 18 = .ok (.iload_n 3, 1) := dk_29 (dk_at dksX3_resets_0 18 rfl rfl)
theorem dX3_resets_19 : decode cX3_resets 19 = .ok (.invokevirtual 30, 3) := dk_182 0 30 (dk_at dksX3_resets_0 19 rfl rfl)
theorem dX3_resets_22 : decode cX3_resets 22 = .ok (.invokestatic 34, 3) := dk_184 0 34 (dk_at dksX3_resets_1 0 rfl rfl)
theorem dX3_resets_25 : decode cX3_resets 25 = .ok (.invokevirtual 57, 3) := dk_182 0 57 (dk_at dksX3_resets_1 3 rfl rfl)
theorem dX3_resets_28 : decode cX3_resets 28 = .ok (.aload_n 0, 1) := dk_42 (dk_at dksX3_resets_1 6 rfl rfl)
theorem dX3_resets_29 : decode cX3_resets 29 = .ok (.iload_n 3, 1) := dk_29 (dk_at dksX3_resets_1 7 rfl rfl)
theorem dX3_resets_30 : decode cX3_resets 30 = .ok (.iload_n 1, 1) := dk_27 (dk_at dksX3_resets_1 8 rfl rfl)
theorem dX3_resets_31 : decode cX3_resets 31 = .ok (.aload_n 0, 1) := dk_42 (dk_at dksX3_resets_1 9 rfl rfl)
theorem dX3_resets_32 : decode cX3_resets 32 = .ok (.iload_n 3, 1) := dk_29 (dk_at dksX3_resets_1 10 rfl rfl)
theorem dX3_resets_33 : decode cX3_resets 33 = .ok (.iconst 3, 1) := dk_6 (dk_at dksX3_resets_1 11 rfl rfl)
theorem dX3_resets_34 : decode cX3_resets 34 = .ok (.invokevirtual 30, 3) := dk_182 0 30 (dk_at dksX3_resets_1 12 rfl rfl)
theorem dX3_resets_37 : decode cX3_resets 37 = .ok (.iload_n 2, 1) := dk_28 (dk_at dksX3_resets_1 15 rfl rfl)
theorem dX3_resets_38 : decode cX3_resets 38 = .ok (.ineg, 1) := dk_116 (dk_at dksX3_resets_1 16 rfl rfl)
theorem dX3_resets_39 : decode cX3_resets 39 = .ok (.invokestatic 34, 3) := dk_184 0 34 (dk_at dksX3_resets_1 17 rfl rfl)
theorem dX3_resets_42 : decode cX3_resets 42 = .ok (.invokevirtual 57, 3) := dk_182 0 57 (dk_at dksX3_resets_1 20 rfl rfl)
theorem dX3_resets_45 : decode cX3_resets 45 = .ok (.iinc 3 1, 3) := dk_132 3 1 (dk_at dksX3_resets_2 0 rfl rfl)
theorem dX3_resets_48 : decode cX3_resets 48 = .ok (.goto (-46), 3) := dk_167 255 210 (dk_at dksX3_resets_2 3 rfl rfl)
theorem dX3_resets_51 : decode cX3_resets 51 = .ok (.return_, 1) := dk_177 (dk_at dksX3_resets_2 6 rfl rfl)
abbrev cX3_delays : ByteArray := prog_7_method_20_code
def yX3_delays : MethodName := ⟨RX3, "delays", "()I"⟩
def dkwX3_delays_1 : List UInt8 := [167, 0, 4, 4, 96, 60, 42, 28, 6, 17, 39, 15, 182, 0, 57, 132, 2, 1, 167, 255, 219, 27, 172]
abbrev dktX3_delays_1 : List UInt8 := dkwX3_delays_1 ++ []
def dkwX3_delays_0 : List UInt8 := [3, 60, 3, 61, 28, 6, 162, 0, 38, 27, 42, 28, 6, 182, 0, 30, 17, 39, 15, 160, 0, 7, 3]
abbrev dktX3_delays_0 : List UInt8 := dkwX3_delays_0 ++ dktX3_delays_1
theorem dksX3_delays_0 : cX3_delays.data.toList.drop 0 = dktX3_delays_0 := by decide +kernel
theorem dksX3_delays_1 : cX3_delays.data.toList.drop 23 = dktX3_delays_1 := dk_seg dksX3_delays_0 23 rfl rfl
theorem dX3_delays_0 : decode cX3_delays 0 = .ok (.iconst 0, 1) := dk_3 (dk_at dksX3_delays_0 0 rfl rfl)
theorem dX3_delays_1 : decode cX3_delays 1 = .ok (.istore_n 1, 1) := dk_60 (dk_at dksX3_delays_0 1 rfl rfl)
theorem dX3_delays_2 : decode cX3_delays 2 = .ok (.iconst 0, 1) := dk_3 (dk_at dksX3_delays_0 2 rfl rfl)
theorem dX3_delays_3 : decode cX3_delays 3 = .ok (.istore_n 2, 1) := dk_61 (dk_at dksX3_delays_0 3 rfl rfl)
theorem dX3_delays_4 : decode cX3_delays 4 = .ok (.iload_n 2, 1) := dk_28 (dk_at dksX3_delays_0 4 rfl rfl)
theorem dX3_delays_5 : decode cX3_delays 5 = .ok (.iconst 3, 1) := dk_6 (dk_at dksX3_delays_0 5 rfl rfl)
theorem dX3_delays_6 : decode cX3_delays 6 = .ok (.if_icmp .ge 38, 3) := dk_162 0 38 (dk_at dksX3_delays_0 6 rfl rfl)
theorem dX3_delays_9 : decode cX3_delays 9 = .ok (.iload_n 1, 1) := dk_27 (dk_at dksX3_delays_0 9 rfl rfl)
theorem dX3_delays_10 : decode cX3_delays 10 = .ok (.aload_n 0, 1) := dk_42 (dk_at dksX3_delays_0 10 rfl rfl)
theorem dX3_delays_11 : decode cX3_delays 11 = .ok (.iload_n 2, 1) := dk_28 (dk_at dksX3_delays_0 11 rfl rfl)
theorem dX3_delays_12 : decode cX3_delays 12 = .ok (.iconst 3, 1) := dk_6 (dk_at dksX3_delays_0 12 rfl rfl)
theorem dX3_delays_13 : decode cX3_delays 13 = .ok (.invokevirtual 30, 3) := dk_182 0 30 (dk_at dksX3_delays_0 13 rfl rfl)
theorem dX3_delays_16 : decode cX3_delays 16 = .ok (.sipush 9999, 3) := dk_17 39 15 (dk_at dksX3_delays_0 16 rfl rfl)
theorem dX3_delays_19 : decode cX3_delays 19 = .ok (.if_icmp .ne 7, 3) := dk_160 0 7 (dk_at dksX3_delays_0 19 rfl rfl)
theorem dX3_delays_22 : decode cX3_delays 22 = .ok (.iconst 0, 1) := dk_3 (dk_at dksX3_delays_0 22 rfl rfl)
theorem dX3_delays_23 : decode cX3_delays 23 = .ok (.goto 4, 3) := dk_167 0 4 (dk_at dksX3_delays_1 0 rfl rfl)
theorem dX3_delays_26 : decode cX3_delays 26 = .ok (.iconst 1, 1) := dk_4 (dk_at dksX3_delays_1 3 rfl rfl)
theorem dX3_delays_27 : decode cX3_delays 27 = .ok (.iadd, 1) := dk_96 (dk_at dksX3_delays_1 4 rfl rfl)
theorem dX3_delays_28 : decode cX3_delays 28 = .ok (.istore_n 1, 1) := dk_60 (dk_at dksX3_delays_1 5 rfl rfl)
theorem dX3_delays_29 : decode cX3_delays 29 = .ok (.aload_n 0, 1) := dk_42 (dk_at dksX3_delays_1 6 rfl rfl)
theorem dX3_delays_30 : decode cX3_delays 30 = .ok (.iload_n 2, 1) := dk_28 (dk_at dksX3_delays_1 7 rfl rfl)
theorem dX3_delays_31 : decode cX3_delays 31 = .ok (.iconst 3, 1) := dk_6 (dk_at dksX3_delays_1 8 rfl rfl)
theorem dX3_delays_32 : decode cX3_delays 32 = .ok (.sipush 9999, 3) := dk_17 39 15 (dk_at dksX3_delays_1 9 rfl rfl)
theorem dX3_delays_35 : decode cX3_delays 35 = .ok (.invokevirtual 57, 3) := dk_182 0 57 (dk_at dksX3_delays_1 12 rfl rfl)
theorem dX3_delays_38 : decode cX3_delays 38 = .ok (.iinc 2 1, 3) := dk_132 2 1 (dk_at dksX3_delays_1 15 rfl rfl)
theorem dX3_delays_41 : decode cX3_delays 41 = .ok (.goto (-37), 3) := dk_167 255 219 (dk_at dksX3_delays_1 18 rfl rfl)
theorem dX3_delays_44 : decode cX3_delays 44 = .ok (.iload_n 1, 1) := dk_27 (dk_at dksX3_delays_1 21 rfl rfl)
theorem dX3_delays_45 : decode cX3_delays 45 = .ok (.ireturn, 1) := dk_172 (dk_at dksX3_delays_1 22 rfl rfl)
abbrev cX3_goesBack : ByteArray := prog_7_method_21_code
def yX3_goesBack : MethodName := ⟨RX3, "goesBack", "()V"⟩
def dkwX3_goesBack_1 : List UInt8 := [184, 0, 60, 61, 132, 3, 1, 167, 255, 237, 42, 6, 27, 28, 182, 0, 57, 132, 1, 1, 167, 255, 215, 177]
abbrev dktX3_goesBack_1 : List UInt8 := dkwX3_goesBack_1 ++ []
def dkwX3_goesBack_0 : List UInt8 := [3, 60, 27, 6, 162, 0, 42, 3, 61, 3, 62, 29, 6, 162, 0, 20, 28, 42, 29, 27, 182, 0, 30]
abbrev dktX3_goesBack_0 : List UInt8 := dkwX3_goesBack_0 ++ dktX3_goesBack_1
theorem dksX3_goesBack_0 : cX3_goesBack.data.toList.drop 0 = dktX3_goesBack_0 := by decide +kernel
theorem dksX3_goesBack_1 : cX3_goesBack.data.toList.drop 23 = dktX3_goesBack_1 := dk_seg dksX3_goesBack_0 23 rfl rfl
theorem dX3_goesBack_0 : decode cX3_goesBack 0 = .ok (.iconst 0, 1) := dk_3 (dk_at dksX3_goesBack_0 0 rfl rfl)
theorem dX3_goesBack_1 : decode cX3_goesBack 1 = .ok (.istore_n 1, 1) := dk_60 (dk_at dksX3_goesBack_0 1 rfl rfl)
theorem dX3_goesBack_2 : decode cX3_goesBack 2 = .ok (.iload_n 1, 1) := dk_27 (dk_at dksX3_goesBack_0 2 rfl rfl)
theorem dX3_goesBack_3 : decode cX3_goesBack 3 = .ok (.iconst 3, 1) := dk_6 (dk_at dksX3_goesBack_0 3 rfl rfl)
theorem dX3_goesBack_4 : decode cX3_goesBack 4 = .ok (.if_icmp .ge 42, 3) := dk_162 0 42 (dk_at dksX3_goesBack_0 4 rfl rfl)
theorem dX3_goesBack_7 : decode cX3_goesBack 7 = .ok (.iconst 0, 1) := dk_3 (dk_at dksX3_goesBack_0 7 rfl rfl)
theorem dX3_goesBack_8 : decode cX3_goesBack 8 = .ok (.istore_n 2, 1) := dk_61 (dk_at dksX3_goesBack_0 8 rfl rfl)
theorem dX3_goesBack_9 : decode cX3_goesBack 9 = .ok (.iconst 0, 1) := dk_3 (dk_at dksX3_goesBack_0 9 rfl rfl)
theorem dX3_goesBack_10 : decode cX3_goesBack 10 = .ok (.istore_n 3, 1) := dk_62 (dk_at dksX3_goesBack_0 10 rfl rfl)
theorem dX3_goesBack_11 : decode cX3_goesBack 11 = .ok (.iload_n 3, 1) := dk_29 (dk_at dksX3_goesBack_0 11 rfl rfl)
theorem dX3_goesBack_12 : decode cX3_goesBack 12 = .ok (.iconst 3, 1) := dk_6 (dk_at dksX3_goesBack_0 12 rfl rfl)
theorem dX3_goesBack_13 : decode cX3_goesBack 13 = .ok (.if_icmp .ge 20, 3) := dk_162 0 20 (dk_at dksX3_goesBack_0 13 rfl rfl)
theorem dX3_goesBack_16 : decode cX3_goesBack 16 = .ok (.iload_n 2, 1) := dk_28 (dk_at dksX3_goesBack_0 16 rfl rfl)
theorem dX3_goesBack_17 : decode cX3_goesBack 17 = .ok (.aload_n 0, 1) := dk_42 (dk_at dksX3_goesBack_0 17 rfl rfl)
theorem dX3_goesBack_18 : decode cX3_goesBack 18 = .ok (.iload_n 3, 1) := dk_29 (dk_at dksX3_goesBack_0 18 rfl rfl)
theorem dX3_goesBack_19 : decode cX3_goesBack 19 = .ok (.iload_n 1, 1) := dk_27 (dk_at dksX3_goesBack_0 19 rfl rfl)
theorem dX3_goesBack_20 : decode cX3_goesBack 20 = .ok (.invokevirtual 30, 3) := dk_182 0 30 (dk_at dksX3_goesBack_0 20 rfl rfl)
theorem dX3_goesBack_23 : decode cX3_goesBack 23 = .ok (.invokestatic 60, 3) := dk_184 0 60 (dk_at dksX3_goesBack_1 0 rfl rfl)
theorem dX3_goesBack_26 : decode cX3_goesBack 26 = .ok (.istore_n 2, 1) := dk_61 (dk_at dksX3_goesBack_1 3 rfl rfl)
theorem dX3_goesBack_27 : decode cX3_goesBack 27 = .ok (.iinc 3 1, 3) := dk_132 3 1 (dk_at dksX3_goesBack_1 4 rfl rfl)
theorem dX3_goesBack_30 : decode cX3_goesBack 30 = .ok (.goto (-19), 3) := dk_167 255 237 (dk_at dksX3_goesBack_1 7 rfl rfl)
theorem dX3_goesBack_33 : decode cX3_goesBack 33 = .ok (.aload_n 0, 1) := dk_42 (dk_at dksX3_goesBack_1 10 rfl rfl)
theorem dX3_goesBack_34 : decode cX3_goesBack 34 = .ok (.iconst 3, 1) := dk_6 (dk_at dksX3_goesBack_1 11 rfl rfl)
theorem dX3_goesBack_35 : decode cX3_goesBack 35 = .ok (.iload_n 1, 1) := dk_27 (dk_at dksX3_goesBack_1 12 rfl rfl)
theorem dX3_goesBack_36 : decode cX3_goesBack 36 = .ok (.iload_n 2, 1) := dk_28 (dk_at dksX3_goesBack_1 13 rfl rfl)
theorem dX3_goesBack_37 : decode cX3_goesBack 37 = .ok (.invokevirtual 57, 3) := dk_182 0 57 (dk_at dksX3_goesBack_1 14 rfl rfl)
theorem dX3_goesBack_40 : decode cX3_goesBack 40 = .ok (.iinc 1 1, 3) := dk_132 1 1 (dk_at dksX3_goesBack_1 17 rfl rfl)
theorem dX3_goesBack_43 : decode cX3_goesBack 43 = .ok (.goto (-41), 3) := dk_167 255 215 (dk_at dksX3_goesBack_1 20 rfl rfl)
theorem dX3_goesBack_46 : decode cX3_goesBack 46 = .ok (.return_, 1) := dk_177 (dk_at dksX3_goesBack_1 23 rfl rfl)
abbrev cX3_frees : ByteArray := prog_7_method_22_code
def yX3_frees : MethodName := ⟨RX3, "frees", "(I)V"⟩
def dkwX3_frees_1 : List UInt8 := [42, 28, 6, 182, 0, 30, 182, 0, 57, 132, 2, 1, 167, 255, 222, 177]
abbrev dktX3_frees_1 : List UInt8 := dkwX3_frees_1 ++ []
def dkwX3_frees_0 : List UInt8 := [3, 61, 28, 7, 162, 0, 35, 28, 27, 159, 0, 24, 42, 27, 28, 17, 39, 15, 182, 0, 57, 42, 28, 27]
abbrev dktX3_frees_0 : List UInt8 := dkwX3_frees_0 ++ dktX3_frees_1
theorem dksX3_frees_0 : cX3_frees.data.toList.drop 0 = dktX3_frees_0 := by decide +kernel
theorem dksX3_frees_1 : cX3_frees.data.toList.drop 24 = dktX3_frees_1 := dk_seg dksX3_frees_0 24 rfl rfl
theorem dX3_frees_0 : decode cX3_frees 0 = .ok (.iconst 0, 1) := dk_3 (dk_at dksX3_frees_0 0 rfl rfl)
theorem dX3_frees_1 : decode cX3_frees 1 = .ok (.istore_n 2, 1) := dk_61 (dk_at dksX3_frees_0 1 rfl rfl)
theorem dX3_frees_2 : decode cX3_frees 2 = .ok (.iload_n 2, 1) := dk_28 (dk_at dksX3_frees_0 2 rfl rfl)
theorem dX3_frees_3 : decode cX3_frees 3 = .ok (.iconst 4, 1) := dk_7 (dk_at dksX3_frees_0 3 rfl rfl)
theorem dX3_frees_4 : decode cX3_frees 4 = .ok (.if_icmp .ge 35, 3) := dk_162 0 35 (dk_at dksX3_frees_0 4 rfl rfl)
theorem dX3_frees_7 : decode cX3_frees 7 = .ok (.iload_n 2, 1) := dk_28 (dk_at dksX3_frees_0 7 rfl rfl)
theorem dX3_frees_8 : decode cX3_frees 8 = .ok (.iload_n 1, 1) := dk_27 (dk_at dksX3_frees_0 8 rfl rfl)
theorem dX3_frees_9 : decode cX3_frees 9 = .ok (.if_icmp .eq 24, 3) := dk_159 0 24 (dk_at dksX3_frees_0 9 rfl rfl)
theorem dX3_frees_12 : decode cX3_frees 12 = .ok (.aload_n 0, 1) := dk_42 (dk_at dksX3_frees_0 12 rfl rfl)
theorem dX3_frees_13 : decode cX3_frees 13 = .ok (.iload_n 1, 1) := dk_27 (dk_at dksX3_frees_0 13 rfl rfl)
theorem dX3_frees_14 : decode cX3_frees 14 = .ok (.iload_n 2, 1) := dk_28 (dk_at dksX3_frees_0 14 rfl rfl)
theorem dX3_frees_15 : decode cX3_frees 15 = .ok (.sipush 9999, 3) := dk_17 39 15 (dk_at dksX3_frees_0 15 rfl rfl)
theorem dX3_frees_18 : decode cX3_frees 18 = .ok (.invokevirtual 57, 3) := dk_182 0 57 (dk_at dksX3_frees_0 18 rfl rfl)
theorem dX3_frees_21 : decode cX3_frees 21 = .ok (.aload_n 0, 1) := dk_42 (dk_at dksX3_frees_0 21 rfl rfl)
theorem dX3_frees_22 : decode cX3_frees 22 = .ok (.iload_n 2, 1) := dk_28 (dk_at dksX3_frees_0 22 rfl rfl)
theorem dX3_frees_23 : decode cX3_frees 23 = .ok (.iload_n 1, 1) := dk_27 (dk_at dksX3_frees_0 23 rfl rfl)
theorem dX3_frees_24 : decode cX3_frees 24 = .ok (.aload_n 0, 1) := dk_42 (dk_at dksX3_frees_1 0 rfl rfl)
theorem dX3_frees_25 : decode cX3_frees 25 = .ok (.iload_n 2, 1) := dk_28 (dk_at dksX3_frees_1 1 rfl rfl)
theorem dX3_frees_26 : decode cX3_frees 26 = .ok (.iconst 3, 1) := dk_6 (dk_at dksX3_frees_1 2 rfl rfl)
theorem dX3_frees_27 : decode cX3_frees 27 = .ok (.invokevirtual 30, 3) := dk_182 0 30 (dk_at dksX3_frees_1 3 rfl rfl)
theorem dX3_frees_30 : decode cX3_frees 30 = .ok (.invokevirtual 57, 3) := dk_182 0 57 (dk_at dksX3_frees_1 6 rfl rfl)
theorem dX3_frees_33 : decode cX3_frees 33 = .ok (.iinc 2 1, 3) := dk_132 2 1 (dk_at dksX3_frees_1 9 rfl rfl)
theorem dX3_frees_36 : decode cX3_frees 36 = .ok (.goto (-34), 3) := dk_167 255 222 (dk_at dksX3_frees_1 12 rfl rfl)
theorem dX3_frees_39 : decode cX3_frees 39 = .ok (.return_, 1) := dk_177 (dk_at dksX3_frees_1 15 rfl rfl)
abbrev cX3_copies : ByteArray := prog_7_method_23_code
def yX3_copies : MethodName := ⟨RX3, "copies", "(II)V"⟩
def dkwX3_copies_2 : List UInt8 := [182, 0, 57, 42, 28, 27, 3, 182, 0, 57, 177]
abbrev dktX3_copies_2 : List UInt8 := dkwX3_copies_2 ++ []
def dkwX3_copies_1 : List UInt8 := [42, 29, 27, 42, 29, 28, 182, 0, 30, 182, 0, 57, 132, 3, 1, 167, 255, 219, 42, 27, 28, 3]
abbrev dktX3_copies_1 : List UInt8 := dkwX3_copies_1 ++ dktX3_copies_2
def dkwX3_copies_0 : List UInt8 := [3, 62, 29, 7, 162, 0, 38, 29, 27, 159, 0, 27, 42, 27, 29, 42, 28, 29, 182, 0, 30, 182, 0, 57]
abbrev dktX3_copies_0 : List UInt8 := dkwX3_copies_0 ++ dktX3_copies_1
theorem dksX3_copies_0 : cX3_copies.data.toList.drop 0 = dktX3_copies_0 := by decide +kernel
theorem dksX3_copies_1 : cX3_copies.data.toList.drop 24 = dktX3_copies_1 := dk_seg dksX3_copies_0 24 rfl rfl
theorem dksX3_copies_2 : cX3_copies.data.toList.drop 46 = dktX3_copies_2 := dk_seg dksX3_copies_1 22 rfl rfl
theorem dX3_copies_0 : decode cX3_copies 0 = .ok (.iconst 0, 1) := dk_3 (dk_at dksX3_copies_0 0 rfl rfl)
theorem dX3_copies_1 : decode cX3_copies 1 = .ok (.istore_n 3, 1) := dk_62 (dk_at dksX3_copies_0 1 rfl rfl)
theorem dX3_copies_2 : decode cX3_copies 2 = .ok (.iload_n 3, 1) := dk_29 (dk_at dksX3_copies_0 2 rfl rfl)
theorem dX3_copies_3 : decode cX3_copies 3 = .ok (.iconst 4, 1) := dk_7 (dk_at dksX3_copies_0 3 rfl rfl)
theorem dX3_copies_4 : decode cX3_copies 4 = .ok (.if_icmp .ge 38, 3) := dk_162 0 38 (dk_at dksX3_copies_0 4 rfl rfl)
theorem dX3_copies_7 : decode cX3_copies 7 = .ok (.iload_n 3, 1) := dk_29 (dk_at dksX3_copies_0 7 rfl rfl)
theorem dX3_copies_8 : decode cX3_copies 8 = .ok (.iload_n 1, 1) := dk_27 (dk_at dksX3_copies_0 8 rfl rfl)
theorem dX3_copies_9 : decode cX3_copies 9 = .ok (.if_icmp .eq 27, 3) := dk_159 0 27 (dk_at dksX3_copies_0 9 rfl rfl)
theorem dX3_copies_12 : decode cX3_copies 12 = .ok (.aload_n 0, 1) := dk_42 (dk_at dksX3_copies_0 12 rfl rfl)
theorem dX3_copies_13 : decode cX3_copies 13 = .ok (.iload_n 1, 1) := dk_27 (dk_at dksX3_copies_0 13 rfl rfl)
theorem dX3_copies_14 : decode cX3_copies 14 = .ok (.iload_n 3, 1) := dk_29 (dk_at dksX3_copies_0 14 rfl rfl)
theorem dX3_copies_15 : decode cX3_copies 15 = .ok (.aload_n 0, 1) := dk_42 (dk_at dksX3_copies_0 15 rfl rfl)
theorem dX3_copies_16 : decode cX3_copies 16 = .ok (.iload_n 2, 1) := dk_28 (dk_at dksX3_copies_0 16 rfl rfl)
theorem dX3_copies_17 : decode cX3_copies 17 = .ok (.iload_n 3, 1) := dk_29 (dk_at dksX3_copies_0 17 rfl rfl)
theorem dX3_copies_18 : decode cX3_copies 18 = .ok (.invokevirtual 30, 3) := dk_182 0 30 (dk_at dksX3_copies_0 18 rfl rfl)
theorem dX3_copies_21 : decode cX3_copies 21 = .ok (.invokevirtual 57, 3) := dk_182 0 57 (dk_at dksX3_copies_0 21 rfl rfl)
theorem dX3_copies_24 : decode cX3_copies 24 = .ok (.aload_n 0, 1) := dk_42 (dk_at dksX3_copies_1 0 rfl rfl)
theorem dX3_copies_25 : decode cX3_copies 25 = .ok (.iload_n 3, 1) := dk_29 (dk_at dksX3_copies_1 1 rfl rfl)
theorem dX3_copies_26 : decode cX3_copies 26 = .ok (.iload_n 1, 1) := dk_27 (dk_at dksX3_copies_1 2 rfl rfl)
theorem dX3_copies_27 : decode cX3_copies 27 = .ok (.aload_n 0, 1) := dk_42 (dk_at dksX3_copies_1 3 rfl rfl)
theorem dX3_copies_28 : decode cX3_copies 28 = .ok (.iload_n 3, 1) := dk_29 (dk_at dksX3_copies_1 4 rfl rfl)
theorem dX3_copies_29 : decode cX3_copies 29 = .ok (.iload_n 2, 1) := dk_28 (dk_at dksX3_copies_1 5 rfl rfl)
theorem dX3_copies_30 : decode cX3_copies 30 = .ok (.invokevirtual 30, 3) := dk_182 0 30 (dk_at dksX3_copies_1 6 rfl rfl)
theorem dX3_copies_33 : decode cX3_copies 33 = .ok (.invokevirtual 57, 3) := dk_182 0 57 (dk_at dksX3_copies_1 9 rfl rfl)
theorem dX3_copies_36 : decode cX3_copies 36 = .ok (.iinc 3 1, 3) := dk_132 3 1 (dk_at dksX3_copies_1 12 rfl rfl)
theorem dX3_copies_39 : decode cX3_copies 39 = .ok (.goto (-37), 3) := dk_167 255 219 (dk_at dksX3_copies_1 15 rfl rfl)
theorem dX3_copies_42 : decode cX3_copies 42 = .ok (.aload_n 0, 1) := dk_42 (dk_at dksX3_copies_1 18 rfl rfl)
theorem dX3_copies_43 : decode cX3_copies 43 = .ok (.iload_n 1, 1) := dk_27 (dk_at dksX3_copies_1 19 rfl rfl)
theorem dX3_copies_44 : decode cX3_copies 44 = .ok (.iload_n 2, 1) := dk_28 (dk_at dksX3_copies_1 20 rfl rfl)
theorem dX3_copies_45 : decode cX3_copies 45 = .ok (.iconst 0, 1) := dk_3 (dk_at dksX3_copies_1 21 rfl rfl)
theorem dX3_copies_46 : decode cX3_copies 46 = .ok (.invokevirtual 57, 3) := dk_182 0 57 (dk_at dksX3_copies_2 0 rfl rfl)
theorem dX3_copies_49 : decode cX3_copies 49 = .ok (.aload_n 0, 1) := dk_42 (dk_at dksX3_copies_2 3 rfl rfl)
theorem dX3_copies_50 : decode cX3_copies 50 = .ok (.iload_n 2, 1) := dk_28 (dk_at dksX3_copies_2 4 rfl rfl)
theorem dX3_copies_51 : decode cX3_copies 51 = .ok (.iload_n 1, 1) := dk_27 (dk_at dksX3_copies_2 5 rfl rfl)
theorem dX3_copies_52 : decode cX3_copies 52 = .ok (.iconst 0, 1) := dk_3 (dk_at dksX3_copies_2 6 rfl rfl)
theorem dX3_copies_53 : decode cX3_copies 53 = .ok (.invokevirtual 57, 3) := dk_182 0 57 (dk_at dksX3_copies_2 7 rfl rfl)
theorem dX3_copies_56 : decode cX3_copies 56 = .ok (.return_, 1) := dk_177 (dk_at dksX3_copies_2 10 rfl rfl)
abbrev cX3_shifts : ByteArray := prog_7_method_24_code
def yX3_shifts : MethodName := ⟨RX3, "shifts", "(II)V"⟩
def dkwX3_shifts_2 : List UInt8 := [132, 3, 1, 167, 255, 210, 177]
abbrev dktX3_shifts_2 : List UInt8 := dkwX3_shifts_2 ++ []
def dkwX3_shifts_1 : List UInt8 := [184, 0, 34, 182, 0, 57, 42, 29, 27, 42, 29, 27, 182, 0, 30, 28, 116, 184, 0, 34, 182, 0, 57]
abbrev dktX3_shifts_1 : List UInt8 := dkwX3_shifts_1 ++ dktX3_shifts_2
def dkwX3_shifts_0 : List UInt8 := [3, 62, 29, 7, 162, 0, 47, 29, 27, 159, 0, 36, 42, 27, 29, 42, 27, 29, 182, 0, 30, 28]
abbrev dktX3_shifts_0 : List UInt8 := dkwX3_shifts_0 ++ dktX3_shifts_1
theorem dksX3_shifts_0 : cX3_shifts.data.toList.drop 0 = dktX3_shifts_0 := by decide +kernel
theorem dksX3_shifts_1 : cX3_shifts.data.toList.drop 22 = dktX3_shifts_1 := dk_seg dksX3_shifts_0 22 rfl rfl
theorem dksX3_shifts_2 : cX3_shifts.data.toList.drop 45 = dktX3_shifts_2 := dk_seg dksX3_shifts_1 23 rfl rfl
theorem dX3_shifts_0 : decode cX3_shifts 0 = .ok (.iconst 0, 1) := dk_3 (dk_at dksX3_shifts_0 0 rfl rfl)
theorem dX3_shifts_1 : decode cX3_shifts 1 = .ok (.istore_n 3, 1) := dk_62 (dk_at dksX3_shifts_0 1 rfl rfl)
theorem dX3_shifts_2 : decode cX3_shifts 2 = .ok (.iload_n 3, 1) := dk_29 (dk_at dksX3_shifts_0 2 rfl rfl)
theorem dX3_shifts_3 : decode cX3_shifts 3 = .ok (.iconst 4, 1) := dk_7 (dk_at dksX3_shifts_0 3 rfl rfl)
theorem dX3_shifts_4 : decode cX3_shifts 4 = .ok (.if_icmp .ge 47, 3) := dk_162 0 47 (dk_at dksX3_shifts_0 4 rfl rfl)
theorem dX3_shifts_7 : decode cX3_shifts 7 = .ok (.iload_n 3, 1) := dk_29 (dk_at dksX3_shifts_0 7 rfl rfl)
theorem dX3_shifts_8 : decode cX3_shifts 8 = .ok (.iload_n 1, 1) := dk_27 (dk_at dksX3_shifts_0 8 rfl rfl)
theorem dX3_shifts_9 : decode cX3_shifts 9 = .ok (.if_icmp .eq 36, 3) := dk_159 0 36 (dk_at dksX3_shifts_0 9 rfl rfl)
theorem dX3_shifts_12 : decode cX3_shifts 12 = .ok (.aload_n 0, 1) := dk_42 (dk_at dksX3_shifts_0 12 rfl rfl)
theorem dX3_shifts_13 : decode cX3_shifts 13 = .ok (.iload_n 1, 1) := dk_27 (dk_at dksX3_shifts_0 13 rfl rfl)
theorem dX3_shifts_14 : decode cX3_shifts 14 = .ok (.iload_n 3, 1) := dk_29 (dk_at dksX3_shifts_0 14 rfl rfl)
theorem dX3_shifts_15 : decode cX3_shifts 15 = .ok (.aload_n 0, 1) := dk_42 (dk_at dksX3_shifts_0 15 rfl rfl)
theorem dX3_shifts_16 : decode cX3_shifts 16 = .ok (.iload_n 1, 1) := dk_27 (dk_at dksX3_shifts_0 16 rfl rfl)
theorem dX3_shifts_17 : decode cX3_shifts 17 = .ok (.iload_n 3, 1) := dk_29 (dk_at dksX3_shifts_0 17 rfl rfl)
theorem dX3_shifts_18 : decode cX3_shifts 18 = .ok (.invokevirtual 30, 3) := dk_182 0 30 (dk_at dksX3_shifts_0 18 rfl rfl)
theorem dX3_shifts_21 : decode cX3_shifts 21 = .ok (.iload_n 2, 1) := dk_28 (dk_at dksX3_shifts_0 21 rfl rfl)
theorem dX3_shifts_22 : decode cX3_shifts 22 = .ok (.invokestatic 34, 3) := dk_184 0 34 (dk_at dksX3_shifts_1 0 rfl rfl)
theorem dX3_shifts_25 : decode cX3_shifts 25 = .ok (.invokevirtual 57, 3) := dk_182 0 57 (dk_at dksX3_shifts_1 3 rfl rfl)
theorem dX3_shifts_28 : decode cX3_shifts 28 = .ok (.aload_n 0, 1) := dk_42 (dk_at dksX3_shifts_1 6 rfl rfl)
theorem dX3_shifts_29 : decode cX3_shifts 29 = .ok (.iload_n 3, 1) := dk_29 (dk_at dksX3_shifts_1 7 rfl rfl)
theorem dX3_shifts_30 : decode cX3_shifts 30 = .ok (.iload_n 1, 1) := dk_27 (dk_at dksX3_shifts_1 8 rfl rfl)
theorem dX3_shifts_31 : decode cX3_shifts 31 = .ok (.aload_n 0, 1) := dk_42 (dk_at dksX3_shifts_1 9 rfl rfl)
theorem dX3_shifts_32 : decode cX3_shifts 32 = .ok (.iload_n 3, 1) := dk_29 (dk_at dksX3_shifts_1 10 rfl rfl)
theorem dX3_shifts_33 : decode cX3_shifts 33 = .ok (.iload_n 1, 1) := dk_27 (dk_at dksX3_shifts_1 11 rfl rfl)
theorem dX3_shifts_34 : decode cX3_shifts 34 = .ok (.invokevirtual 30, 3) := dk_182 0 30 (dk_at dksX3_shifts_1 12 rfl rfl)
theorem dX3_shifts_37 : decode cX3_shifts 37 = .ok (.iload_n 2, 1) := dk_28 (dk_at dksX3_shifts_1 15 rfl rfl)
theorem dX3_shifts_38 : decode cX3_shifts 38 = .ok (.ineg, 1) := dk_116 (dk_at dksX3_shifts_1 16 rfl rfl)
theorem dX3_shifts_39 : decode cX3_shifts 39 = .ok (.invokestatic 34, 3) := dk_184 0 34 (dk_at dksX3_shifts_1 17 rfl rfl)
theorem dX3_shifts_42 : decode cX3_shifts 42 = .ok (.invokevirtual 57, 3) := dk_182 0 57 (dk_at dksX3_shifts_1 20 rfl rfl)
theorem dX3_shifts_45 : decode cX3_shifts 45 = .ok (.iinc 3 1, 3) := dk_132 3 1 (dk_at dksX3_shifts_2 0 rfl rfl)
theorem dX3_shifts_48 : decode cX3_shifts 48 = .ok (.goto (-46), 3) := dk_167 255 210 (dk_at dksX3_shifts_2 3 rfl rfl)
theorem dX3_shifts_51 : decode cX3_shifts 51 = .ok (.return_, 1) := dk_177 (dk_at dksX3_shifts_2 6 rfl rfl)
abbrev cX3_isVoid : ByteArray := prog_7_method_10_code
def yX3_isVoid : MethodName := ⟨RX3, "isVoid", "()Z"⟩
def dkwX3_isVoid_0 : List UInt8 := [42, 182, 0, 41, 182, 0, 45, 172]
abbrev dktX3_isVoid_0 : List UInt8 := dkwX3_isVoid_0 ++ []
theorem dksX3_isVoid_0 : cX3_isVoid.data.toList.drop 0 = dktX3_isVoid_0 := by decide +kernel
theorem dX3_isVoid_0 : decode cX3_isVoid 0 = .ok (.aload_n 0, 1) := dk_42 (dk_at dksX3_isVoid_0 0 rfl rfl)
theorem dX3_isVoid_1 : decode cX3_isVoid 1 = .ok (.invokevirtual 41, 3) := dk_182 0 41 (dk_at dksX3_isVoid_0 1 rfl rfl)
theorem dX3_isVoid_4 : decode cX3_isVoid 4 = .ok (.invokevirtual 45, 3) := dk_182 0 45 (dk_at dksX3_isVoid_0 4 rfl rfl)
theorem dX3_isVoid_7 : decode cX3_isVoid 7 = .ok (.ireturn, 1) := dk_172 (dk_at dksX3_isVoid_0 7 rfl rfl)
abbrev cX3_count : ByteArray := prog_7_method_13_code
def yX3_count : MethodName := ⟨RX3, "count", "(LFerryClocks$Zone;)I"⟩
def dkwX3_count_2 : List UInt8 := [3, 96, 61, 132, 4, 1, 167, 255, 211, 28, 172]
abbrev dktX3_count_2 : List UInt8 := dkwX3_count_2 ++ []
def dkwX3_count_1 : List UInt8 := [42, 45, 182, 0, 53, 153, 0, 19, 43, 198, 0, 11, 43, 45, 182, 0, 53, 154, 0, 7, 4, 167, 0, 4]
abbrev dktX3_count_1 : List UInt8 := dkwX3_count_1 ++ dktX3_count_2
def dkwX3_count_0 : List UInt8 := [3, 61, 6, 188, 10, 78, 3, 54, 4, 21, 4, 17, 116, 95, 162, 0, 43, 21, 4, 45, 184, 0, 49, 28]
abbrev dktX3_count_0 : List UInt8 := dkwX3_count_0 ++ dktX3_count_1
theorem dksX3_count_0 : cX3_count.data.toList.drop 0 = dktX3_count_0 := by decide +kernel
theorem dksX3_count_1 : cX3_count.data.toList.drop 24 = dktX3_count_1 := dk_seg dksX3_count_0 24 rfl rfl
theorem dksX3_count_2 : cX3_count.data.toList.drop 48 = dktX3_count_2 := dk_seg dksX3_count_1 24 rfl rfl
theorem dX3_count_0 : decode cX3_count 0 = .ok (.iconst 0, 1) := dk_3 (dk_at dksX3_count_0 0 rfl rfl)
theorem dX3_count_1 : decode cX3_count 1 = .ok (.istore_n 2, 1) := dk_61 (dk_at dksX3_count_0 1 rfl rfl)
theorem dX3_count_2 : decode cX3_count 2 = .ok (.iconst 3, 1) := dk_6 (dk_at dksX3_count_0 2 rfl rfl)
theorem dX3_count_3 : decode cX3_count 3 = .ok (.newarray .int, 2) := dk_188_10 (dk_at dksX3_count_0 3 rfl rfl)
theorem dX3_count_5 : decode cX3_count 5 = .ok (.astore_n 3, 1) := dk_78 (dk_at dksX3_count_0 5 rfl rfl)
theorem dX3_count_6 : decode cX3_count 6 = .ok (.iconst 0, 1) := dk_3 (dk_at dksX3_count_0 6 rfl rfl)
theorem dX3_count_7 : decode cX3_count 7 = .ok (.istore 4, 2) := dk_54 4 (dk_at dksX3_count_0 7 rfl rfl)
theorem dX3_count_9 : decode cX3_count 9 = .ok (.iload 4, 2) := dk_21 4 (dk_at dksX3_count_0 9 rfl rfl)
theorem dX3_count_11 : decode cX3_count 11 = .ok (.sipush 29791, 3) := dk_17 116 95 (dk_at dksX3_count_0 11 rfl rfl)
theorem dX3_count_14 : decode cX3_count 14 = .ok (.if_icmp .ge 43, 3) := dk_162 0 43 (dk_at dksX3_count_0 14 rfl rfl)
theorem dX3_count_17 : decode cX3_count 17 = .ok (.iload 4, 2) := dk_21 4 (dk_at dksX3_count_0 17 rfl rfl)
theorem dX3_count_19 : decode cX3_count 19 = .ok (.aload_n 3, 1) := dk_45 (dk_at dksX3_count_0 19 rfl rfl)
theorem dX3_count_20 : decode cX3_count 20 = .ok (.invokestatic 49, 3) := dk_184 0 49 (dk_at dksX3_count_0 20 rfl rfl)
theorem dX3_count_23 : decode cX3_count 23 = .ok (.iload_n 2, 1) := dk_28 (dk_at dksX3_count_0 23 rfl rfl)
theorem dX3_count_24 : decode cX3_count 24 = .ok (.aload_n 0, 1) := dk_42 (dk_at dksX3_count_1 0 rfl rfl)
theorem dX3_count_25 : decode cX3_count 25 = .ok (.aload_n 3, 1) := dk_45 (dk_at dksX3_count_1 1 rfl rfl)
theorem dX3_count_26 : decode cX3_count 26 = .ok (.invokevirtual 53, 3) := dk_182 0 53 (dk_at dksX3_count_1 2 rfl rfl)
theorem dX3_count_29 : decode cX3_count 29 = .ok (.ifCond .eq 19, 3) := dk_153 0 19 (dk_at dksX3_count_1 5 rfl rfl)
theorem dX3_count_32 : decode cX3_count 32 = .ok (.aload_n 1, 1) := dk_43 (dk_at dksX3_count_1 8 rfl rfl)
theorem dX3_count_33 : decode cX3_count 33 = .ok (.ifnull 11, 3) := dk_198 0 11 (dk_at dksX3_count_1 9 rfl rfl)
theorem dX3_count_36 : decode cX3_count 36 = .ok (.aload_n 1, 1) := dk_43 (dk_at dksX3_count_1 12 rfl rfl)
theorem dX3_count_37 : decode cX3_count 37 = .ok (.aload_n 3, 1) := dk_45 (dk_at dksX3_count_1 13 rfl rfl)
theorem dX3_count_38 : decode cX3_count 38 = .ok (.invokevirtual 53, 3) := dk_182 0 53 (dk_at dksX3_count_1 14 rfl rfl)
theorem dX3_count_41 : decode cX3_count 41 = .ok (.ifCond .ne 7, 3) := dk_154 0 7 (dk_at dksX3_count_1 17 rfl rfl)
theorem dX3_count_44 : decode cX3_count 44 = .ok (.iconst 1, 1) := dk_4 (dk_at dksX3_count_1 20 rfl rfl)
theorem dX3_count_45 : decode cX3_count 45 = .ok (.goto 4, 3) := dk_167 0 4 (dk_at dksX3_count_1 21 rfl rfl)
theorem dX3_count_48 : decode cX3_count 48 = .ok (.iconst 0, 1) := dk_3 (dk_at dksX3_count_2 0 rfl rfl)
theorem dX3_count_49 : decode cX3_count 49 = .ok (.iadd, 1) := dk_96 (dk_at dksX3_count_2 1 rfl rfl)
theorem dX3_count_50 : decode cX3_count 50 = .ok (.istore_n 2, 1) := dk_61 (dk_at dksX3_count_2 2 rfl rfl)
theorem dX3_count_51 : decode cX3_count 51 = .ok (.iinc 4 1, 3) := dk_132 4 1 (dk_at dksX3_count_2 3 rfl rfl)
theorem dX3_count_54 : decode cX3_count 54 = .ok (.goto (-45), 3) := dk_167 255 211 (dk_at dksX3_count_2 6 rfl rfl)
theorem dX3_count_57 : decode cX3_count 57 = .ok (.iload_n 2, 1) := dk_28 (dk_at dksX3_count_2 9 rfl rfl)
theorem dX3_count_58 : decode cX3_count 58 = .ok (.ireturn, 1) := dk_172 (dk_at dksX3_count_2 10 rfl rfl)
abbrev cX3_decodes : ByteArray := prog_7_method_14_code
def yX3_decodes : MethodName := ⟨RX3, "decodes", "(I[I)V"⟩
def dkwX3_decodes_1 : List UInt8 := [167, 255, 236, 177]
abbrev dktX3_decodes_1 : List UInt8 := dkwX3_decodes_1 ++ []
def dkwX3_decodes_0 : List UInt8 := [26, 61, 3, 62, 29, 6, 162, 0, 21, 43, 29, 28, 16, 31, 112, 79, 28, 16, 31, 108, 61, 132, 3, 1]
abbrev dktX3_decodes_0 : List UInt8 := dkwX3_decodes_0 ++ dktX3_decodes_1
theorem dksX3_decodes_0 : cX3_decodes.data.toList.drop 0 = dktX3_decodes_0 := by decide +kernel
theorem dksX3_decodes_1 : cX3_decodes.data.toList.drop 24 = dktX3_decodes_1 := dk_seg dksX3_decodes_0 24 rfl rfl
theorem dX3_decodes_0 : decode cX3_decodes 0 = .ok (.iload_n 0, 1) := dk_26 (dk_at dksX3_decodes_0 0 rfl rfl)
theorem dX3_decodes_1 : decode cX3_decodes 1 = .ok (.istore_n 2, 1) := dk_61 (dk_at dksX3_decodes_0 1 rfl rfl)
theorem dX3_decodes_2 : decode cX3_decodes 2 = .ok (.iconst 0, 1) := dk_3 (dk_at dksX3_decodes_0 2 rfl rfl)
theorem dX3_decodes_3 : decode cX3_decodes 3 = .ok (.istore_n 3, 1) := dk_62 (dk_at dksX3_decodes_0 3 rfl rfl)
theorem dX3_decodes_4 : decode cX3_decodes 4 = .ok (.iload_n 3, 1) := dk_29 (dk_at dksX3_decodes_0 4 rfl rfl)
theorem dX3_decodes_5 : decode cX3_decodes 5 = .ok (.iconst 3, 1) := dk_6 (dk_at dksX3_decodes_0 5 rfl rfl)
theorem dX3_decodes_6 : decode cX3_decodes 6 = .ok (.if_icmp .ge 21, 3) := dk_162 0 21 (dk_at dksX3_decodes_0 6 rfl rfl)
theorem dX3_decodes_9 : decode cX3_decodes 9 = .ok (.aload_n 1, 1) := dk_43 (dk_at dksX3_decodes_0 9 rfl rfl)
theorem dX3_decodes_10 : decode cX3_decodes 10 = .ok (.iload_n 3, 1) := dk_29 (dk_at dksX3_decodes_0 10 rfl rfl)
theorem dX3_decodes_11 : decode cX3_decodes 11 = .ok (.iload_n 2, 1) := dk_28 (dk_at dksX3_decodes_0 11 rfl rfl)
theorem dX3_decodes_12 : decode cX3_decodes 12 = .ok (.bipush 31, 2) := dk_16 31 (dk_at dksX3_decodes_0 12 rfl rfl)
theorem dX3_decodes_14 : decode cX3_decodes 14 = .ok (.irem, 1) := dk_112 (dk_at dksX3_decodes_0 14 rfl rfl)
theorem dX3_decodes_15 : decode cX3_decodes 15 = .ok (.iastore, 1) := dk_79 (dk_at dksX3_decodes_0 15 rfl rfl)
theorem dX3_decodes_16 : decode cX3_decodes 16 = .ok (.iload_n 2, 1) := dk_28 (dk_at dksX3_decodes_0 16 rfl rfl)
theorem dX3_decodes_17 : decode cX3_decodes 17 = .ok (.bipush 31, 2) := dk_16 31 (dk_at dksX3_decodes_0 17 rfl rfl)
theorem dX3_decodes_19 : decode cX3_decodes 19 = .ok (.idiv, 1) := dk_108 (dk_at dksX3_decodes_0 19 rfl rfl)
theorem dX3_decodes_20 : decode cX3_decodes 20 = .ok (.istore_n 2, 1) := dk_61 (dk_at dksX3_decodes_0 20 rfl rfl)
theorem dX3_decodes_21 : decode cX3_decodes 21 = .ok (.iinc 3 1, 3) := dk_132 3 1 (dk_at dksX3_decodes_0 21 rfl rfl)
theorem dX3_decodes_24 : decode cX3_decodes 24 = .ok (.goto (-20), 3) := dk_167 255 236 (dk_at dksX3_decodes_1 0 rfl rfl)
theorem dX3_decodes_27 : decode cX3_decodes 27 = .ok (.return_, 1) := dk_177 (dk_at dksX3_decodes_1 3 rfl rfl)
abbrev cX3_has : ByteArray := prog_7_method_11_code
def yX3_has : MethodName := ⟨RX3, "has", "([I)Z"⟩
def dkwX3_has_3 : List UInt8 := [167, 255, 198, 132, 3, 1, 167, 255, 184, 28, 172]
abbrev dktX3_has_3 : List UInt8 := dkwX3_has_3 ++ []
def dkwX3_has_2 : List UInt8 := [21, 5, 42, 29, 21, 4, 182, 0, 30, 163, 0, 7, 4, 167, 0, 4, 3, 126, 61, 132, 4, 1]
abbrev dktX3_has_2 : List UInt8 := dkwX3_has_2 ++ dktX3_has_3
def dkwX3_has_1 : List UInt8 := [167, 0, 6, 43, 29, 46, 21, 4, 6, 160, 0, 7, 3, 167, 0, 7, 43, 21, 4, 46, 100, 54, 5, 28]
abbrev dktX3_has_1 : List UInt8 := dkwX3_has_1 ++ dktX3_has_2
def dkwX3_has_0 : List UInt8 := [4, 61, 3, 62, 29, 7, 162, 0, 73, 3, 54, 4, 21, 4, 7, 162, 0, 58, 29, 6, 160, 0, 7, 3]
abbrev dktX3_has_0 : List UInt8 := dkwX3_has_0 ++ dktX3_has_1
theorem dksX3_has_0 : cX3_has.data.toList.drop 0 = dktX3_has_0 := by decide +kernel
theorem dksX3_has_1 : cX3_has.data.toList.drop 24 = dktX3_has_1 := dk_seg dksX3_has_0 24 rfl rfl
theorem dksX3_has_2 : cX3_has.data.toList.drop 48 = dktX3_has_2 := dk_seg dksX3_has_1 24 rfl rfl
theorem dksX3_has_3 : cX3_has.data.toList.drop 70 = dktX3_has_3 := dk_seg dksX3_has_2 22 rfl rfl
theorem dX3_has_0 : decode cX3_has 0 = .ok (.iconst 1, 1) := dk_4 (dk_at dksX3_has_0 0 rfl rfl)
theorem dX3_has_1 : decode cX3_has 1 = .ok (.istore_n 2, 1) := dk_61 (dk_at dksX3_has_0 1 rfl rfl)
theorem dX3_has_2 : decode cX3_has 2 = .ok (.iconst 0, 1) := dk_3 (dk_at dksX3_has_0 2 rfl rfl)
theorem dX3_has_3 : decode cX3_has 3 = .ok (.istore_n 3, 1) := dk_62 (dk_at dksX3_has_0 3 rfl rfl)
theorem dX3_has_4 : decode cX3_has 4 = .ok (.iload_n 3, 1) := dk_29 (dk_at dksX3_has_0 4 rfl rfl)
theorem dX3_has_5 : decode cX3_has 5 = .ok (.iconst 4, 1) := dk_7 (dk_at dksX3_has_0 5 rfl rfl)
theorem dX3_has_6 : decode cX3_has 6 = .ok (.if_icmp .ge 73, 3) := dk_162 0 73 (dk_at dksX3_has_0 6 rfl rfl)
theorem dX3_has_9 : decode cX3_has 9 = .ok (.iconst 0, 1) := dk_3 (dk_at dksX3_has_0 9 rfl rfl)
theorem dX3_has_10 : decode cX3_has 10 = .ok (.istore 4, 2) := dk_54 4 (dk_at dksX3_has_0 10 rfl rfl)
theorem dX3_has_12 : decode cX3_has 12 = .ok (.iload 4, 2) := dk_21 4 (dk_at dksX3_has_0 12 rfl rfl)
theorem dX3_has_14 : decode cX3_has 14 = .ok (.iconst 4, 1) := dk_7 (dk_at dksX3_has_0 14 rfl rfl)
theorem dX3_has_15 : decode cX3_has 15 = .ok (.if_icmp .ge 58, 3) := dk_162 0 58 (dk_at dksX3_has_0 15 rfl rfl)
theorem dX3_has_18 : decode cX3_has 18 = .ok (.iload_n 3, 1) := dk_29 (dk_at dksX3_has_0 18 rfl rfl)
theorem dX3_has_19 : decode cX3_has 19 = .ok (.iconst 3, 1) := dk_6 (dk_at dksX3_has_0 19 rfl rfl)
theorem dX3_has_20 : decode cX3_has 20 = .ok (.if_icmp .ne 7, 3) := dk_160 0 7 (dk_at dksX3_has_0 20 rfl rfl)
theorem dX3_has_23 : decode cX3_has 23 = .ok (.iconst 0, 1) := dk_3 (dk_at dksX3_has_0 23 rfl rfl)
theorem dX3_has_24 : decode cX3_has 24 = .ok (.goto 6, 3) := dk_167 0 6 (dk_at dksX3_has_1 0 rfl rfl)
theorem dX3_has_27 : decode cX3_has 27 = .ok (.aload_n 1, 1) := dk_43 (dk_at dksX3_has_1 3 rfl rfl)
theorem dX3_has_28 : decode cX3_has 28 = .ok (.iload_n 3, 1) := dk_29 (dk_at dksX3_has_1 4 rfl rfl)
theorem dX3_has_29 : decode cX3_has 29 = .ok (.iaload, 1) := dk_46 (dk_at dksX3_has_1 5 rfl rfl)
theorem dX3_has_30 : decode cX3_has 30 = .ok (.iload 4, 2) := dk_21 4 (dk_at dksX3_has_1 6 rfl rfl)
theorem dX3_has_32 : decode cX3_has 32 = .ok (.iconst 3, 1) := dk_6 (dk_at dksX3_has_1 8 rfl rfl)
theorem dX3_has_33 : decode cX3_has 33 = .ok (.if_icmp .ne 7, 3) := dk_160 0 7 (dk_at dksX3_has_1 9 rfl rfl)
theorem dX3_has_36 : decode cX3_has 36 = .ok (.iconst 0, 1) := dk_3 (dk_at dksX3_has_1 12 rfl rfl)
theorem dX3_has_37 : decode cX3_has 37 = .ok (.goto 7, 3) := dk_167 0 7 (dk_at dksX3_has_1 13 rfl rfl)
theorem dX3_has_40 : decode cX3_has 40 = .ok (.aload_n 1, 1) := dk_43 (dk_at dksX3_has_1 16 rfl rfl)
theorem dX3_has_41 : decode cX3_has 41 = .ok (.iload 4, 2) := dk_21 4 (dk_at dksX3_has_1 17 rfl rfl)
theorem dX3_has_43 : decode cX3_has 43 = .ok (.iaload, 1) := dk_46 (dk_at dksX3_has_1 19 rfl rfl)
theorem dX3_has_44 : decode cX3_has 44 = .ok (.isub, 1) := dk_100 (dk_at dksX3_has_1 20 rfl rfl)
theorem dX3_has_45 : decode cX3_has 45 = .ok (.istore 5, 2) := dk_54 5 (dk_at dksX3_has_1 21 rfl rfl)
theorem dX3_has_47 : decode cX3_has 47 = .ok (.iload_n 2, 1) := dk_28 (dk_at dksX3_has_1 23 rfl rfl)
theorem dX3_has_48 : decode cX3_has 48 = .ok (.iload 5, 2) := dk_21 5 (dk_at dksX3_has_2 0 rfl rfl)
theorem dX3_has_50 : decode cX3_has 50 = .ok (.aload_n 0, 1) := dk_42 (dk_at dksX3_has_2 2 rfl rfl)
theorem dX3_has_51 : decode cX3_has 51 = .ok (.iload_n 3, 1) := dk_29 (dk_at dksX3_has_2 3 rfl rfl)
theorem dX3_has_52 : decode cX3_has 52 = .ok (.iload 4, 2) := dk_21 4 (dk_at dksX3_has_2 4 rfl rfl)
theorem dX3_has_54 : decode cX3_has 54 = .ok (.invokevirtual 30, 3) := dk_182 0 30 (dk_at dksX3_has_2 6 rfl rfl)
theorem dX3_has_57 : decode cX3_has 57 = .ok (.if_icmp .gt 7, 3) := dk_163 0 7 (dk_at dksX3_has_2 9 rfl rfl)
theorem dX3_has_60 : decode cX3_has 60 = .ok (.iconst 1, 1) := dk_4 (dk_at dksX3_has_2 12 rfl rfl)
theorem dX3_has_61 : decode cX3_has 61 = .ok (.goto 4, 3) := dk_167 0 4 (dk_at dksX3_has_2 13 rfl rfl)
theorem dX3_has_64 : decode cX3_has 64 = .ok (.iconst 0, 1) := dk_3 (dk_at dksX3_has_2 16 rfl rfl)
theorem dX3_has_65 : decode cX3_has 65 = .ok (.iand, 1) := dk_126 (dk_at dksX3_has_2 17 rfl rfl)
theorem dX3_has_66 : decode cX3_has 66 = .ok (.istore_n 2, 1) := dk_61 (dk_at dksX3_has_2 18 rfl rfl)
theorem dX3_has_67 : decode cX3_has 67 = .ok (.iinc 4 1, 3) := dk_132 4 1 (dk_at dksX3_has_2 19 rfl rfl)
theorem dX3_has_70 : decode cX3_has 70 = .ok (.goto (-58), 3) := dk_167 255 198 (dk_at dksX3_has_3 0 rfl rfl)
theorem dX3_has_73 : decode cX3_has 73 = .ok (.iinc 3 1, 3) := dk_132 3 1 (dk_at dksX3_has_3 3 rfl rfl)
theorem dX3_has_76 : decode cX3_has 76 = .ok (.goto (-72), 3) := dk_167 255 184 (dk_at dksX3_has_3 6 rfl rfl)
theorem dX3_has_79 : decode cX3_has 79 = .ok (.iload_n 2, 1) := dk_28 (dk_at dksX3_has_3 9 rfl rfl)
theorem dX3_has_80 : decode cX3_has 80 = .ok (.ireturn, 1) := dk_172 (dk_at dksX3_has_3 10 rfl rfl)
abbrev cX3_isInside : ByteArray := prog_7_method_16_code
def yX3_isInside : MethodName := ⟨RX3, "isInside", "(LFerryClocks$Zone;)Z"⟩
def dkwX3_isInside_1 : List UInt8 := [163, 0, 7, 4, 167, 0, 4, 3, 126, 61, 132, 3, 1, 167, 255, 224, 28, 172]
abbrev dktX3_isInside_1 : List UInt8 := dkwX3_isInside_1 ++ []
def dkwX3_isInside_0 : List UInt8 := [4, 61, 3, 62, 29, 16, 16, 162, 0, 32, 28, 42, 180, 0, 9, 29, 46, 43, 180, 0, 9, 29, 46]
abbrev dktX3_isInside_0 : List UInt8 := dkwX3_isInside_0 ++ dktX3_isInside_1
theorem dksX3_isInside_0 : cX3_isInside.data.toList.drop 0 = dktX3_isInside_0 := by decide +kernel
theorem dksX3_isInside_1 : cX3_isInside.data.toList.drop 23 = dktX3_isInside_1 := dk_seg dksX3_isInside_0 23 rfl rfl
theorem dX3_isInside_0 : decode cX3_isInside 0 = .ok (.iconst 1, 1) := dk_4 (dk_at dksX3_isInside_0 0 rfl rfl)
theorem dX3_isInside_1 : decode cX3_isInside 1 = .ok (.istore_n 2, 1) := dk_61 (dk_at dksX3_isInside_0 1 rfl rfl)
theorem dX3_isInside_2 : decode cX3_isInside 2 = .ok (.iconst 0, 1) := dk_3 (dk_at dksX3_isInside_0 2 rfl rfl)
theorem dX3_isInside_3 : decode cX3_isInside 3 = .ok (.istore_n 3, 1) := dk_62 (dk_at dksX3_isInside_0 3 rfl rfl)
theorem dX3_isInside_4 : decode cX3_isInside 4 = .ok (.iload_n 3, 1) := dk_29 (dk_at dksX3_isInside_0 4 rfl rfl)
theorem dX3_isInside_5 : decode cX3_isInside 5 = .ok (.bipush 16, 2) := dk_16 16 (dk_at dksX3_isInside_0 5 rfl rfl)
theorem dX3_isInside_7 : decode cX3_isInside 7 = .ok (.if_icmp .ge 32, 3) := dk_162 0 32 (dk_at dksX3_isInside_0 7 rfl rfl)
theorem dX3_isInside_10 : decode cX3_isInside 10 = .ok (.iload_n 2, 1) := dk_28 (dk_at dksX3_isInside_0 10 rfl rfl)
theorem dX3_isInside_11 : decode cX3_isInside 11 = .ok (.aload_n 0, 1) := dk_42 (dk_at dksX3_isInside_0 11 rfl rfl)
theorem dX3_isInside_12 : decode cX3_isInside 12 = .ok (.getfield 9, 3) := dk_180 0 9 (dk_at dksX3_isInside_0 12 rfl rfl)
theorem dX3_isInside_15 : decode cX3_isInside 15 = .ok (.iload_n 3, 1) := dk_29 (dk_at dksX3_isInside_0 15 rfl rfl)
theorem dX3_isInside_16 : decode cX3_isInside 16 = .ok (.iaload, 1) := dk_46 (dk_at dksX3_isInside_0 16 rfl rfl)
theorem dX3_isInside_17 : decode cX3_isInside 17 = .ok (.aload_n 1, 1) := dk_43 (dk_at dksX3_isInside_0 17 rfl rfl)
theorem dX3_isInside_18 : decode cX3_isInside 18 = .ok (.getfield 9, 3) := dk_180 0 9 (dk_at dksX3_isInside_0 18 rfl rfl)
theorem dX3_isInside_21 : decode cX3_isInside 21 = .ok (.iload_n 3, 1) := dk_29 (dk_at dksX3_isInside_0 21 rfl rfl)
theorem dX3_isInside_22 : decode cX3_isInside 22 = .ok (.iaload, 1) := dk_46 (dk_at dksX3_isInside_0 22 rfl rfl)
theorem dX3_isInside_23 : decode cX3_isInside 23 = .ok (.if_icmp .gt 7, 3) := dk_163 0 7 (dk_at dksX3_isInside_1 0 rfl rfl)
theorem dX3_isInside_26 : decode cX3_isInside 26 = .ok (.iconst 1, 1) := dk_4 (dk_at dksX3_isInside_1 3 rfl rfl)
theorem dX3_isInside_27 : decode cX3_isInside 27 = .ok (.goto 4, 3) := dk_167 0 4 (dk_at dksX3_isInside_1 4 rfl rfl)
theorem dX3_isInside_30 : decode cX3_isInside 30 = .ok (.iconst 0, 1) := dk_3 (dk_at dksX3_isInside_1 7 rfl rfl)
theorem dX3_isInside_31 : decode cX3_isInside 31 = .ok (.iand, 1) := dk_126 (dk_at dksX3_isInside_1 8 rfl rfl)
theorem dX3_isInside_32 : decode cX3_isInside 32 = .ok (.istore_n 2, 1) := dk_61 (dk_at dksX3_isInside_1 9 rfl rfl)
theorem dX3_isInside_33 : decode cX3_isInside 33 = .ok (.iinc 3 1, 3) := dk_132 3 1 (dk_at dksX3_isInside_1 10 rfl rfl)
theorem dX3_isInside_36 : decode cX3_isInside 36 = .ok (.goto (-32), 3) := dk_167 255 224 (dk_at dksX3_isInside_1 13 rfl rfl)
theorem dX3_isInside_39 : decode cX3_isInside 39 = .ok (.iload_n 2, 1) := dk_28 (dk_at dksX3_isInside_1 16 rfl rfl)
theorem dX3_isInside_40 : decode cX3_isInside 40 = .ok (.ireturn, 1) := dk_172 (dk_at dksX3_isInside_1 17 rfl rfl)
abbrev cX3_widens : ByteArray := prog_7_method_26_code
def yX3_widens : MethodName := ⟨RX3, "widens", "()V"⟩
def dkwX3_widens_1 : List UInt8 := [164, 0, 9, 17, 39, 15, 167, 0, 9, 16, 246, 28, 184, 0, 65, 79, 132, 1, 1, 167, 255, 216, 177]
abbrev dktX3_widens_1 : List UInt8 := dkwX3_widens_1 ++ []
def dkwX3_widens_0 : List UInt8 := [3, 60, 27, 16, 16, 162, 0, 40, 42, 180, 0, 9, 27, 46, 61, 42, 180, 0, 9, 27, 28, 16, 9]
abbrev dktX3_widens_0 : List UInt8 := dkwX3_widens_0 ++ dktX3_widens_1
theorem dksX3_widens_0 : cX3_widens.data.toList.drop 0 = dktX3_widens_0 := by decide +kernel
theorem dksX3_widens_1 : cX3_widens.data.toList.drop 23 = dktX3_widens_1 := dk_seg dksX3_widens_0 23 rfl rfl
theorem dX3_widens_0 : decode cX3_widens 0 = .ok (.iconst 0, 1) := dk_3 (dk_at dksX3_widens_0 0 rfl rfl)
theorem dX3_widens_1 : decode cX3_widens 1 = .ok (.istore_n 1, 1) := dk_60 (dk_at dksX3_widens_0 1 rfl rfl)
theorem dX3_widens_2 : decode cX3_widens 2 = .ok (.iload_n 1, 1) := dk_27 (dk_at dksX3_widens_0 2 rfl rfl)
theorem dX3_widens_3 : decode cX3_widens 3 = .ok (.bipush 16, 2) := dk_16 16 (dk_at dksX3_widens_0 3 rfl rfl)
theorem dX3_widens_5 : decode cX3_widens 5 = .ok (.if_icmp .ge 40, 3) := dk_162 0 40 (dk_at dksX3_widens_0 5 rfl rfl)
theorem dX3_widens_8 : decode cX3_widens 8 = .ok (.aload_n 0, 1) := dk_42 (dk_at dksX3_widens_0 8 rfl rfl)
theorem dX3_widens_9 : decode cX3_widens 9 = .ok (.getfield 9, 3) := dk_180 0 9 (dk_at dksX3_widens_0 9 rfl rfl)
theorem dX3_widens_12 : decode cX3_widens 12 = .ok (.iload_n 1, 1) := dk_27 (dk_at dksX3_widens_0 12 rfl rfl)
theorem dX3_widens_13 : decode cX3_widens 13 = .ok (.iaload, 1) := dk_46 (dk_at dksX3_widens_0 13 rfl rfl)
theorem dX3_widens_14 : decode cX3_widens 14 = .ok (.istore_n 2, 1) := dk_61 (dk_at dksX3_widens_0 14 rfl rfl)
theorem dX3_widens_15 : decode cX3_widens 15 = .ok (.aload_n 0, 1) := dk_42 (dk_at dksX3_widens_0 15 rfl rfl)
theorem dX3_widens_16 : decode cX3_widens 16 = .ok (.getfield 9, 3) := dk_180 0 9 (dk_at dksX3_widens_0 16 rfl rfl)
theorem dX3_widens_19 : decode cX3_widens 19 = .ok (.iload_n 1, 1) := dk_27 (dk_at dksX3_widens_0 19 rfl rfl)
theorem dX3_widens_20 : decode cX3_widens 20 = .ok (.iload_n 2, 1) := dk_28 (dk_at dksX3_widens_0 20 rfl rfl)
theorem dX3_widens_21 : decode cX3_widens 21 = .ok (.bipush 9, 2) := dk_16 9 (dk_at dksX3_widens_0 21 rfl rfl)
theorem dX3_widens_23 : decode cX3_widens 23 = .ok (.if_icmp .le 9, 3) := dk_164 0 9 (dk_at dksX3_widens_1 0 rfl rfl)
theorem dX3_widens_26 : decode cX3_widens 26 = .ok (.sipush 9999, 3) := dk_17 39 15 (dk_at dksX3_widens_1 3 rfl rfl)
theorem dX3_widens_29 : decode cX3_widens 29 = .ok (.goto 9, 3) := dk_167 0 9 (dk_at dksX3_widens_1 6 rfl rfl)
theorem dX3_widens_32 : decode cX3_widens 32 = .ok (.bipush (-10), 2) := dk_16 246 (dk_at dksX3_widens_1 9 rfl rfl)
theorem dX3_widens_34 : decode cX3_widens 34 = .ok (.iload_n 2, 1) := dk_28 (dk_at dksX3_widens_1 11 rfl rfl)
theorem dX3_widens_35 : decode cX3_widens 35 = .ok (.invokestatic 65, 3) := dk_184 0 65 (dk_at dksX3_widens_1 12 rfl rfl)
theorem dX3_widens_38 : decode cX3_widens 38 = .ok (.iastore, 1) := dk_79 (dk_at dksX3_widens_1 15 rfl rfl)
theorem dX3_widens_39 : decode cX3_widens 39 = .ok (.iinc 1 1, 3) := dk_132 1 1 (dk_at dksX3_widens_1 16 rfl rfl)
theorem dX3_widens_42 : decode cX3_widens 42 = .ok (.goto (-40), 3) := dk_167 255 216 (dk_at dksX3_widens_1 19 rfl rfl)
theorem dX3_widens_45 : decode cX3_widens 45 = .ok (.return_, 1) := dk_177 (dk_at dksX3_widens_1 22 rfl rfl)
abbrev cX3_sum_2 : ByteArray := prog_7_method_15_code
def yX3_sum_2 : MethodName := ⟨RX3, "sum", "(I)J"⟩
def dkwX3_sum_2_2 : List UInt8 := [132, 5, 1, 167, 255, 217, 32, 173]
abbrev dktX3_sum_2_2 : List UInt8 := dkwX3_sum_2_2 ++ []
def dkwX3_sum_2_1 : List UInt8 := [184, 0, 49, 32, 42, 25, 4, 182, 0, 53, 153, 0, 11, 25, 4, 27, 46, 133, 167, 0, 4, 9, 97, 65]
abbrev dktX3_sum_2_1 : List UInt8 := dkwX3_sum_2_1 ++ dktX3_sum_2_2
def dkwX3_sum_2_0 : List UInt8 := [9, 65, 6, 188, 10, 58, 4, 3, 54, 5, 21, 5, 17, 116, 95, 162, 0, 37, 21, 5, 25, 4]
abbrev dktX3_sum_2_0 : List UInt8 := dkwX3_sum_2_0 ++ dktX3_sum_2_1
theorem dksX3_sum_2_0 : cX3_sum_2.data.toList.drop 0 = dktX3_sum_2_0 := by decide +kernel
theorem dksX3_sum_2_1 : cX3_sum_2.data.toList.drop 22 = dktX3_sum_2_1 := dk_seg dksX3_sum_2_0 22 rfl rfl
theorem dksX3_sum_2_2 : cX3_sum_2.data.toList.drop 46 = dktX3_sum_2_2 := dk_seg dksX3_sum_2_1 24 rfl rfl
theorem dX3_sum_2_0 : decode cX3_sum_2 0 = .ok (.lconst 0, 1) := dk_9 (dk_at dksX3_sum_2_0 0 rfl rfl)
theorem dX3_sum_2_1 : decode cX3_sum_2 1 = .ok (.lstore_n 2, 1) := dk_65 (dk_at dksX3_sum_2_0 1 rfl rfl)
theorem dX3_sum_2_2 : decode cX3_sum_2 2 = .ok (.iconst 3, 1) := dk_6 (dk_at dksX3_sum_2_0 2 rfl rfl)
theorem dX3_sum_2_3 : decode cX3_sum_2 3 = .ok (.newarray .int, 2) := dk_188_10 (dk_at dksX3_sum_2_0 3 rfl rfl)
theorem dX3_sum_2_5 : decode cX3_sum_2 5 = .ok (.astore 4, 2) := dk_58 4 (dk_at dksX3_sum_2_0 5 rfl rfl)
theorem dX3_sum_2_7 : decode cX3_sum_2 7 = .ok (.iconst 0, 1) := dk_3 (dk_at dksX3_sum_2_0 7 rfl rfl)
theorem dX3_sum_2_8 : decode cX3_sum_2 8 = .ok (.istore 5, 2) := dk_54 5 (dk_at dksX3_sum_2_0 8 rfl rfl)
theorem dX3_sum_2_10 : decode cX3_sum_2 10 = .ok (.iload 5, 2) := dk_21 5 (dk_at dksX3_sum_2_0 10 rfl rfl)
theorem dX3_sum_2_12 : decode cX3_sum_2 12 = .ok (.sipush 29791, 3) := dk_17 116 95 (dk_at dksX3_sum_2_0 12 rfl rfl)
theorem dX3_sum_2_15 : decode cX3_sum_2 15 = .ok (.if_icmp .ge 37, 3) := dk_162 0 37 (dk_at dksX3_sum_2_0 15 rfl rfl)
theorem dX3_sum_2_18 : decode cX3_sum_2 18 = .ok (.iload 5, 2) := dk_21 5 (dk_at dksX3_sum_2_0 18 rfl rfl)
theorem dX3_sum_2_20 : decode cX3_sum_2 20 = .ok (.aload 4, 2) := dk_25 4 (dk_at dksX3_sum_2_0 20 rfl rfl)
theorem dX3_sum_2_22 : decode cX3_sum_2 22 = .ok (.invokestatic 49, 3) := dk_184 0 49 (dk_at dksX3_sum_2_1 0 rfl rfl)
theorem dX3_sum_2_25 : decode cX3_sum_2 25 = .ok (.lload_n 2, 1) := dk_32 (dk_at dksX3_sum_2_1 3 rfl rfl)
theorem dX3_sum_2_26 : decode cX3_sum_2 26 = .ok (.aload_n 0, 1) := dk_42 (dk_at dksX3_sum_2_1 4 rfl rfl)
theorem dX3_sum_2_27 : decode cX3_sum_2 27 = .ok (.aload 4, 2) := dk_25 4 (dk_at dksX3_sum_2_1 5 rfl rfl)
theorem dX3_sum_2_29 : decode cX3_sum_2 29 = .ok (.invokevirtual 53, 3) := dk_182 0 53 (dk_at dksX3_sum_2_1 7 rfl rfl)
theorem dX3_sum_2_32 : decode cX3_sum_2 32 = .ok (.ifCond .eq 11, 3) := dk_153 0 11 (dk_at dksX3_sum_2_1 10 rfl rfl)
theorem dX3_sum_2_35 : decode cX3_sum_2 35 = .ok (.aload 4, 2) := dk_25 4 (dk_at dksX3_sum_2_1 13 rfl rfl)
theorem dX3_sum_2_37 : decode cX3_sum_2 37 = .ok (.iload_n 1, 1) := dk_27 (dk_at dksX3_sum_2_1 15 rfl rfl)
theorem dX3_sum_2_38 : decode cX3_sum_2 38 = .ok (.iaload, 1) := dk_46 (dk_at dksX3_sum_2_1 16 rfl rfl)
theorem dX3_sum_2_39 : decode cX3_sum_2 39 = .ok (.i2l, 1) := dk_133 (dk_at dksX3_sum_2_1 17 rfl rfl)
theorem dX3_sum_2_40 : decode cX3_sum_2 40 = .ok (.goto 4, 3) := dk_167 0 4 (dk_at dksX3_sum_2_1 18 rfl rfl)
theorem dX3_sum_2_43 : decode cX3_sum_2 43 = .ok (.lconst 0, 1) := dk_9 (dk_at dksX3_sum_2_1 21 rfl rfl)
theorem dX3_sum_2_44 : decode cX3_sum_2 44 = .ok (.ladd, 1) := dk_97 (dk_at dksX3_sum_2_1 22 rfl rfl)
theorem dX3_sum_2_45 : decode cX3_sum_2 45 = .ok (.lstore_n 2, 1) := dk_65 (dk_at dksX3_sum_2_1 23 rfl rfl)
theorem dX3_sum_2_46 : decode cX3_sum_2 46 = .ok (.iinc 5 1, 3) := dk_132 5 1 (dk_at dksX3_sum_2_2 0 rfl rfl)
theorem dX3_sum_2_49 : decode cX3_sum_2 49 = .ok (.goto (-39), 3) := dk_167 255 217 (dk_at dksX3_sum_2_2 3 rfl rfl)
theorem dX3_sum_2_52 : decode cX3_sum_2 52 = .ok (.lload_n 2, 1) := dk_32 (dk_at dksX3_sum_2_2 6 rfl rfl)
theorem dX3_sum_2_53 : decode cX3_sum_2 53 = .ok (.lreturn, 1) := dk_173 (dk_at dksX3_sum_2_2 7 rfl rfl)
theorem q97 : (Jvm.Cond.initialized "FerryClocks$Zone") ∈ lw_all := lw_g (lw_at lw_m1 6 rfl) rfl
theorem q168 : (Jvm.Cond.instantiable "FerryClocks$Zone" (1 : Nat)) ∈ lw_all := lw_g (lw_at lw_m1 77 rfl) rfl
theorem q170 : (Jvm.Cond.instanceMethod ({ cls := "FerryClocks$Zone", name := "<init>", desc := "()V" } : Jvm.MethodName)) ∈ lw_all := lw_g (lw_at lw_m1 79 rfl) rfl
theorem q171 : (Jvm.Cond.code ({ cls := "FerryClocks$Zone", name := "<init>", desc := "()V" } : Jvm.MethodName) prog_7_method_1_code (3 : Nat) (Option.none : Option Jvm.ClassFile.FieldType)) ∈ lw_all := lw_g (lw_at lw_m1 80 rfl) rfl
theorem q172 : (Jvm.Cond.methodLink "FerryClocks$Zone" (3 : Nat) ({ cls := "java/lang/Object", name := "<init>", desc := "()V" } : Jvm.MethodName)) ∈ lw_all := lw_g (lw_at lw_m1 81 rfl) rfl
theorem q173 : (Jvm.Cond.methodLink "FerryClocks$Zone" (15 : Nat) ({ cls := "FerryClocks$Zone", name := "plain", desc := "(I)I" } : Jvm.MethodName)) ∈ lw_all := lw_g (lw_at lw_m1 82 rfl) rfl
theorem q174 : (Jvm.Cond.static ({ cls := "FerryClocks$Zone", name := "plain", desc := "(I)I" } : Jvm.MethodName)) ∈ lw_all := lw_g (lw_at lw_m1 83 rfl) rfl
theorem q175 : (Jvm.Cond.code ({ cls := "FerryClocks$Zone", name := "plain", desc := "(I)I" } : Jvm.MethodName) prog_7_method_3_code (1 : Nat) (Option.some Jvm.ClassFile.FieldType.int)) ∈ lw_all := lw_g (lw_at lw_m1 84 rfl) rfl
theorem q176 : (Jvm.Cond.fieldLink "FerryClocks$Zone" (9 : Nat) "FerryClocks$Zone" "bounds" "[I") ∈ lw_all := lw_g (lw_at lw_m1 85 rfl) rfl
theorem q179 : (Jvm.Cond.laysFinal "FerryClocks$Zone" "FerryClocks$Zone" "bounds" "[I") ∈ lw_all := lw_g (lw_at lw_m1 88 rfl) rfl
theorem q180 : (Jvm.Cond.soleField "FerryClocks$Zone" "bounds") ∈ lw_all := lw_g (lw_at lw_m1 89 rfl) rfl
theorem q181 : (Jvm.Cond.superclass "FerryClocks$Zone" "java/lang/Object") ∈ lw_all := lw_g (lw_at lw_m1 90 rfl) rfl
theorem q375 : (Jvm.Cond.selects "FerryClocks$Zone" ({ cls := "java/lang/Object", name := "getClass", desc := "()Ljava/lang/Class;" } : Jvm.MethodName) ({ cls := "java/lang/Object", name := "getClass", desc := "()Ljava/lang/Class;" } : Jvm.MethodName)) ∈ lw_all := lw_g (lw_at lw_m2 44 rfl) rfl
theorem q399 : (Jvm.Cond.instanceMethod ({ cls := "FerryClocks$Zone", name := "<init>", desc := "(LFerryClocks$Zone;)V" } : Jvm.MethodName)) ∈ lw_all := lw_g (lw_at lw_m2 68 rfl) rfl
theorem q400 : (Jvm.Cond.code ({ cls := "FerryClocks$Zone", name := "<init>", desc := "(LFerryClocks$Zone;)V" } : Jvm.MethodName) prog_7_method_2_code (2 : Nat) (Option.none : Option Jvm.ClassFile.FieldType)) ∈ lw_all := lw_g (lw_at lw_m2 69 rfl) rfl
theorem q401 : (Jvm.Cond.methodLink "FerryClocks$Zone" (19 : Nat) ({ cls := "[I", name := "clone", desc := "()Ljava/lang/Object;" } : Jvm.MethodName)) ∈ lw_all := lw_g (lw_at lw_m2 70 rfl) rfl
theorem q402 : (Jvm.Cond.classLink "FerryClocks$Zone" (20 : Nat) "[I") ∈ lw_all := lw_g (lw_at lw_m2 71 rfl) rfl
theorem q491 : (Jvm.Cond.instanceMethod ({ cls := "FerryClocks$Zone", name := "tells", desc := "(III)V" } : Jvm.MethodName)) ∈ lw_all := lw_g (lw_at lw_m2 160 rfl) rfl
theorem q492 : (Jvm.Cond.selects "FerryClocks$Zone" ({ cls := "FerryClocks$Zone", name := "tells", desc := "(III)V" } : Jvm.MethodName) ({ cls := "FerryClocks$Zone", name := "tells", desc := "(III)V" } : Jvm.MethodName)) ∈ lw_all := lw_g (lw_at lw_m2 161 rfl) rfl
theorem q493 : (Jvm.Cond.code ({ cls := "FerryClocks$Zone", name := "tells", desc := "(III)V" } : Jvm.MethodName) prog_7_method_25_code (4 : Nat) (Option.none : Option Jvm.ClassFile.FieldType)) ∈ lw_all := lw_g (lw_at lw_m2 162 rfl) rfl
theorem q494 : (Jvm.Cond.methodLink "FerryClocks$Zone" (30 : Nat) ({ cls := "FerryClocks$Zone", name := "at", desc := "(II)I" } : Jvm.MethodName)) ∈ lw_all := lw_g (lw_at lw_m2 163 rfl) rfl
theorem q495 : (Jvm.Cond.instanceMethod ({ cls := "FerryClocks$Zone", name := "at", desc := "(II)I" } : Jvm.MethodName)) ∈ lw_all := lw_g (lw_at lw_m2 164 rfl) rfl
theorem q496 : (Jvm.Cond.selects "FerryClocks$Zone" ({ cls := "FerryClocks$Zone", name := "at", desc := "(II)I" } : Jvm.MethodName) ({ cls := "FerryClocks$Zone", name := "at", desc := "(II)I" } : Jvm.MethodName)) ∈ lw_all := lw_g (lw_at lw_m2 165 rfl) rfl
theorem q497 : (Jvm.Cond.code ({ cls := "FerryClocks$Zone", name := "at", desc := "(II)I" } : Jvm.MethodName) prog_7_method_4_code (3 : Nat) (Option.some Jvm.ClassFile.FieldType.int)) ∈ lw_all := lw_g (lw_at lw_m2 166 rfl) rfl
theorem q498 : (Jvm.Cond.methodLink "FerryClocks$Zone" (60 : Nat) ({ cls := "java/lang/Math", name := "min", desc := "(II)I" } : Jvm.MethodName)) ∈ lw_all := lw_g (lw_at lw_m2 167 rfl) rfl
theorem q499 : (Jvm.Cond.methodLink "FerryClocks$Zone" (57 : Nat) ({ cls := "FerryClocks$Zone", name := "sets", desc := "(III)V" } : Jvm.MethodName)) ∈ lw_all := lw_g (lw_at lw_m2 168 rfl) rfl
theorem q500 : (Jvm.Cond.instanceMethod ({ cls := "FerryClocks$Zone", name := "sets", desc := "(III)V" } : Jvm.MethodName)) ∈ lw_all := lw_g (lw_at lw_m2 169 rfl) rfl
theorem q501 : (Jvm.Cond.selects "FerryClocks$Zone" ({ cls := "FerryClocks$Zone", name := "sets", desc := "(III)V" } : Jvm.MethodName) ({ cls := "FerryClocks$Zone", name := "sets", desc := "(III)V" } : Jvm.MethodName)) ∈ lw_all := lw_g (lw_at lw_m2 170 rfl) rfl
theorem q502 : (Jvm.Cond.code ({ cls := "FerryClocks$Zone", name := "sets", desc := "(III)V" } : Jvm.MethodName) prog_7_method_5_code (4 : Nat) (Option.none : Option Jvm.ClassFile.FieldType)) ∈ lw_all := lw_g (lw_at lw_m2 171 rfl) rfl
theorem q508 : (Jvm.Cond.instanceMethod ({ cls := "FerryClocks$Zone", name := "tight", desc := "()LFerryClocks$Zone;" } : Jvm.MethodName)) ∈ lw_all := lw_g (lw_at lw_m2 177 rfl) rfl
theorem q509 : (Jvm.Cond.selects "FerryClocks$Zone" ({ cls := "FerryClocks$Zone", name := "tight", desc := "()LFerryClocks$Zone;" } : Jvm.MethodName) ({ cls := "FerryClocks$Zone", name := "tight", desc := "()LFerryClocks$Zone;" } : Jvm.MethodName)) ∈ lw_all := lw_g (lw_at lw_m2 178 rfl) rfl
theorem q510 : (Jvm.Cond.code ({ cls := "FerryClocks$Zone", name := "tight", desc := "()LFerryClocks$Zone;" } : Jvm.MethodName) prog_7_method_7_code (2 : Nat) (Option.some (Jvm.ClassFile.FieldType.object "FerryClocks$Zone"))) ∈ lw_all := lw_g (lw_at lw_m2 179 rfl) rfl
theorem q511 : (Jvm.Cond.classLink "FerryClocks$Zone" (10 : Nat) "FerryClocks$Zone") ∈ lw_all := lw_g (lw_at lw_m2 180 rfl) rfl
theorem q512 : (Jvm.Cond.methodLink "FerryClocks$Zone" (24 : Nat) ({ cls := "FerryClocks$Zone", name := "<init>", desc := "(LFerryClocks$Zone;)V" } : Jvm.MethodName)) ∈ lw_all := lw_g (lw_at lw_m2 181 rfl) rfl
theorem q513 : (Jvm.Cond.methodLink "FerryClocks$Zone" (27 : Nat) ({ cls := "FerryClocks$Zone", name := "tightens", desc := "()V" } : Jvm.MethodName)) ∈ lw_all := lw_g (lw_at lw_m2 182 rfl) rfl
theorem q514 : (Jvm.Cond.instanceMethod ({ cls := "FerryClocks$Zone", name := "tightens", desc := "()V" } : Jvm.MethodName)) ∈ lw_all := lw_g (lw_at lw_m2 183 rfl) rfl
theorem q515 : (Jvm.Cond.selects "FerryClocks$Zone" ({ cls := "FerryClocks$Zone", name := "tightens", desc := "()V" } : Jvm.MethodName) ({ cls := "FerryClocks$Zone", name := "tightens", desc := "()V" } : Jvm.MethodName)) ∈ lw_all := lw_g (lw_at lw_m2 184 rfl) rfl
theorem q516 : (Jvm.Cond.code ({ cls := "FerryClocks$Zone", name := "tightens", desc := "()V" } : Jvm.MethodName) prog_7_method_8_code (4 : Nat) (Option.none : Option Jvm.ClassFile.FieldType)) ∈ lw_all := lw_g (lw_at lw_m2 185 rfl) rfl
theorem q517 : (Jvm.Cond.methodLink "FerryClocks$Zone" (34 : Nat) ({ cls := "FerryClocks$Zone", name := "sum", desc := "(II)I" } : Jvm.MethodName)) ∈ lw_all := lw_g (lw_at lw_m2 186 rfl) rfl
theorem q518 : (Jvm.Cond.static ({ cls := "FerryClocks$Zone", name := "sum", desc := "(II)I" } : Jvm.MethodName)) ∈ lw_all := lw_g (lw_at lw_m2 187 rfl) rfl
theorem q519 : (Jvm.Cond.code ({ cls := "FerryClocks$Zone", name := "sum", desc := "(II)I" } : Jvm.MethodName) prog_7_method_6_code (2 : Nat) (Option.some Jvm.ClassFile.FieldType.int)) ∈ lw_all := lw_g (lw_at lw_m2 188 rfl) rfl
theorem q520 : (Jvm.Cond.methodLink "FerryClocks$Zone" (37 : Nat) ({ cls := "FerryClocks$Zone", name := "tells", desc := "(III)V" } : Jvm.MethodName)) ∈ lw_all := lw_g (lw_at lw_m2 189 rfl) rfl
theorem q522 : (Jvm.Cond.instanceMethod ({ cls := "FerryClocks$Zone", name := "hasNone", desc := "()Z" } : Jvm.MethodName)) ∈ lw_all := lw_g (lw_at lw_m2 191 rfl) rfl
theorem q523 : (Jvm.Cond.selects "FerryClocks$Zone" ({ cls := "FerryClocks$Zone", name := "hasNone", desc := "()Z" } : Jvm.MethodName) ({ cls := "FerryClocks$Zone", name := "hasNone", desc := "()Z" } : Jvm.MethodName)) ∈ lw_all := lw_g (lw_at lw_m2 192 rfl) rfl
theorem q524 : (Jvm.Cond.code ({ cls := "FerryClocks$Zone", name := "hasNone", desc := "()Z" } : Jvm.MethodName) prog_7_method_9_code (3 : Nat) (Option.some Jvm.ClassFile.FieldType.boolean)) ∈ lw_all := lw_g (lw_at lw_m2 193 rfl) rfl
theorem q526 : (Jvm.Cond.instanceMethod ({ cls := "FerryClocks$Zone", name := "isTooFar", desc := "()Z" } : Jvm.MethodName)) ∈ lw_all := lw_g (lw_at lw_m2 195 rfl) rfl
theorem q527 : (Jvm.Cond.selects "FerryClocks$Zone" ({ cls := "FerryClocks$Zone", name := "isTooFar", desc := "()Z" } : Jvm.MethodName) ({ cls := "FerryClocks$Zone", name := "isTooFar", desc := "()Z" } : Jvm.MethodName)) ∈ lw_all := lw_g (lw_at lw_m2 196 rfl) rfl
theorem q528 : (Jvm.Cond.code ({ cls := "FerryClocks$Zone", name := "isTooFar", desc := "()Z" } : Jvm.MethodName) prog_7_method_17_code (3 : Nat) (Option.some Jvm.ClassFile.FieldType.boolean)) ∈ lw_all := lw_g (lw_at lw_m2 197 rfl) rfl
theorem q530 : (Jvm.Cond.instanceMethod ({ cls := "FerryClocks$Zone", name := "isTooGreat", desc := "()Z" } : Jvm.MethodName)) ∈ lw_all := lw_g (lw_at lw_m2 199 rfl) rfl
theorem q531 : (Jvm.Cond.selects "FerryClocks$Zone" ({ cls := "FerryClocks$Zone", name := "isTooGreat", desc := "()Z" } : Jvm.MethodName) ({ cls := "FerryClocks$Zone", name := "isTooGreat", desc := "()Z" } : Jvm.MethodName)) ∈ lw_all := lw_g (lw_at lw_m2 200 rfl) rfl
theorem q532 : (Jvm.Cond.code ({ cls := "FerryClocks$Zone", name := "isTooGreat", desc := "()Z" } : Jvm.MethodName) prog_7_method_18_code (3 : Nat) (Option.some Jvm.ClassFile.FieldType.boolean)) ∈ lw_all := lw_g (lw_at lw_m2 201 rfl) rfl
theorem q534 : (Jvm.Cond.instanceMethod ({ cls := "FerryClocks$Zone", name := "unlike", desc := "(LFerryClocks$Zone;)I" } : Jvm.MethodName)) ∈ lw_all := lw_g (lw_at lw_m2 203 rfl) rfl
theorem q535 : (Jvm.Cond.selects "FerryClocks$Zone" ({ cls := "FerryClocks$Zone", name := "unlike", desc := "(LFerryClocks$Zone;)I" } : Jvm.MethodName) ({ cls := "FerryClocks$Zone", name := "unlike", desc := "(LFerryClocks$Zone;)I" } : Jvm.MethodName)) ∈ lw_all := lw_g (lw_at lw_m2 204 rfl) rfl
theorem q536 : (Jvm.Cond.code ({ cls := "FerryClocks$Zone", name := "unlike", desc := "(LFerryClocks$Zone;)I" } : Jvm.MethodName) prog_7_method_12_code (4 : Nat) (Option.some Jvm.ClassFile.FieldType.int)) ∈ lw_all := lw_g (lw_at lw_m2 205 rfl) rfl
theorem q565 : (Jvm.Cond.instanceMethod ({ cls := "FerryClocks$Zone", name := "resets", desc := "(II)V" } : Jvm.MethodName)) ∈ lw_all := lw_g (lw_at lw_m2 234 rfl) rfl
theorem q566 : (Jvm.Cond.selects "FerryClocks$Zone" ({ cls := "FerryClocks$Zone", name := "resets", desc := "(II)V" } : Jvm.MethodName) ({ cls := "FerryClocks$Zone", name := "resets", desc := "(II)V" } : Jvm.MethodName)) ∈ lw_all := lw_g (lw_at lw_m2 235 rfl) rfl
theorem q567 : (Jvm.Cond.code ({ cls := "FerryClocks$Zone", name := "resets", desc := "(II)V" } : Jvm.MethodName) prog_7_method_19_code (4 : Nat) (Option.none : Option Jvm.ClassFile.FieldType)) ∈ lw_all := lw_g (lw_at lw_m2 236 rfl) rfl
theorem q577 : (Jvm.Cond.instanceMethod ({ cls := "FerryClocks$Zone", name := "delays", desc := "()I" } : Jvm.MethodName)) ∈ lw_all := lw_g (lw_at lw_m3 6 rfl) rfl
theorem q578 : (Jvm.Cond.selects "FerryClocks$Zone" ({ cls := "FerryClocks$Zone", name := "delays", desc := "()I" } : Jvm.MethodName) ({ cls := "FerryClocks$Zone", name := "delays", desc := "()I" } : Jvm.MethodName)) ∈ lw_all := lw_g (lw_at lw_m3 7 rfl) rfl
theorem q579 : (Jvm.Cond.code ({ cls := "FerryClocks$Zone", name := "delays", desc := "()I" } : Jvm.MethodName) prog_7_method_20_code (3 : Nat) (Option.some Jvm.ClassFile.FieldType.int)) ∈ lw_all := lw_g (lw_at lw_m3 8 rfl) rfl
theorem q585 : (Jvm.Cond.instanceMethod ({ cls := "FerryClocks$Zone", name := "goesBack", desc := "()V" } : Jvm.MethodName)) ∈ lw_all := lw_g (lw_at lw_m3 14 rfl) rfl
theorem q586 : (Jvm.Cond.selects "FerryClocks$Zone" ({ cls := "FerryClocks$Zone", name := "goesBack", desc := "()V" } : Jvm.MethodName) ({ cls := "FerryClocks$Zone", name := "goesBack", desc := "()V" } : Jvm.MethodName)) ∈ lw_all := lw_g (lw_at lw_m3 15 rfl) rfl
theorem q587 : (Jvm.Cond.code ({ cls := "FerryClocks$Zone", name := "goesBack", desc := "()V" } : Jvm.MethodName) prog_7_method_21_code (4 : Nat) (Option.none : Option Jvm.ClassFile.FieldType)) ∈ lw_all := lw_g (lw_at lw_m3 16 rfl) rfl
theorem q593 : (Jvm.Cond.instanceMethod ({ cls := "FerryClocks$Zone", name := "frees", desc := "(I)V" } : Jvm.MethodName)) ∈ lw_all := lw_g (lw_at lw_m3 22 rfl) rfl
theorem q594 : (Jvm.Cond.selects "FerryClocks$Zone" ({ cls := "FerryClocks$Zone", name := "frees", desc := "(I)V" } : Jvm.MethodName) ({ cls := "FerryClocks$Zone", name := "frees", desc := "(I)V" } : Jvm.MethodName)) ∈ lw_all := lw_g (lw_at lw_m3 23 rfl) rfl
theorem q595 : (Jvm.Cond.code ({ cls := "FerryClocks$Zone", name := "frees", desc := "(I)V" } : Jvm.MethodName) prog_7_method_22_code (3 : Nat) (Option.none : Option Jvm.ClassFile.FieldType)) ∈ lw_all := lw_g (lw_at lw_m3 24 rfl) rfl
theorem q601 : (Jvm.Cond.instanceMethod ({ cls := "FerryClocks$Zone", name := "copies", desc := "(II)V" } : Jvm.MethodName)) ∈ lw_all := lw_g (lw_at lw_m3 30 rfl) rfl
theorem q602 : (Jvm.Cond.selects "FerryClocks$Zone" ({ cls := "FerryClocks$Zone", name := "copies", desc := "(II)V" } : Jvm.MethodName) ({ cls := "FerryClocks$Zone", name := "copies", desc := "(II)V" } : Jvm.MethodName)) ∈ lw_all := lw_g (lw_at lw_m3 31 rfl) rfl
theorem q603 : (Jvm.Cond.code ({ cls := "FerryClocks$Zone", name := "copies", desc := "(II)V" } : Jvm.MethodName) prog_7_method_23_code (4 : Nat) (Option.none : Option Jvm.ClassFile.FieldType)) ∈ lw_all := lw_g (lw_at lw_m3 32 rfl) rfl
theorem q609 : (Jvm.Cond.instanceMethod ({ cls := "FerryClocks$Zone", name := "shifts", desc := "(II)V" } : Jvm.MethodName)) ∈ lw_all := lw_g (lw_at lw_m3 38 rfl) rfl
theorem q610 : (Jvm.Cond.selects "FerryClocks$Zone" ({ cls := "FerryClocks$Zone", name := "shifts", desc := "(II)V" } : Jvm.MethodName) ({ cls := "FerryClocks$Zone", name := "shifts", desc := "(II)V" } : Jvm.MethodName)) ∈ lw_all := lw_g (lw_at lw_m3 39 rfl) rfl
theorem q611 : (Jvm.Cond.code ({ cls := "FerryClocks$Zone", name := "shifts", desc := "(II)V" } : Jvm.MethodName) prog_7_method_24_code (4 : Nat) (Option.none : Option Jvm.ClassFile.FieldType)) ∈ lw_all := lw_g (lw_at lw_m3 40 rfl) rfl
theorem q786 : (Jvm.Cond.instanceMethod ({ cls := "FerryClocks$Zone", name := "isVoid", desc := "()Z" } : Jvm.MethodName)) ∈ lw_all := lw_g (lw_at lw_m3 215 rfl) rfl
theorem q787 : (Jvm.Cond.selects "FerryClocks$Zone" ({ cls := "FerryClocks$Zone", name := "isVoid", desc := "()Z" } : Jvm.MethodName) ({ cls := "FerryClocks$Zone", name := "isVoid", desc := "()Z" } : Jvm.MethodName)) ∈ lw_all := lw_g (lw_at lw_m3 216 rfl) rfl
theorem q788 : (Jvm.Cond.code ({ cls := "FerryClocks$Zone", name := "isVoid", desc := "()Z" } : Jvm.MethodName) prog_7_method_10_code (1 : Nat) (Option.some Jvm.ClassFile.FieldType.boolean)) ∈ lw_all := lw_g (lw_at lw_m3 217 rfl) rfl
theorem q789 : (Jvm.Cond.methodLink "FerryClocks$Zone" (41 : Nat) ({ cls := "FerryClocks$Zone", name := "tight", desc := "()LFerryClocks$Zone;" } : Jvm.MethodName)) ∈ lw_all := lw_g (lw_at lw_m3 218 rfl) rfl
theorem q790 : (Jvm.Cond.methodLink "FerryClocks$Zone" (45 : Nat) ({ cls := "FerryClocks$Zone", name := "hasNone", desc := "()Z" } : Jvm.MethodName)) ∈ lw_all := lw_g (lw_at lw_m3 219 rfl) rfl
theorem q796 : (Jvm.Cond.instanceMethod ({ cls := "FerryClocks$Zone", name := "count", desc := "(LFerryClocks$Zone;)I" } : Jvm.MethodName)) ∈ lw_all := lw_g (lw_at lw_m3 225 rfl) rfl
theorem q797 : (Jvm.Cond.selects "FerryClocks$Zone" ({ cls := "FerryClocks$Zone", name := "count", desc := "(LFerryClocks$Zone;)I" } : Jvm.MethodName) ({ cls := "FerryClocks$Zone", name := "count", desc := "(LFerryClocks$Zone;)I" } : Jvm.MethodName)) ∈ lw_all := lw_g (lw_at lw_m3 226 rfl) rfl
theorem q798 : (Jvm.Cond.code ({ cls := "FerryClocks$Zone", name := "count", desc := "(LFerryClocks$Zone;)I" } : Jvm.MethodName) prog_7_method_13_code (5 : Nat) (Option.some Jvm.ClassFile.FieldType.int)) ∈ lw_all := lw_g (lw_at lw_m3 227 rfl) rfl
theorem q799 : (Jvm.Cond.methodLink "FerryClocks$Zone" (49 : Nat) ({ cls := "FerryClocks$Zone", name := "decodes", desc := "(I[I)V" } : Jvm.MethodName)) ∈ lw_all := lw_g (lw_at lw_m3 228 rfl) rfl
theorem q800 : (Jvm.Cond.static ({ cls := "FerryClocks$Zone", name := "decodes", desc := "(I[I)V" } : Jvm.MethodName)) ∈ lw_all := lw_g (lw_at lw_m3 229 rfl) rfl
theorem q801 : (Jvm.Cond.code ({ cls := "FerryClocks$Zone", name := "decodes", desc := "(I[I)V" } : Jvm.MethodName) prog_7_method_14_code (4 : Nat) (Option.none : Option Jvm.ClassFile.FieldType)) ∈ lw_all := lw_g (lw_at lw_m3 230 rfl) rfl
theorem q802 : (Jvm.Cond.methodLink "FerryClocks$Zone" (53 : Nat) ({ cls := "FerryClocks$Zone", name := "has", desc := "([I)Z" } : Jvm.MethodName)) ∈ lw_all := lw_g (lw_at lw_m3 231 rfl) rfl
theorem q803 : (Jvm.Cond.instanceMethod ({ cls := "FerryClocks$Zone", name := "has", desc := "([I)Z" } : Jvm.MethodName)) ∈ lw_all := lw_g (lw_at lw_m3 232 rfl) rfl
theorem q804 : (Jvm.Cond.selects "FerryClocks$Zone" ({ cls := "FerryClocks$Zone", name := "has", desc := "([I)Z" } : Jvm.MethodName) ({ cls := "FerryClocks$Zone", name := "has", desc := "([I)Z" } : Jvm.MethodName)) ∈ lw_all := lw_g (lw_at lw_m3 233 rfl) rfl
theorem q805 : (Jvm.Cond.code ({ cls := "FerryClocks$Zone", name := "has", desc := "([I)Z" } : Jvm.MethodName) prog_7_method_11_code (6 : Nat) (Option.some Jvm.ClassFile.FieldType.boolean)) ∈ lw_all := lw_g (lw_at lw_m3 234 rfl) rfl
theorem q1351 : (Jvm.Cond.instanceMethod ({ cls := "FerryClocks$Zone", name := "isInside", desc := "(LFerryClocks$Zone;)Z" } : Jvm.MethodName)) ∈ lw_all := lw_g (lw_at lw_m6 60 rfl) rfl
theorem q1352 : (Jvm.Cond.selects "FerryClocks$Zone" ({ cls := "FerryClocks$Zone", name := "isInside", desc := "(LFerryClocks$Zone;)Z" } : Jvm.MethodName) ({ cls := "FerryClocks$Zone", name := "isInside", desc := "(LFerryClocks$Zone;)Z" } : Jvm.MethodName)) ∈ lw_all := lw_g (lw_at lw_m6 61 rfl) rfl
theorem q1353 : (Jvm.Cond.code ({ cls := "FerryClocks$Zone", name := "isInside", desc := "(LFerryClocks$Zone;)Z" } : Jvm.MethodName) prog_7_method_16_code (4 : Nat) (Option.some Jvm.ClassFile.FieldType.boolean)) ∈ lw_all := lw_g (lw_at lw_m6 62 rfl) rfl
theorem q1435 : (Jvm.Cond.instanceMethod ({ cls := "FerryClocks$Zone", name := "widens", desc := "()V" } : Jvm.MethodName)) ∈ lw_all := lw_g (lw_at lw_m6 144 rfl) rfl
theorem q1436 : (Jvm.Cond.selects "FerryClocks$Zone" ({ cls := "FerryClocks$Zone", name := "widens", desc := "()V" } : Jvm.MethodName) ({ cls := "FerryClocks$Zone", name := "widens", desc := "()V" } : Jvm.MethodName)) ∈ lw_all := lw_g (lw_at lw_m6 145 rfl) rfl
theorem q1437 : (Jvm.Cond.code ({ cls := "FerryClocks$Zone", name := "widens", desc := "()V" } : Jvm.MethodName) prog_7_method_26_code (3 : Nat) (Option.none : Option Jvm.ClassFile.FieldType)) ∈ lw_all := lw_g (lw_at lw_m6 146 rfl) rfl
theorem q1438 : (Jvm.Cond.methodLink "FerryClocks$Zone" (65 : Nat) ({ cls := "java/lang/Math", name := "max", desc := "(II)I" } : Jvm.MethodName)) ∈ lw_all := lw_g (lw_at lw_m6 147 rfl) rfl
theorem q1520 : (Jvm.Cond.instanceMethod ({ cls := "FerryClocks$Zone", name := "sum", desc := "(I)J" } : Jvm.MethodName)) ∈ lw_all := lw_g (lw_at lw_m6 229 rfl) rfl
theorem q1521 : (Jvm.Cond.selects "FerryClocks$Zone" ({ cls := "FerryClocks$Zone", name := "sum", desc := "(I)J" } : Jvm.MethodName) ({ cls := "FerryClocks$Zone", name := "sum", desc := "(I)J" } : Jvm.MethodName)) ∈ lw_all := lw_g (lw_at lw_m6 230 rfl) rfl
theorem q1522 : (Jvm.Cond.code ({ cls := "FerryClocks$Zone", name := "sum", desc := "(I)J" } : Jvm.MethodName) prog_7_method_15_code (6 : Nat) (Option.some Jvm.ClassFile.FieldType.long)) ∈ lw_all := lw_g (lw_at lw_m6 231 rfl) rfl
theorem q2403 : (Jvm.Cond.castable "FerryClocks$Zone" "java/lang/Object") ∈ lw_tbl := lw_at lw_m10 152 rfl
theorem in_X3 : ∀ w ∈ wsX30, w ∈ lw_all := lw_in wsX30 [179] (by decide +kernel) (by decide +kernel)
/-! FerryClocks$Line -/
set_option maxRecDepth 100000
def RX5 : String := "FerryClocks$Line"
def TX5 : u_T := fun k => match k with
  | 0 => ("FerryClocks$Line", "from", "I", true)
  | 1 => ("FerryClocks$Line", "to", "I", true)
  | 2 => ("FerryClocks$Line", "least", "[I", true)
  | 3 => ("FerryClocks$Line", "most", "[I", true)
  | _ => ("FerryClocks$Line", "resets", "I", false)
def tyX5 : Nat → FieldType := fun k => match k with
  | 0 => .int
  | 1 => .int
  | 2 => .array .int
  | 3 => .array .int
  | _ => .int
abbrev wsX50 : List Cond := u_ws RX5 TX5 5
theorem nmX5 : ∀ a, a < 5 → ∀ b, b < 5 → a ≠ b → (TX5 a).2.1 ≠ (TX5 b).2.1 := by decide +kernel
theorem tyX5_ok : ∀ k, k < 5 → parseFieldDescriptor (TX5 k).2.2.1 = some (tyX5 k) := by decide +kernel
abbrev cX5_init : ByteArray := prog_3_method_2_code
def yX5_init : MethodName := ⟨RX5, "<init>", "(LFerryClocks$Line;)V"⟩
def dkwX5_init_2 : List UInt8 := [181, 0, 22, 42, 43, 180, 0, 30, 181, 0, 30, 177]
abbrev dktX5_init_2 : List UInt8 := dkwX5_init_2 ++ []
def dkwX5_init_1 : List UInt8 := [180, 0, 18, 182, 0, 25, 192, 0, 26, 181, 0, 18, 42, 43, 180, 0, 22, 182, 0, 25, 192, 0, 26]
abbrev dktX5_init_1 : List UInt8 := dkwX5_init_1 ++ dktX5_init_2
def dkwX5_init_0 : List UInt8 := [42, 183, 0, 3, 42, 43, 180, 0, 9, 181, 0, 9, 42, 43, 180, 0, 15, 181, 0, 15, 42, 43]
abbrev dktX5_init_0 : List UInt8 := dkwX5_init_0 ++ dktX5_init_1
theorem dksX5_init_0 : cX5_init.data.toList.drop 0 = dktX5_init_0 := by decide +kernel
theorem dksX5_init_1 : cX5_init.data.toList.drop 22 = dktX5_init_1 := dk_seg dksX5_init_0 22 rfl rfl
theorem dksX5_init_2 : cX5_init.data.toList.drop 45 = dktX5_init_2 := dk_seg dksX5_init_1 23 rfl rfl
theorem dX5_init_0 : decode cX5_init 0 = .ok (.aload_n 0, 1) := dk_42 (dk_at dksX5_init_0 0 rfl rfl)
theorem dX5_init_1 : decode cX5_init 1 = .ok (.invokespecial 3, 3) := dk_183 0 3 (dk_at dksX5_init_0 1 rfl rfl)
theorem dX5_init_4 : decode cX5_init 4 = .ok (.aload_n 0, 1) := dk_42 (dk_at dksX5_init_0 4 rfl rfl)
theorem dX5_init_5 : decode cX5_init 5 = .ok (.aload_n 1, 1) := dk_43 (dk_at dksX5_init_0 5 rfl rfl)
theorem dX5_init_6 : decode cX5_init 6 = .ok (.getfield 9, 3) := dk_180 0 9 (dk_at dksX5_init_0 6 rfl rfl)
theorem dX5_init_9 : decode cX5_init 9 = .ok (.putfield 9, 3) := dk_181 0 9 (dk_at dksX5_init_0 9 rfl rfl)
theorem dX5_init_12 : decode cX5_init 12 = .ok (.aload_n 0, 1) := dk_42 (dk_at dksX5_init_0 12 rfl rfl)
theorem dX5_init_13 : decode cX5_init 13 = .ok (.aload_n 1, 1) := dk_43 (dk_at dksX5_init_0 13 rfl rfl)
theorem dX5_init_14 : decode cX5_init 14 = .ok (.getfield 15, 3) := dk_180 0 15 (dk_at dksX5_init_0 14 rfl rfl)
theorem dX5_init_17 : decode cX5_init 17 = .ok (.putfield 15, 3) := dk_181 0 15 (dk_at dksX5_init_0 17 rfl rfl)
theorem dX5_init_20 : decode cX5_init 20 = .ok (.aload_n 0, 1) := dk_42 (dk_at dksX5_init_0 20 rfl rfl)
theorem dX5_init_21 : decode cX5_init 21 = .ok (.aload_n 1, 1) := dk_43 (dk_at dksX5_init_0 21 rfl rfl)
theorem dX5_init_22 : decode cX5_init 22 = .ok (.getfield 18, 3) := dk_180 0 18 (dk_at dksX5_init_1 0 rfl rfl)
theorem dX5_init_25 : decode cX5_init 25 = .ok (.invokevirtual 25, 3) := dk_182 0 25 (dk_at dksX5_init_1 3 rfl rfl)
theorem dX5_init_28 : decode cX5_init 28 = .ok (.checkcast 26, 3) := dk_192 0 26 (dk_at dksX5_init_1 6 rfl rfl)
theorem dX5_init_31 : decode cX5_init 31 = .ok (.putfield 18, 3) := dk_181 0 18 (dk_at dksX5_init_1 9 rfl rfl)
theorem dX5_init_34 : decode cX5_init 34 = .ok (.aload_n 0, 1) := dk_42 (dk_at dksX5_init_1 12 rfl rfl)
theorem dX5_init_35 : decode cX5_init 35 = .ok (.aload_n 1, 1) := dk_43 (dk_at dksX5_init_1 13 rfl rfl)
theorem dX5_init_36 : decode cX5_init 36 = .ok (.getfield 22, 3) := dk_180 0 22 (dk_at dksX5_init_1 14 rfl rfl)
theorem dX5_init_39 : decode cX5_init 39 = .ok (.invokevirtual 25, 3) := dk_182 0 25 (dk_at dksX5_init_1 17 rfl rfl)
theorem dX5_init_42 : decode cX5_init 42 = .ok (.checkcast 26, 3) := dk_192 0 26 (dk_at dksX5_init_1 20 rfl rfl)
theorem dX5_init_45 : decode cX5_init 45 = .ok (.putfield 22, 3) := dk_181 0 22 (dk_at dksX5_init_2 0 rfl rfl)
theorem dX5_init_48 : decode cX5_init 48 = .ok (.aload_n 0, 1) := dk_42 (dk_at dksX5_init_2 3 rfl rfl)
theorem dX5_init_49 : decode cX5_init 49 = .ok (.aload_n 1, 1) := dk_43 (dk_at dksX5_init_2 4 rfl rfl)
theorem dX5_init_50 : decode cX5_init 50 = .ok (.getfield 30, 3) := dk_180 0 30 (dk_at dksX5_init_2 5 rfl rfl)
theorem dX5_init_53 : decode cX5_init 53 = .ok (.putfield 30, 3) := dk_181 0 30 (dk_at dksX5_init_2 8 rfl rfl)
theorem dX5_init_56 : decode cX5_init 56 = .ok (.return_, 1) := dk_177 (dk_at dksX5_init_2 11 rfl rfl)
abbrev cX5_init_2 : ByteArray := prog_3_method_1_code
def yX5_init_2 : MethodName := ⟨RX5, "<init>", "(II)V"⟩
def dkwX5_init_2_2 : List UInt8 := [167, 255, 240, 177]
abbrev dktX5_init_2_2 : List UInt8 := dkwX5_init_2_2 ++ []
def dkwX5_init_2_1 : List UInt8 := [188, 10, 181, 0, 22, 3, 62, 29, 6, 162, 0, 17, 42, 180, 0, 22, 29, 16, 10, 79, 132, 3, 1]
abbrev dktX5_init_2_1 : List UInt8 := dkwX5_init_2_1 ++ dktX5_init_2_2
def dkwX5_init_2_0 : List UInt8 := [42, 183, 0, 3, 42, 27, 181, 0, 9, 42, 28, 181, 0, 15, 42, 6, 188, 10, 181, 0, 18, 42, 6]
abbrev dktX5_init_2_0 : List UInt8 := dkwX5_init_2_0 ++ dktX5_init_2_1
theorem dksX5_init_2_0 : cX5_init_2.data.toList.drop 0 = dktX5_init_2_0 := by decide +kernel
theorem dksX5_init_2_1 : cX5_init_2.data.toList.drop 23 = dktX5_init_2_1 := dk_seg dksX5_init_2_0 23 rfl rfl
theorem dksX5_init_2_2 : cX5_init_2.data.toList.drop 46 = dktX5_init_2_2 := dk_seg dksX5_init_2_1 23 rfl rfl
theorem dX5_init_2_0 : decode cX5_init_2 0 = .ok (.aload_n 0, 1) := dk_42 (dk_at dksX5_init_2_0 0 rfl rfl)
theorem dX5_init_2_1 : decode cX5_init_2 1 = .ok (.invokespecial 3, 3) := dk_183 0 3 (dk_at dksX5_init_2_0 1 rfl rfl)
theorem dX5_init_2_4 : decode cX5_init_2 4 = .ok (.aload_n 0, 1) := dk_42 (dk_at dksX5_init_2_0 4 rfl rfl)
theorem dX5_init_2_5 : decode cX5_init_2 5 = .ok (.iload_n 1, 1) := dk_27 (dk_at dksX5_init_2_0 5 rfl rfl)
theorem dX5_init_2_6 : decode cX5_init_2 6 = .ok (.putfield 9, 3) := dk_181 0 9 (dk_at dksX5_init_2_0 6 rfl rfl)
theorem dX5_init_2_9 : decode cX5_init_2 9 = .ok (.aload_n 0, 1) := dk_42 (dk_at dksX5_init_2_0 9 rfl rfl)
theorem dX5_init_2_10 : decode cX5_init_2 10 = .ok (.iload_n 2, 1) := dk_28 (dk_at dksX5_init_2_0 10 rfl rfl)
theorem dX5_init_2_11 : decode cX5_init_2 11 = .ok (.putfield 15, 3) := dk_181 0 15 (dk_at dksX5_init_2_0 11 rfl rfl)
theorem dX5_init_2_14 : decode cX5_init_2 14 = .ok (.aload_n 0, 1) := dk_42 (dk_at dksX5_init_2_0 14 rfl rfl)
theorem dX5_init_2_15 : decode cX5_init_2 15 = .ok (.iconst 3, 1) := dk_6 (dk_at dksX5_init_2_0 15 rfl rfl)
theorem dX5_init_2_16 : decode cX5_init_2 16 = .ok (.newarray .int, 2) := dk_188_10 (dk_at dksX5_init_2_0 16 rfl rfl)
theorem dX5_init_2_18 : decode cX5_init_2 18 = .ok (.putfield 18, 3) := dk_181 0 18 (dk_at dksX5_init_2_0 18 rfl rfl)
theorem dX5_init_2_21 : decode cX5_init_2 21 = .ok (.aload_n 0, 1) := dk_42 (dk_at dksX5_init_2_0 21 rfl rfl)
theorem dX5_init_2_22 : decode cX5_init_2 22 = .ok (.iconst 3, 1) := dk_6 (dk_at dksX5_init_2_0 22 rfl rfl)
theorem dX5_init_2_23 : decode cX5_init_2 23 = .ok (.newarray .int, 2) := dk_188_10 (dk_at dksX5_init_2_1 0 rfl rfl)
theorem dX5_init_2_25 : decode cX5_init_2 25 = .ok (.putfield 22, 3) := dk_181 0 22 (dk_at dksX5_init_2_1 2 rfl rfl)
theorem dX5_init_2_28 : decode cX5_init_2 28 = .ok (.iconst 0, 1) := dk_3 (dk_at dksX5_init_2_1 5 rfl rfl)
theorem dX5_init_2_29 : decode cX5_init_2 29 = .ok (.istore_n 3, 1) := dk_62 (dk_at dksX5_init_2_1 6 rfl rfl)
theorem dX5_init_2_30 : decode cX5_init_2 30 = .ok (.iload_n 3, 1) := dk_29 (dk_at dksX5_init_2_1 7 rfl rfl)
theorem dX5_init_2_31 : decode cX5_init_2 31 = .ok (.iconst 3, 1) := dk_6 (dk_at dksX5_init_2_1 8 rfl rfl)
theorem dX5_init_2_32 : decode cX5_init_2 32 = .ok (.if_icmp .ge 17, 3) := dk_162 0 17 (dk_at dksX5_init_2_1 9 rfl rfl)
theorem dX5_init_2_35 : decode cX5_init_2 35 = .ok (.aload_n 0, 1) := dk_42 (dk_at dksX5_init_2_1 12 rfl rfl)
theorem dX5_init_2_36 : decode cX5_init_2 36 = .ok (.getfield 22, 3) := dk_180 0 22 (dk_at dksX5_init_2_1 13 rfl rfl)
theorem dX5_init_2_39 : decode cX5_init_2 39 = .ok (.iload_n 3, 1) := dk_29 (dk_at dksX5_init_2_1 16 rfl rfl)
theorem dX5_init_2_40 : decode cX5_init_2 40 = .ok (.bipush 10, 2) := dk_16 10 (dk_at dksX5_init_2_1 17 rfl rfl)
theorem dX5_init_2_42 : decode cX5_init_2 42 = .ok (.iastore, 1) := dk_79 (dk_at dksX5_init_2_1 19 rfl rfl)
theorem dX5_init_2_43 : decode cX5_init_2 43 = .ok (.iinc 3 1, 3) := dk_132 3 1 (dk_at dksX5_init_2_1 20 rfl rfl)
theorem dX5_init_2_46 : decode cX5_init_2 46 = .ok (.goto (-16), 3) := dk_167 255 240 (dk_at dksX5_init_2_2 0 rfl rfl)
theorem dX5_init_2_49 : decode cX5_init_2 49 = .ok (.return_, 1) := dk_177 (dk_at dksX5_init_2_2 3 rfl rfl)
abbrev cX5_isReset : ByteArray := prog_3_method_3_code
def yX5_isReset : MethodName := ⟨RX5, "isReset", "(I)Z"⟩
def dkwX5_isReset_0 : List UInt8 := [42, 180, 0, 30, 27, 122, 4, 126, 4, 160, 0, 7, 4, 167, 0, 4, 3, 172]
abbrev dktX5_isReset_0 : List UInt8 := dkwX5_isReset_0 ++ []
theorem dksX5_isReset_0 : cX5_isReset.data.toList.drop 0 = dktX5_isReset_0 := by decide +kernel
theorem dX5_isReset_0 : decode cX5_isReset 0 = .ok (.aload_n 0, 1) := dk_42 (dk_at dksX5_isReset_0 0 rfl rfl)
theorem dX5_isReset_1 : decode cX5_isReset 1 = .ok (.getfield 30, 3) := dk_180 0 30 (dk_at dksX5_isReset_0 1 rfl rfl)
theorem dX5_isReset_4 : decode cX5_isReset 4 = .ok (.iload_n 1, 1) := dk_27 (dk_at dksX5_isReset_0 4 rfl rfl)
theorem dX5_isReset_5 : decode cX5_isReset 5 = .ok (.ishr, 1) := dk_122 (dk_at dksX5_isReset_0 5 rfl rfl)
theorem dX5_isReset_6 : decode cX5_isReset 6 = .ok (.iconst 1, 1) := dk_4 (dk_at dksX5_isReset_0 6 rfl rfl)
theorem dX5_isReset_7 : decode cX5_isReset 7 = .ok (.iand, 1) := dk_126 (dk_at dksX5_isReset_0 7 rfl rfl)
theorem dX5_isReset_8 : decode cX5_isReset 8 = .ok (.iconst 1, 1) := dk_4 (dk_at dksX5_isReset_0 8 rfl rfl)
theorem dX5_isReset_9 : decode cX5_isReset 9 = .ok (.if_icmp .ne 7, 3) := dk_160 0 7 (dk_at dksX5_isReset_0 9 rfl rfl)
theorem dX5_isReset_12 : decode cX5_isReset 12 = .ok (.iconst 1, 1) := dk_4 (dk_at dksX5_isReset_0 12 rfl rfl)
theorem dX5_isReset_13 : decode cX5_isReset 13 = .ok (.goto 4, 3) := dk_167 0 4 (dk_at dksX5_isReset_0 13 rfl rfl)
theorem dX5_isReset_16 : decode cX5_isReset 16 = .ok (.iconst 0, 1) := dk_3 (dk_at dksX5_isReset_0 16 rfl rfl)
theorem dX5_isReset_17 : decode cX5_isReset 17 = .ok (.ireturn, 1) := dk_172 (dk_at dksX5_isReset_0 17 rfl rfl)
abbrev cX5_canBeTaken : ByteArray := prog_3_method_4_code
def yX5_canBeTaken : MethodName := ⟨RX5, "canBeTaken", "(I)Z"⟩
def dkwX5_canBeTaken_2 : List UInt8 := [163, 0, 7, 4, 167, 0, 4, 3, 126, 61, 132, 3, 1, 167, 255, 200, 28, 172]
abbrev dktX5_canBeTaken_2 : List UInt8 := dkwX5_canBeTaken_2 ++ []
def dkwX5_canBeTaken_1 : List UInt8 := [46, 161, 0, 29, 42, 180, 0, 22, 29, 46, 16, 10, 159, 0, 14, 21, 4, 42, 180, 0, 22, 29, 46]
abbrev dktX5_canBeTaken_1 : List UInt8 := dkwX5_canBeTaken_1 ++ dktX5_canBeTaken_2
def dkwX5_canBeTaken_0 : List UInt8 := [4, 61, 3, 62, 29, 6, 162, 0, 57, 27, 29, 184, 0, 33, 54, 4, 28, 21, 4, 42, 180, 0, 18, 29]
abbrev dktX5_canBeTaken_0 : List UInt8 := dkwX5_canBeTaken_0 ++ dktX5_canBeTaken_1
theorem dksX5_canBeTaken_0 : cX5_canBeTaken.data.toList.drop 0 = dktX5_canBeTaken_0 := by decide +kernel
theorem dksX5_canBeTaken_1 : cX5_canBeTaken.data.toList.drop 24 = dktX5_canBeTaken_1 := dk_seg dksX5_canBeTaken_0 24 rfl rfl
theorem dksX5_canBeTaken_2 : cX5_canBeTaken.data.toList.drop 47 = dktX5_canBeTaken_2 := dk_seg dksX5_canBeTaken_1 23 rfl rfl
theorem dX5_canBeTaken_0 : decode cX5_canBeTaken 0 = .ok (.iconst 1, 1) := dk_4 (dk_at dksX5_canBeTaken_0 0 rfl rfl)
theorem dX5_canBeTaken_1 : decode cX5_canBeTaken 1 = .ok (.istore_n 2, 1) := dk_61 (dk_at dksX5_canBeTaken_0 1 rfl rfl)
theorem dX5_canBeTaken_2 : decode cX5_canBeTaken 2 = .ok (.iconst 0, 1) := dk_3 (dk_at dksX5_canBeTaken_0 2 rfl rfl)
theorem dX5_canBeTaken_3 : decode cX5_canBeTaken 3 = .ok (.istore_n 3, 1) := dk_62 (dk_at dksX5_canBeTaken_0 3 rfl rfl)
theorem dX5_canBeTaken_4 : decode cX5_canBeTaken 4 = .ok (.iload_n 3, 1) := dk_29 (dk_at dksX5_canBeTaken_0 4 rfl rfl)
theorem dX5_canBeTaken_5 : decode cX5_canBeTaken 5 = .ok (.iconst 3, 1) := dk_6 (dk_at dksX5_canBeTaken_0 5 rfl rfl)
theorem dX5_canBeTaken_6 : decode cX5_canBeTaken 6 = .ok (.if_icmp .ge 57, 3) := dk_162 0 57 (dk_at dksX5_canBeTaken_0 6 rfl rfl)
theorem dX5_canBeTaken_9 : decode cX5_canBeTaken 9 = .ok (.iload_n 1, 1) := dk_27 (dk_at dksX5_canBeTaken_0 9 rfl rfl)
theorem dX5_canBeTaken_10 : decode cX5_canBeTaken 10 = .ok (.iload_n 3, 1) := dk_29 (dk_at dksX5_canBeTaken_0 10 rfl rfl)
theorem dX5_canBeTaken_11 : decode cX5_canBeTaken 11 = .ok (.invokestatic 33, 3) := dk_184 0 33 (dk_at dksX5_canBeTaken_0 11 rfl rfl)
theorem dX5_canBeTaken_14 : decode cX5_canBeTaken 14 = .ok (.istore 4, 2) := dk_54 4 (dk_at dksX5_canBeTaken_0 14 rfl rfl)
theorem dX5_canBeTaken_16 : decode cX5_canBeTaken 16 = .ok (.iload_n 2, 1) := dk_28 (dk_at dksX5_canBeTaken_0 16 rfl rfl)
theorem dX5_canBeTaken_17 : decode cX5_canBeTaken 17 = .ok (.iload 4, 2) := dk_21 4 (dk_at dksX5_canBeTaken_0 17 rfl rfl)
theorem dX5_canBeTaken_19 : decode cX5_canBeTaken 19 = .ok (.aload_n 0, 1) := dk_42 (dk_at dksX5_canBeTaken_0 19 rfl rfl)
theorem dX5_canBeTaken_20 : decode cX5_canBeTaken 20 = .ok (.getfield 18, 3) := dk_180 0 18 (dk_at dksX5_canBeTaken_0 20 rfl rfl)
theorem dX5_canBeTaken_23 : decode cX5_canBeTaken 23 = .ok (.iload_n 3, 1) := dk_29 (dk_at dksX5_canBeTaken_0 23 rfl rfl)
theorem dX5_canBeTaken_24 : decode cX5_canBeTaken 24 = .ok (.iaload, 1) := dk_46 (dk_at dksX5_canBeTaken_1 0 rfl rfl)
theorem dX5_canBeTaken_25 : decode cX5_canBeTaken 25 = .ok (.if_icmp .lt 29, 3) := dk_161 0 29 (dk_at dksX5_canBeTaken_1 1 rfl rfl)
theorem dX5_canBeTaken_28 : decode cX5_canBeTaken 28 = .ok (.aload_n 0, 1) := dk_42 (dk_at dksX5_canBeTaken_1 4 rfl rfl)
theorem dX5_canBeTaken_29 : decode cX5_canBeTaken 29 = .ok (.getfield 22, 3) := dk_180 0 22 (dk_at dksX5_canBeTaken_1 5 rfl rfl)
theorem dX5_canBeTaken_32 : decode cX5_canBeTaken 32 = .ok (.iload_n 3, 1) := dk_29 (dk_at dksX5_canBeTaken_1 8 rfl rfl)
theorem dX5_canBeTaken_33 : decode cX5_canBeTaken 33 = .ok (.iaload, 1) := dk_46 (dk_at dksX5_canBeTaken_1 9 rfl rfl)
theorem dX5_canBeTaken_34 : decode cX5_canBeTaken 34 = .ok (.bipush 10, 2) := dk_16 10 (dk_at dksX5_canBeTaken_1 10 rfl rfl)
theorem dX5_canBeTaken_36 : decode cX5_canBeTaken 36 = .ok (.if_icmp .eq 14, 3) := dk_159 0 14 (dk_at dksX5_canBeTaken_1 12 rfl rfl)
theorem dX5_canBeTaken_39 : decode cX5_canBeTaken 39 = .ok (.iload 4, 2) := dk_21 4 (dk_at dksX5_canBeTaken_1 15 rfl rfl)
theorem dX5_canBeTaken_41 : decode cX5_canBeTaken 41 = .ok (.aload_n 0, 1) := dk_42 (dk_at dksX5_canBeTaken_1 17 rfl rfl)
theorem dX5_canBeTaken_42 : decode cX5_canBeTaken 42 = .ok (.getfield 22, 3) := dk_180 0 22 (dk_at dksX5_canBeTaken_1 18 rfl rfl)
theorem dX5_canBeTaken_45 : decode cX5_canBeTaken 45 = .ok (.iload_n 3, 1) := dk_29 (dk_at dksX5_canBeTaken_1 21 rfl rfl)
theorem dX5_canBeTaken_46 : decode cX5_canBeTaken 46 = .ok (.iaload, 1) := dk_46 (dk_at dksX5_canBeTaken_1 22 rfl rfl)
theorem dX5_canBeTaken_47 : decode cX5_canBeTaken 47 = .ok (.if_icmp .gt 7, 3) := dk_163 0 7 (dk_at dksX5_canBeTaken_2 0 rfl rfl)
theorem dX5_canBeTaken_50 : decode cX5_canBeTaken 50 = .ok (.iconst 1, 1) := dk_4 (dk_at dksX5_canBeTaken_2 3 rfl rfl)
theorem dX5_canBeTaken_51 : decode cX5_canBeTaken 51 = .ok (.goto 4, 3) := dk_167 0 4 (dk_at dksX5_canBeTaken_2 4 rfl rfl)
theorem dX5_canBeTaken_54 : decode cX5_canBeTaken 54 = .ok (.iconst 0, 1) := dk_3 (dk_at dksX5_canBeTaken_2 7 rfl rfl)
theorem dX5_canBeTaken_55 : decode cX5_canBeTaken 55 = .ok (.iand, 1) := dk_126 (dk_at dksX5_canBeTaken_2 8 rfl rfl)
theorem dX5_canBeTaken_56 : decode cX5_canBeTaken 56 = .ok (.istore_n 2, 1) := dk_61 (dk_at dksX5_canBeTaken_2 9 rfl rfl)
theorem dX5_canBeTaken_57 : decode cX5_canBeTaken 57 = .ok (.iinc 3 1, 3) := dk_132 3 1 (dk_at dksX5_canBeTaken_2 10 rfl rfl)
theorem dX5_canBeTaken_60 : decode cX5_canBeTaken 60 = .ok (.goto (-56), 3) := dk_167 255 200 (dk_at dksX5_canBeTaken_2 13 rfl rfl)
theorem dX5_canBeTaken_63 : decode cX5_canBeTaken 63 = .ok (.iload_n 2, 1) := dk_28 (dk_at dksX5_canBeTaken_2 16 rfl rfl)
theorem dX5_canBeTaken_64 : decode cX5_canBeTaken 64 = .ok (.ireturn, 1) := dk_172 (dk_at dksX5_canBeTaken_2 17 rfl rfl)
abbrev cX5_taken : ByteArray := prog_3_method_5_code
def yX5_taken : MethodName := ⟨RX5, "taken", "(LFerryClocks$Zone;)LFerryClocks$Zone;"⟩
def dkwX5_taken_4 : List UInt8 := [182, 0, 57, 132, 3, 1, 167, 255, 227, 44, 176]
abbrev dktX5_taken_4 : List UInt8 := dkwX5_taken_4 ++ []
def dkwX5_taken_3 : List UInt8 := [29, 6, 162, 0, 30, 44, 182, 0, 49, 154, 0, 23, 42, 29, 182, 0, 53, 153, 0, 9, 44, 29, 3]
abbrev dktX5_taken_3 : List UInt8 := dkwX5_taken_3 ++ dktX5_taken_4
def dkwX5_taken_2 : List UInt8 := [167, 0, 9, 42, 180, 0, 22, 29, 46, 182, 0, 42, 132, 3, 1, 167, 255, 206, 44, 182, 0, 46, 3, 62]
abbrev dktX5_taken_2 : List UInt8 := dkwX5_taken_2 ++ dktX5_taken_3
def dkwX5_taken_1 : List UInt8 := [46, 116, 182, 0, 42, 44, 29, 6, 42, 180, 0, 22, 29, 46, 16, 10, 160, 0, 9, 17, 39, 15]
abbrev dktX5_taken_1 : List UInt8 := dkwX5_taken_1 ++ dktX5_taken_2
def dkwX5_taken_0 : List UInt8 := [187, 0, 37, 89, 43, 183, 0, 39, 77, 3, 62, 29, 6, 162, 0, 51, 44, 6, 29, 42, 180, 0, 18, 29]
abbrev dktX5_taken_0 : List UInt8 := dkwX5_taken_0 ++ dktX5_taken_1
theorem dksX5_taken_0 : cX5_taken.data.toList.drop 0 = dktX5_taken_0 := by decide +kernel
theorem dksX5_taken_1 : cX5_taken.data.toList.drop 24 = dktX5_taken_1 := dk_seg dksX5_taken_0 24 rfl rfl
theorem dksX5_taken_2 : cX5_taken.data.toList.drop 46 = dktX5_taken_2 := dk_seg dksX5_taken_1 22 rfl rfl
theorem dksX5_taken_3 : cX5_taken.data.toList.drop 70 = dktX5_taken_3 := dk_seg dksX5_taken_2 24 rfl rfl
theorem dksX5_taken_4 : cX5_taken.data.toList.drop 93 = dktX5_taken_4 := dk_seg dksX5_taken_3 23 rfl rfl
theorem dX5_taken_0 : decode cX5_taken 0 = .ok (.new 37, 3) := dk_187 0 37 (dk_at dksX5_taken_0 0 rfl rfl)
theorem dX5_taken_3 : decode cX5_taken 3 = .ok (.dup, 1) := dk_89 (dk_at dksX5_taken_0 3 rfl rfl)
theorem dX5_taken_4 : decode cX5_taken 4 = .ok (.aload_n 1, 1) := dk_43 (dk_at dksX5_taken_0 4 rfl rfl)
theorem dX5_taken_5 : decode cX5_taken 5 = .ok (.invokespecial 39, 3) := dk_183 0 39 (dk_at dksX5_taken_0 5 rfl rfl)
theorem dX5_taken_8 : decode cX5_taken 8 = .ok (.astore_n 2, 1) := dk_77 (dk_at dksX5_taken_0 8 rfl rfl)
theorem dX5_taken_9 : decode cX5_taken 9 = .ok (.iconst 0, 1) := dk_3 (dk_at dksX5_taken_0 9 rfl rfl)
theorem dX5_taken_10 : decode cX5_taken 10 = .ok (.istore_n 3, 1) := dk_62 (dk_at dksX5_taken_0 10 rfl rfl)
theorem dX5_taken_11 : decode cX5_taken 11 = .ok (.iload_n 3, 1) := dk_29 (dk_at dksX5_taken_0 11 rfl rfl)
theorem dX5_taken_12 : decode cX5_taken 12 = .ok (.iconst 3, 1) := dk_6 (dk_at dksX5_taken_0 12 rfl rfl)
theorem dX5_taken_13 : decode cX5_taken 13 = .ok (.if_icmp .ge 51, 3) := dk_162 0 51 (dk_at dksX5_taken_0 13 rfl rfl)
theorem dX5_taken_16 : decode cX5_taken 16 = .ok (.aload_n 2, 1) := dk_44 (dk_at dksX5_taken_0 16 rfl rfl)
theorem dX5_taken_17 : decode cX5_taken 17 = .ok (.iconst 3, 1) := dk_6 (dk_at dksX5_taken_0 17 rfl rfl)
theorem dX5_taken_18 : decode cX5_taken 18 = .ok (.iload_n 3, 1) := dk_29 (dk_at dksX5_taken_0 18 rfl rfl)
theorem dX5_taken_19 : decode cX5_taken 19 = .ok (.aload_n 0, 1) := dk_42 (dk_at dksX5_taken_0 19 rfl rfl)
theorem dX5_taken_20 : decode cX5_taken 20 = .ok (.getfield 18, 3) := dk_180 0 18 (dk_at dksX5_taken_0 20 rfl rfl)
theorem dX5_taken_23 : decode cX5_taken 23 = .ok (.iload_n 3, 1) := dk_29 (dk_at dksX5_taken_0 23 rfl rfl)
theorem dX5_taken_24 : decode cX5_taken 24 = .ok (.iaload, 1) := dk_46 (dk_at dksX5_taken_1 0 rfl rfl)
theorem dX5_taken_25 : decode cX5_taken 25 = .ok (.ineg, 1) := dk_116 (dk_at dksX5_taken_1 1 rfl rfl)
theorem dX5_taken_26 : decode cX5_taken 26 = .ok (.invokevirtual 42, 3) := dk_182 0 42 (dk_at dksX5_taken_1 2 rfl rfl)
theorem dX5_taken_29 : decode cX5_taken 29 = .ok (.aload_n 2, 1) := dk_44 (dk_at dksX5_taken_1 5 rfl rfl)
theorem dX5_taken_30 : decode cX5_taken 30 = .ok (.iload_n 3, 1) := dk_29 (dk_at dksX5_taken_1 6 rfl rfl)
theorem dX5_taken_31 : decode cX5_taken 31 = .ok (.iconst 3, 1) := dk_6 (dk_at dksX5_taken_1 7 rfl rfl)
theorem dX5_taken_32 : decode cX5_taken 32 = .ok (.aload_n 0, 1) := dk_42 (dk_at dksX5_taken_1 8 rfl rfl)
theorem dX5_taken_33 : decode cX5_taken 33 = .ok (.getfield 22, 3) := dk_180 0 22 (dk_at dksX5_taken_1 9 rfl rfl)
theorem dX5_taken_36 : decode cX5_taken 36 = .ok (.iload_n 3, 1) := dk_29 (dk_at dksX5_taken_1 12 rfl rfl)
theorem dX5_taken_37 : decode cX5_taken 37 = .ok (.iaload, 1) := dk_46 (dk_at dksX5_taken_1 13 rfl rfl)
theorem dX5_taken_38 : decode cX5_taken 38 = .ok (.bipush 10, 2) := dk_16 10 (dk_at dksX5_taken_1 14 rfl rfl)
theorem dX5_taken_40 : decode cX5_taken 40 = .ok (.if_icmp .ne 9, 3) := dk_160 0 9 (dk_at dksX5_taken_1 16 rfl rfl)
theorem dX5_taken_43 : decode cX5_taken 43 = .ok (.sipush 9999, 3) := dk_17 39 15 (dk_at dksX5_taken_1 19 rfl rfl)
theorem dX5_taken_46 : decode cX5_taken 46 = .ok (.goto 9, 3) := dk_167 0 9 (dk_at dksX5_taken_2 0 rfl rfl)
theorem dX5_taken_49 : decode cX5_taken 49 = .ok (.aload_n 0, 1) := dk_42 (dk_at dksX5_taken_2 3 rfl rfl)
theorem dX5_taken_50 : decode cX5_taken 50 = .ok (.getfield 22, 3) := dk_180 0 22 (dk_at dksX5_taken_2 4 rfl rfl)
theorem dX5_taken_53 : decode cX5_taken 53 = .ok (.iload_n 3, 1) := dk_29 (dk_at dksX5_taken_2 7 rfl rfl)
theorem dX5_taken_54 : decode cX5_taken 54 = .ok (.iaload, 1) := dk_46 (dk_at dksX5_taken_2 8 rfl rfl)
theorem dX5_taken_55 : decode cX5_taken 55 = .ok (.invokevirtual 42, 3) := dk_182 0 42 (dk_at dksX5_taken_2 9 rfl rfl)
theorem dX5_taken_58 : decode cX5_taken 58 = .ok (.iinc 3 1, 3) := dk_132 3 1 (dk_at dksX5_taken_2 12 rfl rfl)
theorem dX5_taken_61 : decode cX5_taken 61 = .ok (.goto (-50), 3) := dk_167 255 206 (dk_at dksX5_taken_2 15 rfl rfl)
theorem dX5_taken_64 : decode cX5_taken 64 = .ok (.aload_n 2, 1) := dk_44 (dk_at dksX5_taken_2 18 rfl rfl)
theorem dX5_taken_65 : decode cX5_taken 65 = .ok (.invokevirtual 46, 3) := dk_182 0 46 (dk_at dksX5_taken_2 19 rfl rfl)
theorem dX5_taken_68 : decode cX5_taken 68 = .ok (.iconst 0, 1) := dk_3 (dk_at dksX5_taken_2 22 rfl rfl)
theorem dX5_taken_69 : decode cX5_taken 69 = .ok (.istore_n 3, 1) := dk_62 (dk_at dksX5_taken_2 23 rfl rfl)
theorem dX5_taken_70 : decode cX5_taken 70 = .ok (.iload_n 3, 1) := dk_29 (dk_at dksX5_taken_3 0 rfl rfl)
theorem dX5_taken_71 : decode cX5_taken 71 = .ok (.iconst 3, 1) := dk_6 (dk_at dksX5_taken_3 1 rfl rfl)
theorem dX5_taken_72 : decode cX5_taken 72 = .ok (.if_icmp .ge 30, 3) := dk_162 0 30 (dk_at dksX5_taken_3 2 rfl rfl)
theorem dX5_taken_75 : decode cX5_taken 75 = .ok (.aload_n 2, 1) := dk_44 (dk_at dksX5_taken_3 5 rfl rfl)
theorem dX5_taken_76 : decode cX5_taken 76 = .ok (.invokevirtual 49, 3) := dk_182 0 49 (dk_at dksX5_taken_3 6 rfl rfl)
theorem dX5_taken_79 : decode cX5_taken 79 = .ok (.ifCond .ne 23, 3) := dk_154 0 23 (dk_at dksX5_taken_3 9 rfl rfl)
theorem dX5_taken_82 : decode cX5_taken 82 = .ok (.aload_n 0, 1) := dk_42 (dk_at dksX5_taken_3 12 rfl rfl)
theorem dX5_taken_83 : decode cX5_taken 83 = .ok (.iload_n 3, 1) := dk_29 (dk_at dksX5_taken_3 13 rfl rfl)
theorem dX5_taken_84 : decode cX5_taken 84 = .ok (.invokevirtual 53, 3) := dk_182 0 53 (dk_at dksX5_taken_3 14 rfl rfl)
theorem dX5_taken_87 : decode cX5_taken 87 = .ok (.ifCond .eq 9, 3) := dk_153 0 9 (dk_at dksX5_taken_3 17 rfl rfl)
theorem dX5_taken_90 : decode cX5_taken 90 = .ok (.aload_n 2, 1) := dk_44 (dk_at dksX5_taken_3 20 rfl rfl)
theorem dX5_taken_91 : decode cX5_taken 91 = .ok (.iload_n 3, 1) := dk_29 (dk_at dksX5_taken_3 21 rfl rfl)
theorem dX5_taken_92 : decode cX5_taken 92 = .ok (.iconst 0, 1) := dk_3 (dk_at dksX5_taken_3 22 rfl rfl)
theorem dX5_taken_93 : decode cX5_taken 93 = .ok (.invokevirtual 57, 3) := dk_182 0 57 (dk_at dksX5_taken_4 0 rfl rfl)
theorem dX5_taken_96 : decode cX5_taken 96 = .ok (.iinc 3 1, 3) := dk_132 3 1 (dk_at dksX5_taken_4 3 rfl rfl)
theorem dX5_taken_99 : decode cX5_taken 99 = .ok (.goto (-29), 3) := dk_167 255 227 (dk_at dksX5_taken_4 6 rfl rfl)
theorem dX5_taken_102 : decode cX5_taken 102 = .ok (.aload_n 2, 1) := dk_44 (dk_at dksX5_taken_4 9 rfl rfl)
theorem dX5_taken_103 : decode cX5_taken 103 = .ok (.areturn, 1) := dk_176 (dk_at dksX5_taken_4 10 rfl rfl)
theorem q104 : (Jvm.Cond.initialized "FerryClocks$Line") ∈ lw_all := lw_g (lw_at lw_m1 13 rfl) rfl
theorem q293 : (Jvm.Cond.instantiable "FerryClocks$Line" (5 : Nat)) ∈ lw_all := lw_g (lw_at lw_m1 202 rfl) rfl
theorem q309 : (Jvm.Cond.instanceMethod ({ cls := "FerryClocks$Line", name := "<init>", desc := "(LFerryClocks$Line;)V" } : Jvm.MethodName)) ∈ lw_all := lw_g (lw_at lw_m1 218 rfl) rfl
theorem q310 : (Jvm.Cond.code ({ cls := "FerryClocks$Line", name := "<init>", desc := "(LFerryClocks$Line;)V" } : Jvm.MethodName) prog_3_method_2_code (2 : Nat) (Option.none : Option Jvm.ClassFile.FieldType)) ∈ lw_all := lw_g (lw_at lw_m1 219 rfl) rfl
theorem q311 : (Jvm.Cond.methodLink "FerryClocks$Line" (3 : Nat) ({ cls := "java/lang/Object", name := "<init>", desc := "()V" } : Jvm.MethodName)) ∈ lw_all := lw_g (lw_at lw_m1 220 rfl) rfl
theorem q312 : (Jvm.Cond.methodLink "FerryClocks$Line" (25 : Nat) ({ cls := "[I", name := "clone", desc := "()Ljava/lang/Object;" } : Jvm.MethodName)) ∈ lw_all := lw_g (lw_at lw_m1 221 rfl) rfl
theorem q313 : (Jvm.Cond.classLink "FerryClocks$Line" (26 : Nat) "[I") ∈ lw_all := lw_g (lw_at lw_m1 222 rfl) rfl
theorem q314 : (Jvm.Cond.fieldLink "FerryClocks$Line" (9 : Nat) "FerryClocks$Line" "from" "I") ∈ lw_all := lw_g (lw_at lw_m1 223 rfl) rfl
theorem q317 : (Jvm.Cond.fieldLink "FerryClocks$Line" (15 : Nat) "FerryClocks$Line" "to" "I") ∈ lw_all := lw_g (lw_at lw_m1 226 rfl) rfl
theorem q320 : (Jvm.Cond.fieldLink "FerryClocks$Line" (18 : Nat) "FerryClocks$Line" "least" "[I") ∈ lw_all := lw_g (lw_at lw_m1 229 rfl) rfl
theorem q322 : (Jvm.Cond.fieldLink "FerryClocks$Line" (22 : Nat) "FerryClocks$Line" "most" "[I") ∈ lw_all := lw_g (lw_at lw_m1 231 rfl) rfl
theorem q324 : (Jvm.Cond.fieldLink "FerryClocks$Line" (30 : Nat) "FerryClocks$Line" "resets" "I") ∈ lw_all := lw_g (lw_at lw_m1 233 rfl) rfl
theorem q326 : (Jvm.Cond.laysFinal "FerryClocks$Line" "FerryClocks$Line" "from" "I") ∈ lw_all := lw_g (lw_at lw_m1 235 rfl) rfl
theorem q327 : (Jvm.Cond.soleField "FerryClocks$Line" "from") ∈ lw_all := lw_g (lw_at lw_m1 236 rfl) rfl
theorem q328 : (Jvm.Cond.laysFinal "FerryClocks$Line" "FerryClocks$Line" "to" "I") ∈ lw_all := lw_g (lw_at lw_m1 237 rfl) rfl
theorem q329 : (Jvm.Cond.soleField "FerryClocks$Line" "to") ∈ lw_all := lw_g (lw_at lw_m1 238 rfl) rfl
theorem q330 : (Jvm.Cond.laysFinal "FerryClocks$Line" "FerryClocks$Line" "least" "[I") ∈ lw_all := lw_g (lw_at lw_m1 239 rfl) rfl
theorem q331 : (Jvm.Cond.soleField "FerryClocks$Line" "least") ∈ lw_all := lw_g (lw_at lw_m2 0 rfl) rfl
theorem q332 : (Jvm.Cond.laysFinal "FerryClocks$Line" "FerryClocks$Line" "most" "[I") ∈ lw_all := lw_g (lw_at lw_m2 1 rfl) rfl
theorem q333 : (Jvm.Cond.soleField "FerryClocks$Line" "most") ∈ lw_all := lw_g (lw_at lw_m2 2 rfl) rfl
theorem q334 : (Jvm.Cond.lays "FerryClocks$Line" "FerryClocks$Line" "resets" "I") ∈ lw_all := lw_g (lw_at lw_m2 3 rfl) rfl
theorem q335 : (Jvm.Cond.soleField "FerryClocks$Line" "resets") ∈ lw_all := lw_g (lw_at lw_m2 4 rfl) rfl
theorem q336 : (Jvm.Cond.superclass "FerryClocks$Line" "java/lang/Object") ∈ lw_all := lw_g (lw_at lw_m2 5 rfl) rfl
theorem q371 : (Jvm.Cond.selects "FerryClocks$Line" ({ cls := "java/lang/Object", name := "getClass", desc := "()Ljava/lang/Class;" } : Jvm.MethodName) ({ cls := "java/lang/Object", name := "getClass", desc := "()Ljava/lang/Class;" } : Jvm.MethodName)) ∈ lw_all := lw_g (lw_at lw_m2 40 rfl) rfl
theorem q654 : (Jvm.Cond.instanceMethod ({ cls := "FerryClocks$Line", name := "<init>", desc := "(II)V" } : Jvm.MethodName)) ∈ lw_all := lw_g (lw_at lw_m3 83 rfl) rfl
theorem q655 : (Jvm.Cond.code ({ cls := "FerryClocks$Line", name := "<init>", desc := "(II)V" } : Jvm.MethodName) prog_3_method_1_code (4 : Nat) (Option.none : Option Jvm.ClassFile.FieldType)) ∈ lw_all := lw_g (lw_at lw_m3 84 rfl) rfl
theorem q669 : (Jvm.Cond.instanceMethod ({ cls := "FerryClocks$Line", name := "isReset", desc := "(I)Z" } : Jvm.MethodName)) ∈ lw_all := lw_g (lw_at lw_m3 98 rfl) rfl
theorem q670 : (Jvm.Cond.selects "FerryClocks$Line" ({ cls := "FerryClocks$Line", name := "isReset", desc := "(I)Z" } : Jvm.MethodName) ({ cls := "FerryClocks$Line", name := "isReset", desc := "(I)Z" } : Jvm.MethodName)) ∈ lw_all := lw_g (lw_at lw_m3 99 rfl) rfl
theorem q671 : (Jvm.Cond.code ({ cls := "FerryClocks$Line", name := "isReset", desc := "(I)Z" } : Jvm.MethodName) prog_3_method_3_code (2 : Nat) (Option.some Jvm.ClassFile.FieldType.boolean)) ∈ lw_all := lw_g (lw_at lw_m3 100 rfl) rfl
theorem q847 : (Jvm.Cond.instanceMethod ({ cls := "FerryClocks$Line", name := "canBeTaken", desc := "(I)Z" } : Jvm.MethodName)) ∈ lw_all := lw_g (lw_at lw_m4 36 rfl) rfl
theorem q848 : (Jvm.Cond.selects "FerryClocks$Line" ({ cls := "FerryClocks$Line", name := "canBeTaken", desc := "(I)Z" } : Jvm.MethodName) ({ cls := "FerryClocks$Line", name := "canBeTaken", desc := "(I)Z" } : Jvm.MethodName)) ∈ lw_all := lw_g (lw_at lw_m4 37 rfl) rfl
theorem q849 : (Jvm.Cond.code ({ cls := "FerryClocks$Line", name := "canBeTaken", desc := "(I)Z" } : Jvm.MethodName) prog_3_method_4_code (5 : Nat) (Option.some Jvm.ClassFile.FieldType.boolean)) ∈ lw_all := lw_g (lw_at lw_m4 38 rfl) rfl
theorem q850 : (Jvm.Cond.methodLinkNest "FerryClocks$Line" (33 : Nat) ({ cls := "FerryClocks", name := "clockOf", desc := "(II)I" } : Jvm.MethodName) "FerryClocks") ∈ lw_tbl := lw_at lw_m4 39 rfl
theorem q1465 : (Jvm.Cond.instanceMethod ({ cls := "FerryClocks$Line", name := "taken", desc := "(LFerryClocks$Zone;)LFerryClocks$Zone;" } : Jvm.MethodName)) ∈ lw_all := lw_g (lw_at lw_m6 174 rfl) rfl
theorem q1466 : (Jvm.Cond.selects "FerryClocks$Line" ({ cls := "FerryClocks$Line", name := "taken", desc := "(LFerryClocks$Zone;)LFerryClocks$Zone;" } : Jvm.MethodName) ({ cls := "FerryClocks$Line", name := "taken", desc := "(LFerryClocks$Zone;)LFerryClocks$Zone;" } : Jvm.MethodName)) ∈ lw_all := lw_g (lw_at lw_m6 175 rfl) rfl
theorem q1467 : (Jvm.Cond.code ({ cls := "FerryClocks$Line", name := "taken", desc := "(LFerryClocks$Zone;)LFerryClocks$Zone;" } : Jvm.MethodName) prog_3_method_5_code (4 : Nat) (Option.some (Jvm.ClassFile.FieldType.object "FerryClocks$Zone"))) ∈ lw_all := lw_g (lw_at lw_m6 176 rfl) rfl
theorem q1468 : (Jvm.Cond.classLink "FerryClocks$Line" (37 : Nat) "FerryClocks$Zone") ∈ lw_all := lw_g (lw_at lw_m6 177 rfl) rfl
theorem q1469 : (Jvm.Cond.methodLink "FerryClocks$Line" (39 : Nat) ({ cls := "FerryClocks$Zone", name := "<init>", desc := "(LFerryClocks$Zone;)V" } : Jvm.MethodName)) ∈ lw_all := lw_g (lw_at lw_m6 178 rfl) rfl
theorem q1470 : (Jvm.Cond.methodLink "FerryClocks$Line" (42 : Nat) ({ cls := "FerryClocks$Zone", name := "tells", desc := "(III)V" } : Jvm.MethodName)) ∈ lw_all := lw_g (lw_at lw_m6 179 rfl) rfl
theorem q1471 : (Jvm.Cond.methodLink "FerryClocks$Line" (46 : Nat) ({ cls := "FerryClocks$Zone", name := "tightens", desc := "()V" } : Jvm.MethodName)) ∈ lw_all := lw_g (lw_at lw_m6 180 rfl) rfl
theorem q1472 : (Jvm.Cond.methodLink "FerryClocks$Line" (49 : Nat) ({ cls := "FerryClocks$Zone", name := "hasNone", desc := "()Z" } : Jvm.MethodName)) ∈ lw_all := lw_g (lw_at lw_m6 181 rfl) rfl
theorem q1473 : (Jvm.Cond.methodLink "FerryClocks$Line" (53 : Nat) ({ cls := "FerryClocks$Line", name := "isReset", desc := "(I)Z" } : Jvm.MethodName)) ∈ lw_all := lw_g (lw_at lw_m6 182 rfl) rfl
theorem q1474 : (Jvm.Cond.methodLink "FerryClocks$Line" (57 : Nat) ({ cls := "FerryClocks$Zone", name := "resets", desc := "(II)V" } : Jvm.MethodName)) ∈ lw_all := lw_g (lw_at lw_m6 183 rfl) rfl
theorem q2410 : (Jvm.Cond.castable "FerryClocks$Line" "java/lang/Object") ∈ lw_tbl := lw_at lw_m10 159 rfl
theorem in_X5 : ∀ w ∈ wsX50, w ∈ lw_all := lw_in wsX50 [326, 328, 330, 332, 334] (by decide +kernel) (by decide +kernel)
/-! FerryClocks$Refused -/
set_option maxRecDepth 100000
def RX6 : String := "FerryClocks$Refused"
def TX6 : u_T := fun k => match k with
  | 0 => ("java/lang/Throwable", "cause", "Ljava/lang/Throwable;", false)
  | 1 => ("java/lang/Throwable", "stackTrace", "[Ljava/lang/StackTraceElement;", false)
  | 2 => ("java/lang/Throwable", "suppressedExceptions", "Ljava/util/List;", false)
  | 3 => ("java/lang/Throwable", "detailMessage", "Ljava/lang/String;", false)
  | 4 => ("java/lang/Throwable", "backtrace", "Ljava/lang/Object;", false)
  | 5 => ("java/lang/Throwable", "depth", "I", false)
  | _ => ("FerryClocks$Refused", "kind", "I", true)
def tyX6 : Nat → FieldType := fun k => match k with
  | 0 => .object "java/lang/Throwable"
  | 1 => .array (.object "java/lang/StackTraceElement")
  | 2 => .object "java/util/List"
  | 3 => .object "java/lang/String"
  | 4 => .object "java/lang/Object"
  | 5 => .int
  | _ => .int
abbrev wsX60 : List Cond := u_ws RX6 TX6 7
theorem nmX6 : ∀ a, a < 7 → ∀ b, b < 7 → a ≠ b → (TX6 a).2.1 ≠ (TX6 b).2.1 := by decide +kernel
theorem tyX6_ok : ∀ k, k < 7 → parseFieldDescriptor (TX6 k).2.2.1 = some (tyX6 k) := by decide +kernel
abbrev cX6_init : ByteArray := prog_5_method_1_code
def yX6_init : MethodName := ⟨RX6, "<init>", "(I)V"⟩
def dkwX6_init_0 : List UInt8 := [42, 18, 1, 183, 0, 3, 42, 27, 181, 0, 9, 177]
abbrev dktX6_init_0 : List UInt8 := dkwX6_init_0 ++ []
theorem dksX6_init_0 : cX6_init.data.toList.drop 0 = dktX6_init_0 := by decide +kernel
theorem dX6_init_0 : decode cX6_init 0 = .ok (.aload_n 0, 1) := dk_42 (dk_at dksX6_init_0 0 rfl rfl)
theorem dX6_init_1 : decode cX6_init 1 = .ok (.ldc 1, 2) := dk_18 1 (dk_at dksX6_init_0 1 rfl rfl)
theorem dX6_init_3 : decode cX6_init 3 = .ok (.invokespecial 3, 3) := dk_183 0 3 (dk_at dksX6_init_0 3 rfl rfl)
theorem dX6_init_6 : decode cX6_init 6 = .ok (.aload_n 0, 1) := dk_42 (dk_at dksX6_init_0 6 rfl rfl)
theorem dX6_init_7 : decode cX6_init 7 = .ok (.iload_n 1, 1) := dk_27 (dk_at dksX6_init_0 7 rfl rfl)
theorem dX6_init_8 : decode cX6_init 8 = .ok (.putfield 9, 3) := dk_181 0 9 (dk_at dksX6_init_0 8 rfl rfl)
theorem dX6_init_11 : decode cX6_init 11 = .ok (.return_, 1) := dk_177 (dk_at dksX6_init_0 11 rfl rfl)
theorem q113 : (Jvm.Cond.initialized "FerryClocks$Refused") ∈ lw_all := lw_g (lw_at lw_m1 22 rfl) rfl
theorem q373 : (Jvm.Cond.selects "FerryClocks$Refused" ({ cls := "java/lang/Object", name := "getClass", desc := "()Ljava/lang/Class;" } : Jvm.MethodName) ({ cls := "java/lang/Object", name := "getClass", desc := "()Ljava/lang/Class;" } : Jvm.MethodName)) ∈ lw_all := lw_g (lw_at lw_m2 42 rfl) rfl
theorem q423 : (Jvm.Cond.instantiable "FerryClocks$Refused" (7 : Nat)) ∈ lw_all := lw_g (lw_at lw_m2 92 rfl) rfl
theorem q424 : (Jvm.Cond.castable "FerryClocks$Refused" "FerryClocks$Refused") ∈ lw_tbl := lw_at lw_m2 93 rfl
theorem q429 : (Jvm.Cond.selects "FerryClocks$Refused" ({ cls := "java/lang/Throwable", name := "fillInStackTrace", desc := "(I)Ljava/lang/Throwable;" } : Jvm.MethodName) ({ cls := "java/lang/Throwable", name := "fillInStackTrace", desc := "(I)Ljava/lang/Throwable;" } : Jvm.MethodName)) ∈ lw_all := lw_g (lw_at lw_m2 98 rfl) rfl
theorem q430 : (Jvm.Cond.selects "FerryClocks$Refused" ({ cls := "java/lang/Throwable", name := "fillInStackTrace", desc := "()Ljava/lang/Throwable;" } : Jvm.MethodName) ({ cls := "java/lang/Throwable", name := "fillInStackTrace", desc := "()Ljava/lang/Throwable;" } : Jvm.MethodName)) ∈ lw_all := lw_g (lw_at lw_m2 99 rfl) rfl
theorem q431 : (Jvm.Cond.lays "FerryClocks$Refused" "java/lang/Throwable" "cause" "Ljava/lang/Throwable;") ∈ lw_all := lw_g (lw_at lw_m2 100 rfl) rfl
theorem q433 : (Jvm.Cond.lays "FerryClocks$Refused" "java/lang/Throwable" "stackTrace" "[Ljava/lang/StackTraceElement;") ∈ lw_all := lw_g (lw_at lw_m2 102 rfl) rfl
theorem q435 : (Jvm.Cond.lays "FerryClocks$Refused" "java/lang/Throwable" "suppressedExceptions" "Ljava/util/List;") ∈ lw_all := lw_g (lw_at lw_m2 104 rfl) rfl
theorem q437 : (Jvm.Cond.lays "FerryClocks$Refused" "java/lang/Throwable" "detailMessage" "Ljava/lang/String;") ∈ lw_all := lw_g (lw_at lw_m2 106 rfl) rfl
theorem q439 : (Jvm.Cond.lays "FerryClocks$Refused" "java/lang/Throwable" "backtrace" "Ljava/lang/Object;") ∈ lw_all := lw_g (lw_at lw_m2 108 rfl) rfl
theorem q463 : (Jvm.Cond.instanceMethod ({ cls := "FerryClocks$Refused", name := "<init>", desc := "(I)V" } : Jvm.MethodName)) ∈ lw_all := lw_g (lw_at lw_m2 132 rfl) rfl
theorem q464 : (Jvm.Cond.code ({ cls := "FerryClocks$Refused", name := "<init>", desc := "(I)V" } : Jvm.MethodName) prog_5_method_1_code (2 : Nat) (Option.none : Option Jvm.ClassFile.FieldType)) ∈ lw_all := lw_g (lw_at lw_m2 133 rfl) rfl
theorem q465 : (Jvm.Cond.stringRef "FerryClocks$Refused" (1 : Nat) "refused") ∈ lw_tbl := lw_at lw_m2 134 rfl
theorem q466 : (Jvm.Cond.methodLink "FerryClocks$Refused" (3 : Nat) ({ cls := "java/lang/Exception", name := "<init>", desc := "(Ljava/lang/String;)V" } : Jvm.MethodName)) ∈ lw_all := lw_g (lw_at lw_m2 135 rfl) rfl
theorem q472 : (Jvm.Cond.fieldLink "FerryClocks$Refused" (9 : Nat) "FerryClocks$Refused" "kind" "I") ∈ lw_all := lw_g (lw_at lw_m2 141 rfl) rfl
theorem q480 : (Jvm.Cond.laysFinal "FerryClocks$Refused" "FerryClocks$Refused" "kind" "I") ∈ lw_all := lw_g (lw_at lw_m2 149 rfl) rfl
theorem q481 : (Jvm.Cond.soleField "FerryClocks$Refused" "kind") ∈ lw_all := lw_g (lw_at lw_m2 150 rfl) rfl
theorem q486 : (Jvm.Cond.lays "FerryClocks$Refused" "java/lang/Throwable" "depth" "I") ∈ lw_all := lw_g (lw_at lw_m2 155 rfl) rfl
theorem q489 : (Jvm.Cond.superclass "FerryClocks$Refused" "java/lang/Exception") ∈ lw_all := lw_g (lw_at lw_m2 158 rfl) rfl
theorem q2411 : (Jvm.Cond.castable "FerryClocks$Refused" "java/lang/Object") ∈ lw_tbl := lw_at lw_m10 160 rfl
theorem in_X6 : ∀ w ∈ wsX60, w ∈ lw_all := lw_in wsX60 [431, 433, 435, 437, 439, 486, 480] (by decide +kernel) (by decide +kernel)
/-! FerryClocks$Stop -/
set_option maxRecDepth 100000
def RX7 : String := "FerryClocks$Stop"
def TX7 : u_T := fun k => match k with
  | 0 => ("FerryClocks$Stop", "harbour", "I", true)
  | 1 => ("FerryClocks$Stop", "zone", "LFerryClocks$Zone;", true)
  | _ => ("FerryClocks$Stop", "way", "I", true)
def tyX7 : Nat → FieldType := fun k => match k with
  | 0 => .int
  | 1 => .object "FerryClocks$Zone"
  | _ => .int
abbrev wsX70 : List Cond := u_ws RX7 TX7 3
theorem nmX7 : ∀ a, a < 3 → ∀ b, b < 3 → a ≠ b → (TX7 a).2.1 ≠ (TX7 b).2.1 := by decide +kernel
theorem tyX7_ok : ∀ k, k < 3 → parseFieldDescriptor (TX7 k).2.2.1 = some (tyX7 k) := by decide +kernel
abbrev cX7_init : ByteArray := prog_6_method_1_code
def yX7_init : MethodName := ⟨RX7, "<init>", "(ILFerryClocks$Zone;I)V"⟩
def dkwX7_init_0 : List UInt8 := [42, 183, 0, 1, 42, 27, 181, 0, 7, 42, 44, 181, 0, 13, 42, 29, 181, 0, 17, 177]
abbrev dktX7_init_0 : List UInt8 := dkwX7_init_0 ++ []
theorem dksX7_init_0 : cX7_init.data.toList.drop 0 = dktX7_init_0 := by decide +kernel
theorem dX7_init_0 : decode cX7_init 0 = .ok (.aload_n 0, 1) := dk_42 (dk_at dksX7_init_0 0 rfl rfl)
theorem dX7_init_1 : decode cX7_init 1 = .ok (.invokespecial 1, 3) := dk_183 0 1 (dk_at dksX7_init_0 1 rfl rfl)
theorem dX7_init_4 : decode cX7_init 4 = .ok (.aload_n 0, 1) := dk_42 (dk_at dksX7_init_0 4 rfl rfl)
theorem dX7_init_5 : decode cX7_init 5 = .ok (.iload_n 1, 1) := dk_27 (dk_at dksX7_init_0 5 rfl rfl)
theorem dX7_init_6 : decode cX7_init 6 = .ok (.putfield 7, 3) := dk_181 0 7 (dk_at dksX7_init_0 6 rfl rfl)
theorem dX7_init_9 : decode cX7_init 9 = .ok (.aload_n 0, 1) := dk_42 (dk_at dksX7_init_0 9 rfl rfl)
theorem dX7_init_10 : decode cX7_init 10 = .ok (.aload_n 2, 1) := dk_44 (dk_at dksX7_init_0 10 rfl rfl)
theorem dX7_init_11 : decode cX7_init 11 = .ok (.putfield 13, 3) := dk_181 0 13 (dk_at dksX7_init_0 11 rfl rfl)
theorem dX7_init_14 : decode cX7_init 14 = .ok (.aload_n 0, 1) := dk_42 (dk_at dksX7_init_0 14 rfl rfl)
theorem dX7_init_15 : decode cX7_init 15 = .ok (.iload_n 3, 1) := dk_29 (dk_at dksX7_init_0 15 rfl rfl)
theorem dX7_init_16 : decode cX7_init 16 = .ok (.putfield 17, 3) := dk_181 0 17 (dk_at dksX7_init_0 16 rfl rfl)
theorem dX7_init_19 : decode cX7_init 19 = .ok (.return_, 1) := dk_177 (dk_at dksX7_init_0 19 rfl rfl)
theorem q118 : (Jvm.Cond.initialized "FerryClocks$Stop") ∈ lw_all := lw_g (lw_at lw_m1 27 rfl) rfl
theorem q374 : (Jvm.Cond.selects "FerryClocks$Stop" ({ cls := "java/lang/Object", name := "getClass", desc := "()Ljava/lang/Class;" } : Jvm.MethodName) ({ cls := "java/lang/Object", name := "getClass", desc := "()Ljava/lang/Class;" } : Jvm.MethodName)) ∈ lw_all := lw_g (lw_at lw_m2 43 rfl) rfl
theorem q1440 : (Jvm.Cond.instantiable "FerryClocks$Stop" (3 : Nat)) ∈ lw_all := lw_g (lw_at lw_m6 149 rfl) rfl
theorem q1442 : (Jvm.Cond.instanceMethod ({ cls := "FerryClocks$Stop", name := "<init>", desc := "(ILFerryClocks$Zone;I)V" } : Jvm.MethodName)) ∈ lw_all := lw_g (lw_at lw_m6 151 rfl) rfl
theorem q1443 : (Jvm.Cond.code ({ cls := "FerryClocks$Stop", name := "<init>", desc := "(ILFerryClocks$Zone;I)V" } : Jvm.MethodName) prog_6_method_1_code (4 : Nat) (Option.none : Option Jvm.ClassFile.FieldType)) ∈ lw_all := lw_g (lw_at lw_m6 152 rfl) rfl
theorem q1444 : (Jvm.Cond.methodLink "FerryClocks$Stop" (1 : Nat) ({ cls := "java/lang/Object", name := "<init>", desc := "()V" } : Jvm.MethodName)) ∈ lw_all := lw_g (lw_at lw_m6 153 rfl) rfl
theorem q1445 : (Jvm.Cond.fieldLink "FerryClocks$Stop" (7 : Nat) "FerryClocks$Stop" "harbour" "I") ∈ lw_all := lw_g (lw_at lw_m6 154 rfl) rfl
theorem q1448 : (Jvm.Cond.fieldLink "FerryClocks$Stop" (13 : Nat) "FerryClocks$Stop" "zone" "LFerryClocks$Zone;") ∈ lw_all := lw_g (lw_at lw_m6 157 rfl) rfl
theorem q1450 : (Jvm.Cond.fieldLink "FerryClocks$Stop" (17 : Nat) "FerryClocks$Stop" "way" "I") ∈ lw_all := lw_g (lw_at lw_m6 159 rfl) rfl
theorem q1453 : (Jvm.Cond.laysFinal "FerryClocks$Stop" "FerryClocks$Stop" "harbour" "I") ∈ lw_all := lw_g (lw_at lw_m6 162 rfl) rfl
theorem q1454 : (Jvm.Cond.soleField "FerryClocks$Stop" "harbour") ∈ lw_all := lw_g (lw_at lw_m6 163 rfl) rfl
theorem q1455 : (Jvm.Cond.laysFinal "FerryClocks$Stop" "FerryClocks$Stop" "zone" "LFerryClocks$Zone;") ∈ lw_all := lw_g (lw_at lw_m6 164 rfl) rfl
theorem q1456 : (Jvm.Cond.soleField "FerryClocks$Stop" "zone") ∈ lw_all := lw_g (lw_at lw_m6 165 rfl) rfl
theorem q1457 : (Jvm.Cond.laysFinal "FerryClocks$Stop" "FerryClocks$Stop" "way" "I") ∈ lw_all := lw_g (lw_at lw_m6 166 rfl) rfl
theorem q1458 : (Jvm.Cond.soleField "FerryClocks$Stop" "way") ∈ lw_all := lw_g (lw_at lw_m6 167 rfl) rfl
theorem q1459 : (Jvm.Cond.superclass "FerryClocks$Stop" "java/lang/Object") ∈ lw_all := lw_g (lw_at lw_m6 168 rfl) rfl
theorem q2415 : (Jvm.Cond.castable "FerryClocks$Stop" "java/lang/Object") ∈ lw_tbl := lw_at lw_m10 164 rfl
theorem in_X7 : ∀ w ∈ wsX70, w ∈ lw_all := lw_in wsX70 [1453, 1455, 1457] (by decide +kernel) (by decide +kernel)
/-! FerryClocks$Reader -/
set_option maxRecDepth 100000
def RX8 : String := "FerryClocks$Reader"
def TX8 : u_T := fun k => match k with
  | 0 => ("FerryClocks$Reader", "trial", "LFerryClocks$Desk;", true)
  | 1 => ("FerryClocks$Reader", "numbers", "[I", true)
  | 2 => ("FerryClocks$Reader", "at", "I", false)
  | 3 => ("FerryClocks$Reader", "begins", "I", false)
  | 4 => ("FerryClocks$Reader", "reason", "I", false)
  | 5 => ("FerryClocks$Reader", "cause", "I", false)
  | 6 => ("FerryClocks$Reader", "many", "I", false)
  | _ => ("FerryClocks$Reader", "this$0", "LFerryClocks;", true)
def tyX8 : Nat → FieldType := fun k => match k with
  | 0 => .object "FerryClocks$Desk"
  | 1 => .array .int
  | 2 => .int
  | 3 => .int
  | 4 => .int
  | 5 => .int
  | 6 => .int
  | _ => .object "FerryClocks"
abbrev wsX80 : List Cond := u_ws RX8 TX8 8
theorem nmX8 : ∀ a, a < 8 → ∀ b, b < 8 → a ≠ b → (TX8 a).2.1 ≠ (TX8 b).2.1 := by decide +kernel
theorem tyX8_ok : ∀ k, k < 8 → parseFieldDescriptor (TX8 k).2.2.1 = some (tyX8 k) := by decide +kernel
abbrev cX8_init : ByteArray := prog_4_method_1_code
def yX8_init : MethodName := ⟨RX8, "<init>", "(LFerryClocks;)V"⟩
def dkwX8_init_1 : List UInt8 := [181, 0, 24, 42, 6, 188, 10, 181, 0, 27, 177]
abbrev dktX8_init_1 : List UInt8 := dkwX8_init_1 ++ []
def dkwX8_init_0 : List UInt8 := [42, 43, 181, 0, 3, 42, 183, 0, 9, 42, 187, 0, 15, 89, 42, 180, 0, 3, 180, 0, 17, 183, 0, 21]
abbrev dktX8_init_0 : List UInt8 := dkwX8_init_0 ++ dktX8_init_1
theorem dksX8_init_0 : cX8_init.data.toList.drop 0 = dktX8_init_0 := by decide +kernel
theorem dksX8_init_1 : cX8_init.data.toList.drop 24 = dktX8_init_1 := dk_seg dksX8_init_0 24 rfl rfl
theorem dX8_init_0 : decode cX8_init 0 = .ok (.aload_n 0, 1) := dk_42 (dk_at dksX8_init_0 0 rfl rfl)
theorem dX8_init_1 : decode cX8_init 1 = .ok (.aload_n 1, 1) := dk_43 (dk_at dksX8_init_0 1 rfl rfl)
theorem dX8_init_2 : decode cX8_init 2 = .ok (.putfield 3, 3) := dk_181 0 3 (dk_at dksX8_init_0 2 rfl rfl)
theorem dX8_init_5 : decode cX8_init 5 = .ok (.aload_n 0, 1) := dk_42 (dk_at dksX8_init_0 5 rfl rfl)
theorem dX8_init_6 : decode cX8_init 6 = .ok (.invokespecial 9, 3) := dk_183 0 9 (dk_at dksX8_init_0 6 rfl rfl)
theorem dX8_init_9 : decode cX8_init 9 = .ok (.aload_n 0, 1) := dk_42 (dk_at dksX8_init_0 9 rfl rfl)
theorem dX8_init_10 : decode cX8_init 10 = .ok (.new 15, 3) := dk_187 0 15 (dk_at dksX8_init_0 10 rfl rfl)
theorem dX8_init_13 : decode cX8_init 13 = .ok (.dup, 1) := dk_89 (dk_at dksX8_init_0 13 rfl rfl)
theorem dX8_init_14 : decode cX8_init 14 = .ok (.aload_n 0, 1) := dk_42 (dk_at dksX8_init_0 14 rfl rfl)
theorem dX8_init_15 : decode cX8_init 15 = .ok (.getfield 3, 3) := dk_180 0 3 (dk_at dksX8_init_0 15 rfl rfl)
theorem dX8_init_18 : decode cX8_init 18 = .ok (.getfield 17, 3) := dk_180 0 17 (dk_at dksX8_init_0 18 rfl rfl)
theorem dX8_init_21 : decode cX8_init 21 = .ok (.invokespecial 21, 3) := dk_183 0 21 (dk_at dksX8_init_0 21 rfl rfl)
theorem dX8_init_24 : decode cX8_init 24 = .ok (.putfield 24, 3) := dk_181 0 24 (dk_at dksX8_init_1 0 rfl rfl)
theorem dX8_init_27 : decode cX8_init 27 = .ok (.aload_n 0, 1) := dk_42 (dk_at dksX8_init_1 3 rfl rfl)
theorem dX8_init_28 : decode cX8_init 28 = .ok (.iconst 3, 1) := dk_6 (dk_at dksX8_init_1 4 rfl rfl)
theorem dX8_init_29 : decode cX8_init 29 = .ok (.newarray .int, 2) := dk_188_10 (dk_at dksX8_init_1 5 rfl rfl)
theorem dX8_init_31 : decode cX8_init 31 = .ok (.putfield 27, 3) := dk_181 0 27 (dk_at dksX8_init_1 7 rfl rfl)
theorem dX8_init_34 : decode cX8_init 34 = .ok (.return_, 1) := dk_177 (dk_at dksX8_init_1 10 rfl rfl)
abbrev cX8_isWell : ByteArray := prog_4_method_6_code
def yX8_isWell : MethodName := ⟨RX8, "isWell", "()Z"⟩
def dkwX8_isWell_2 : List UInt8 := [167, 0, 4, 3, 172]
abbrev dktX8_isWell_2 : List UInt8 := dkwX8_isWell_2 ++ []
def dkwX8_isWell_1 : List UInt8 := [42, 42, 180, 0, 31, 181, 0, 81, 42, 182, 0, 99, 167, 255, 220, 42, 180, 0, 78, 154, 0, 7, 4]
abbrev dktX8_isWell_1 : List UInt8 := dkwX8_isWell_1 ++ dktX8_isWell_2
def dkwX8_isWell_0 : List UInt8 := [42, 180, 0, 78, 154, 0, 35, 42, 180, 0, 31, 42, 180, 0, 3, 180, 0, 35, 182, 0, 39, 162, 0, 18]
abbrev dktX8_isWell_0 : List UInt8 := dkwX8_isWell_0 ++ dktX8_isWell_1
theorem dksX8_isWell_0 : cX8_isWell.data.toList.drop 0 = dktX8_isWell_0 := by decide +kernel
theorem dksX8_isWell_1 : cX8_isWell.data.toList.drop 24 = dktX8_isWell_1 := dk_seg dksX8_isWell_0 24 rfl rfl
theorem dksX8_isWell_2 : cX8_isWell.data.toList.drop 47 = dktX8_isWell_2 := dk_seg dksX8_isWell_1 23 rfl rfl
theorem dX8_isWell_0 : decode cX8_isWell 0 = .ok (.aload_n 0, 1) := dk_42 (dk_at dksX8_isWell_0 0 rfl rfl)
theorem dX8_isWell_1 : decode cX8_isWell 1 = .ok (.getfield 78, 3) := dk_180 0 78 (dk_at dksX8_isWell_0 1 rfl rfl)
theorem dX8_isWell_4 : decode cX8_isWell 4 = .ok (.ifCond .ne 35, 3) := dk_154 0 35 (dk_at dksX8_isWell_0 4 rfl rfl)
theorem dX8_isWell_7 : decode cX8_isWell 7 = .ok (.aload_n 0, 1) := dk_42 (dk_at dksX8_isWell_0 7 rfl rfl)
theorem dX8_isWell_8 : decode cX8_isWell 8 = .ok (.getfield 31, 3) := dk_180 0 31 (dk_at dksX8_isWell_0 8 rfl rfl)
theorem dX8_isWell_11 : decode cX8_isWell 11 = .ok (.aload_n 0, 1) := dk_42 (dk_at dksX8_isWell_0 11 rfl rfl)
theorem dX8_isWell_12 : decode cX8_isWell 12 = .ok (.getfield 3, 3) := dk_180 0 3 (dk_at dksX8_isWell_0 12 rfl rfl)
theorem dX8_isWell_15 : decode cX8_isWell 15 = .ok (.getfield 35, 3) := dk_180 0 35 (dk_at dksX8_isWell_0 15 rfl rfl)
theorem dX8_isWell_18 : decode cX8_isWell 18 = .ok (.invokevirtual 39, 3) := dk_182 0 39 (dk_at dksX8_isWell_0 18 rfl rfl)
theorem dX8_isWell_21 : decode cX8_isWell 21 = .ok (.if_icmp .ge 18, 3) := dk_162 0 18 (dk_at dksX8_isWell_0 21 rfl rfl)
theorem dX8_isWell_24 : decode cX8_isWell 24 = .ok (.aload_n 0, 1) := dk_42 (dk_at dksX8_isWell_1 0 rfl rfl)
theorem dX8_isWell_25 : decode cX8_isWell 25 = .ok (.aload_n 0, 1) := dk_42 (dk_at dksX8_isWell_1 1 rfl rfl)
theorem dX8_isWell_26 : decode cX8_isWell 26 = .ok (.getfield 31, 3) := dk_180 0 31 (dk_at dksX8_isWell_1 2 rfl rfl)
theorem dX8_isWell_29 : decode cX8_isWell 29 = .ok (.putfield 81, 3) := dk_181 0 81 (dk_at dksX8_isWell_1 5 rfl rfl)
theorem dX8_isWell_32 : decode cX8_isWell 32 = .ok (.aload_n 0, 1) := dk_42 (dk_at dksX8_isWell_1 8 rfl rfl)
theorem dX8_isWell_33 : decode cX8_isWell 33 = .ok (.invokevirtual 99, 3) := dk_182 0 99 (dk_at dksX8_isWell_1 9 rfl rfl)
theorem dX8_isWell_36 : decode cX8_isWell 36 = .ok (.goto (-36), 3) := dk_167 255 220 (dk_at dksX8_isWell_1 12 rfl rfl)
theorem dX8_isWell_39 : decode cX8_isWell 39 = .ok (.aload_n 0, 1) := dk_42 (dk_at dksX8_isWell_1 15 rfl rfl)
theorem dX8_isWell_40 : decode cX8_isWell 40 = .ok (.getfield 78, 3) := dk_180 0 78 (dk_at dksX8_isWell_1 16 rfl rfl)
theorem dX8_isWell_43 : decode cX8_isWell 43 = .ok (.ifCond .ne 7, 3) := dk_154 0 7 (dk_at dksX8_isWell_1 19 rfl rfl)
theorem dX8_isWell_46 : decode cX8_isWell 46 = .ok (.iconst 1, 1) := dk_4 (dk_at dksX8_isWell_1 22 rfl rfl)
theorem dX8_isWell_47 : decode cX8_isWell 47 = .ok (.goto 4, 3) := dk_167 0 4 (dk_at dksX8_isWell_2 0 rfl rfl)
theorem dX8_isWell_50 : decode cX8_isWell 50 = .ok (.iconst 0, 1) := dk_3 (dk_at dksX8_isWell_2 3 rfl rfl)
theorem dX8_isWell_51 : decode cX8_isWell 51 = .ok (.ireturn, 1) := dk_172 (dk_at dksX8_isWell_2 4 rfl rfl)
abbrev cX8_one : ByteArray := prog_4_method_5_code
def yX8_one : MethodName := ⟨RX8, "one", "()V"⟩
def dkwX8_one_6 : List UInt8 := [181, 0, 78, 42, 45, 180, 0, 96, 181, 0, 84, 177]
abbrev dktX8_one_6 : List UInt8 := dkwX8_one_6 ++ []
def dkwX8_one_5 : List UInt8 := [180, 0, 27, 184, 0, 87, 62, 42, 89, 180, 0, 91, 4, 96, 181, 0, 91, 167, 0, 17, 78, 42, 5]
abbrev dktX8_one_5 : List UInt8 := dkwX8_one_5 ++ dktX8_one_6
def dkwX8_one_4 : List UInt8 := [181, 0, 78, 42, 42, 180, 0, 31, 42, 180, 0, 81, 100, 181, 0, 84, 177, 42, 180, 0, 24, 27, 42]
abbrev dktX8_one_4 : List UInt8 := dkwX8_one_4 ++ dktX8_one_5
def dkwX8_one_3 : List UInt8 := [156, 0, 7, 3, 167, 0, 4, 4, 96, 181, 0, 31, 42, 28, 182, 0, 75, 154, 0, 22, 42, 4]
abbrev dktX8_one_3 : List UInt8 := dkwX8_one_3 ++ dktX8_one_4
def dkwX8_one_2 : List UInt8 := [167, 0, 17, 18, 73, 27, 182, 0, 67, 155, 0, 7, 3, 167, 0, 4, 2, 61, 42, 89, 180, 0, 31, 28]
abbrev dktX8_one_2 : List UInt8 := dkwX8_one_2 ++ dktX8_one_3
def dkwX8_one_1 : List UInt8 := [167, 0, 40, 18, 65, 27, 182, 0, 67, 155, 0, 7, 5, 167, 0, 27, 27, 16, 102, 160, 0, 7, 4]
abbrev dktX8_one_1 : List UInt8 := dkwX8_one_1 ++ dktX8_one_2
def dkwX8_one_0 : List UInt8 := [42, 180, 0, 3, 180, 0, 35, 42, 180, 0, 31, 182, 0, 45, 60, 27, 16, 100, 160, 0, 7, 6]
abbrev dktX8_one_0 : List UInt8 := dkwX8_one_0 ++ dktX8_one_1
theorem dksX8_one_0 : cX8_one.data.toList.drop 0 = dktX8_one_0 := by decide +kernel
theorem dksX8_one_1 : cX8_one.data.toList.drop 22 = dktX8_one_1 := dk_seg dksX8_one_0 22 rfl rfl
theorem dksX8_one_2 : cX8_one.data.toList.drop 45 = dktX8_one_2 := dk_seg dksX8_one_1 23 rfl rfl
theorem dksX8_one_3 : cX8_one.data.toList.drop 69 = dktX8_one_3 := dk_seg dksX8_one_2 24 rfl rfl
theorem dksX8_one_4 : cX8_one.data.toList.drop 91 = dktX8_one_4 := dk_seg dksX8_one_3 22 rfl rfl
theorem dksX8_one_5 : cX8_one.data.toList.drop 114 = dktX8_one_5 := dk_seg dksX8_one_4 23 rfl rfl
theorem dksX8_one_6 : cX8_one.data.toList.drop 137 = dktX8_one_6 := dk_seg dksX8_one_5 23 rfl rfl
theorem dX8_one_0 : decode cX8_one 0 = .ok (.aload_n 0, 1) := dk_42 (dk_at dksX8_one_0 0 rfl rfl)
theorem dX8_one_1 : decode cX8_one 1 = .ok (.getfield 3, 3) := dk_180 0 3 (dk_at dksX8_one_0 1 rfl rfl)
theorem dX8_one_4 : decode cX8_one 4 = .ok (.getfield 35, 3) := dk_180 0 35 (dk_at dksX8_one_0 4 rfl rfl)
theorem dX8_one_7 : decode cX8_one 7 = .ok (.aload_n 0, 1) := dk_42 (dk_at dksX8_one_0 7 rfl rfl)
theorem dX8_one_8 : decode cX8_one 8 = .ok (.getfield 31, 3) := dk_180 0 31 (dk_at dksX8_one_0 8 rfl rfl)
theorem dX8_one_11 : decode cX8_one 11 = .ok (.invokevirtual 45, 3) := dk_182 0 45 (dk_at dksX8_one_0 11 rfl rfl)
theorem dX8_one_14 : decode cX8_one 14 = .ok (.istore_n 1, 1) := dk_60 (dk_at dksX8_one_0 14 rfl rfl)
theorem dX8_one_15 : decode cX8_one 15 = .ok (.iload_n 1, 1) := dk_27 (dk_at dksX8_one_0 15 rfl rfl)
theorem dX8_one_16 : decode cX8_one 16 = .ok (.bipush 100, 2) := dk_16 100 (dk_at dksX8_one_0 16 rfl rfl)
theorem dX8_one_18 : decode cX8_one 18 = .ok (.if_icmp .ne 7, 3) := dk_160 0 7 (dk_at dksX8_one_0 18 rfl rfl)
theorem dX8_one_21 : decode cX8_one 21 = .ok (.iconst 3, 1) := dk_6 (dk_at dksX8_one_0 21 rfl rfl)
theorem dX8_one_22 : decode cX8_one 22 = .ok (.goto 40, 3) := dk_167 0 40 (dk_at dksX8_one_1 0 rfl rfl)
theorem dX8_one_25 : decode cX8_one 25 = .ok (.ldc 65, 2) := dk_18 65 (dk_at dksX8_one_1 3 rfl rfl)
theorem dX8_one_27 : decode cX8_one 27 = .ok (.iload_n 1, 1) := dk_27 (dk_at dksX8_one_1 5 rfl rfl)
theorem dX8_one_28 : decode cX8_one 28 = .ok (.invokevirtual 67, 3) := dk_182 0 67 (dk_at dksX8_one_1 6 rfl rfl)
theorem dX8_one_31 : decode cX8_one 31 = .ok (.ifCond .lt 7, 3) := dk_155 0 7 (dk_at dksX8_one_1 9 rfl rfl)
theorem dX8_one_34 : decode cX8_one 34 = .ok (.iconst 2, 1) := dk_5 (dk_at dksX8_one_1 12 rfl rfl)
theorem dX8_one_35 : decode cX8_one 35 = .ok (.goto 27, 3) := dk_167 0 27 (dk_at dksX8_one_1 13 rfl rfl)
theorem dX8_one_38 : decode cX8_one 38 = .ok (.iload_n 1, 1) := dk_27 (dk_at dksX8_one_1 16 rfl rfl)
theorem dX8_one_39 : decode cX8_one 39 = .ok (.bipush 102, 2) := dk_16 102 (dk_at dksX8_one_1 17 rfl rfl)
theorem dX8_one_41 : decode cX8_one 41 = .ok (.if_icmp .ne 7, 3) := dk_160 0 7 (dk_at dksX8_one_1 19 rfl rfl)
theorem dX8_one_44 : decode cX8_one 44 = .ok (.iconst 1, 1) := dk_4 (dk_at dksX8_one_1 22 rfl rfl)
theorem dX8_one_45 : decode cX8_one 45 = .ok (.goto 17, 3) := dk_167 0 17 (dk_at dksX8_one_2 0 rfl rfl)
theorem dX8_one_48 : decode cX8_one 48 = .ok (.ldc 73, 2) := dk_18 73 (dk_at dksX8_one_2 3 rfl rfl)
theorem dX8_one_50 : decode cX8_one 50 = .ok (.iload_n 1, 1) := dk_27 (dk_at dksX8_one_2 5 rfl rfl)
theorem dX8_one_51 : decode cX8_one 51 = .ok (.invokevirtual 67, 3) := dk_182 0 67 (dk_at dksX8_one_2 6 rfl rfl)
theorem dX8_one_54 : decode cX8_one 54 = .ok (.ifCond .lt 7, 3) := dk_155 0 7 (dk_at dksX8_one_2 9 rfl rfl)
theorem dX8_one_57 : decode cX8_one 57 = .ok (.iconst 0, 1) := dk_3 (dk_at dksX8_one_2 12 rfl rfl)
theorem dX8_one_58 : decode cX8_one 58 = .ok (.goto 4, 3) := dk_167 0 4 (dk_at dksX8_one_2 13 rfl rfl)
theorem dX8_one_61 : decode cX8_one 61 = .ok (.iconst (-1), 1) := dk_2 (dk_at dksX8_one_2 16 rfl rfl)
theorem dX8_one_62 : decode cX8_one 62 = .ok (.istore_n 2, 1) := dk_61 (dk_at dksX8_one_2 17 rfl rfl)
theorem dX8_one_63 : decode cX8_one 63 = .ok (.aload_n 0, 1) := dk_42 (dk_at dksX8_one_2 18 rfl rfl)
theorem dX8_one_64 : decode cX8_one 64 = .ok (.dup, 1) := dk_89 (dk_at dksX8_one_2 19 rfl rfl)
theorem dX8_one_65 : decode cX8_one 65 = .ok (.getfield 31, 3) := dk_180 0 31 (dk_at dksX8_one_2 20 rfl rfl)
theorem dX8_one_68 : decode cX8_one 68 = .ok (.iload_n 2, 1) := dk_28 (dk_at dksX8_one_2 23 rfl rfl)
theorem dX8_one_69 : decode cX8_one 69 = .ok (.ifCond .ge 7, 3) := dk_156 0 7 (dk_at dksX8_one_3 0 rfl rfl)
theorem dX8_one_72 : decode cX8_one 72 = .ok (.iconst 0, 1) := dk_3 (dk_at dksX8_one_3 3 rfl rfl)
theorem dX8_one_73 : decode cX8_one 73 = .ok (.goto 4, 3) := dk_167 0 4 (dk_at dksX8_one_3 4 rfl rfl)
theorem dX8_one_76 : decode cX8_one 76 = .ok (.iconst 1, 1) := dk_4 (dk_at dksX8_one_3 7 rfl rfl)
theorem dX8_one_77 : decode cX8_one 77 = .ok (.iadd, 1) := dk_96 (dk_at dksX8_one_3 8 rfl rfl)
theorem dX8_one_78 : decode cX8_one 78 = .ok (.putfield 31, 3) := dk_181 0 31 (dk_at dksX8_one_3 9 rfl rfl)
theorem dX8_one_81 : decode cX8_one 81 = .ok (.aload_n 0, 1) := dk_42 (dk_at dksX8_one_3 12 rfl rfl)
theorem dX8_one_82 : decode cX8_one 82 = .ok (.iload_n 2, 1) := dk_28 (dk_at dksX8_one_3 13 rfl rfl)
theorem dX8_one_83 : decode cX8_one 83 = .ok (.invokevirtual 75, 3) := dk_182 0 75 (dk_at dksX8_one_3 14 rfl rfl)
theorem dX8_one_86 : decode cX8_one 86 = .ok (.ifCond .ne 22, 3) := dk_154 0 22 (dk_at dksX8_one_3 17 rfl rfl)
theorem dX8_one_89 : decode cX8_one 89 = .ok (.aload_n 0, 1) := dk_42 (dk_at dksX8_one_3 20 rfl rfl)
theorem dX8_one_90 : decode cX8_one 90 = .ok (.iconst 1, 1) := dk_4 (dk_at dksX8_one_3 21 rfl rfl)
theorem dX8_one_91 : decode cX8_one 91 = .ok (.putfield 78, 3) := dk_181 0 78 (dk_at dksX8_one_4 0 rfl rfl)
theorem dX8_one_94 : decode cX8_one 94 = .ok (.aload_n 0, 1) := dk_42 (dk_at dksX8_one_4 3 rfl rfl)
theorem dX8_one_95 : decode cX8_one 95 = .ok (.aload_n 0, 1) := dk_42 (dk_at dksX8_one_4 4 rfl rfl)
theorem dX8_one_96 : decode cX8_one 96 = .ok (.getfield 31, 3) := dk_180 0 31 (dk_at dksX8_one_4 5 rfl rfl)
theorem dX8_one_99 : decode cX8_one 99 = .ok (.aload_n 0, 1) := dk_42 (dk_at dksX8_one_4 8 rfl rfl)
theorem dX8_one_100 : decode cX8_one 100 = .ok (.getfield 81, 3) := dk_180 0 81 (dk_at dksX8_one_4 9 rfl rfl)
theorem dX8_one_103 : decode cX8_one 103 = .ok (.isub, 1) := dk_100 (dk_at dksX8_one_4 12 rfl rfl)
theorem dX8_one_104 : decode cX8_one 104 = .ok (.putfield 84, 3) := dk_181 0 84 (dk_at dksX8_one_4 13 rfl rfl)
theorem dX8_one_107 : decode cX8_one 107 = .ok (.return_, 1) := dk_177 (dk_at dksX8_one_4 16 rfl rfl)
theorem dX8_one_108 : decode cX8_one 108 = .ok (.aload_n 0, 1) := dk_42 (dk_at dksX8_one_4 17 rfl rfl)
theorem dX8_one_109 : decode cX8_one 109 = .ok (.getfield 24, 3) := dk_180 0 24 (dk_at dksX8_one_4 18 rfl rfl)
theorem dX8_one_112 : decode cX8_one 112 = .ok (.iload_n 1, 1) := dk_27 (dk_at dksX8_one_4 21 rfl rfl)
theorem dX8_one_113 : decode cX8_one 113 = .ok (.aload_n 0, 1) := dk_42 (dk_at dksX8_one_4 22 rfl rfl)
theorem dX8_one_114 : decode cX8_one 114 = .ok (.getfield 27, 3) := dk_180 0 27 (dk_at dksX8_one_5 0 rfl rfl)
theorem dX8_one_117 : decode cX8_one 117 = .ok (.invokestatic 87, 3) := dk_184 0 87 (dk_at dksX8_one_5 3 rfl rfl)
theorem dX8_one_120 : decode cX8_one 120 = .ok (.istore_n 3, 1) := dk_62 (dk_at dksX8_one_5 6 rfl rfl)
theorem dX8_one_121 : decode cX8_one 121 = .ok (.aload_n 0, 1) := dk_42 (dk_at dksX8_one_5 7 rfl rfl)
theorem dX8_one_122 : decode cX8_one 122 = .ok (.dup, 1) := dk_89 (dk_at dksX8_one_5 8 rfl rfl)
theorem dX8_one_123 : decode cX8_one 123 = .ok (.getfield 91, 3) := dk_180 0 91 (dk_at dksX8_one_5 9 rfl rfl)
theorem dX8_one_126 : decode cX8_one 126 = .ok (.iconst 1, 1) := dk_4 (dk_at dksX8_one_5 12 rfl rfl)
theorem dX8_one_127 : decode cX8_one 127 = .ok (.iadd, 1) := dk_96 (dk_at dksX8_one_5 13 rfl rfl)
theorem dX8_one_128 : decode cX8_one 128 = .ok (.putfield 91, 3) := dk_181 0 91 (dk_at dksX8_one_5 14 rfl rfl)
theorem dX8_one_131 : decode cX8_one 131 = .ok (.goto 17, 3) := dk_167 0 17 (dk_at dksX8_one_5 17 rfl rfl)
theorem dX8_one_134 : decode cX8_one 134 = .ok (.astore_n 3, 1) := dk_78 (dk_at dksX8_one_5 20 rfl rfl)
theorem dX8_one_135 : decode cX8_one 135 = .ok (.aload_n 0, 1) := dk_42 (dk_at dksX8_one_5 21 rfl rfl)
theorem dX8_one_136 : decode cX8_one 136 = .ok (.iconst 2, 1) := dk_5 (dk_at dksX8_one_5 22 rfl rfl)
theorem dX8_one_137 : decode cX8_one 137 = .ok (.putfield 78, 3) := dk_181 0 78 (dk_at dksX8_one_6 0 rfl rfl)
theorem dX8_one_140 : decode cX8_one 140 = .ok (.aload_n 0, 1) := dk_42 (dk_at dksX8_one_6 3 rfl rfl)
theorem dX8_one_141 : decode cX8_one 141 = .ok (.aload_n 3, 1) := dk_45 (dk_at dksX8_one_6 4 rfl rfl)
theorem dX8_one_142 : decode cX8_one 142 = .ok (.getfield 96, 3) := dk_180 0 96 (dk_at dksX8_one_6 5 rfl rfl)
theorem dX8_one_145 : decode cX8_one 145 = .ok (.putfield 84, 3) := dk_181 0 84 (dk_at dksX8_one_6 8 rfl rfl)
theorem dX8_one_148 : decode cX8_one 148 = .ok (.return_, 1) := dk_177 (dk_at dksX8_one_6 11 rfl rfl)
abbrev cX8_isOfForm : ByteArray := prog_4_method_4_code
def yX8_isOfForm : MethodName := ⟨RX8, "isOfForm", "(I)Z"⟩
def dkwX8_isOfForm_3 : List UInt8 := [167, 0, 4, 3, 172]
abbrev dktX8_isOfForm_3 : List UInt8 := dkwX8_isOfForm_3 ++ []
def dkwX8_isOfForm_2 : List UInt8 := [3, 61, 132, 3, 1, 167, 255, 217, 28, 153, 0, 16, 42, 16, 59, 182, 0, 57, 153, 0, 7, 4]
abbrev dktX8_isOfForm_2 : List UInt8 := dkwX8_isOfForm_2 ++ dktX8_isOfForm_3
def dkwX8_isOfForm_1 : List UInt8 := [153, 0, 12, 42, 16, 44, 182, 0, 57, 153, 0, 15, 42, 29, 182, 0, 61, 153, 0, 7, 4, 167, 0, 4]
abbrev dktX8_isOfForm_1 : List UInt8 := dkwX8_isOfForm_1 ++ dktX8_isOfForm_2
def dkwX8_isOfForm_0 : List UInt8 := [27, 155, 0, 7, 4, 167, 0, 4, 3, 61, 3, 62, 29, 27, 162, 0, 40, 28, 153, 0, 36, 29]
abbrev dktX8_isOfForm_0 : List UInt8 := dkwX8_isOfForm_0 ++ dktX8_isOfForm_1
theorem dksX8_isOfForm_0 : cX8_isOfForm.data.toList.drop 0 = dktX8_isOfForm_0 := by decide +kernel
theorem dksX8_isOfForm_1 : cX8_isOfForm.data.toList.drop 22 = dktX8_isOfForm_1 := dk_seg dksX8_isOfForm_0 22 rfl rfl
theorem dksX8_isOfForm_2 : cX8_isOfForm.data.toList.drop 46 = dktX8_isOfForm_2 := dk_seg dksX8_isOfForm_1 24 rfl rfl
theorem dksX8_isOfForm_3 : cX8_isOfForm.data.toList.drop 68 = dktX8_isOfForm_3 := dk_seg dksX8_isOfForm_2 22 rfl rfl
theorem dX8_isOfForm_0 : decode cX8_isOfForm 0 = .ok (.iload_n 1, 1) := dk_27 (dk_at dksX8_isOfForm_0 0 rfl rfl)
theorem dX8_isOfForm_1 : decode cX8_isOfForm 1 = .ok (.ifCond .lt 7, 3) := dk_155 0 7 (dk_at dksX8_isOfForm_0 1 rfl rfl)
theorem dX8_isOfForm_4 : decode cX8_isOfForm 4 = .ok (.iconst 1, 1) := dk_4 (dk_at dksX8_isOfForm_0 4 rfl rfl)
theorem dX8_isOfForm_5 : decode cX8_isOfForm 5 = .ok (.goto 4, 3) := dk_167 0 4 (dk_at dksX8_isOfForm_0 5 rfl rfl)
theorem dX8_isOfForm_8 : decode cX8_isOfForm 8 = .ok (.iconst 0, 1) := dk_3 (dk_at dksX8_isOfForm_0 8 rfl rfl)
theorem dX8_isOfForm_9 : decode cX8_isOfForm 9 = .ok (.istore_n 2, 1) := dk_61 (dk_at dksX8_isOfForm_0 9 rfl rfl)
theorem dX8_isOfForm_10 : decode cX8_isOfForm 10 = .ok (.iconst 0, 1) := dk_3 (dk_at dksX8_isOfForm_0 10 rfl rfl)
theorem dX8_isOfForm_11 : decode cX8_isOfForm 11 = .ok (.istore_n 3, 1) := dk_62 (dk_at dksX8_isOfForm_0 11 rfl rfl)
theorem dX8_isOfForm_12 : decode cX8_isOfForm 12 = .ok (.iload_n 3, 1) := dk_29 (dk_at dksX8_isOfForm_0 12 rfl rfl)
theorem dX8_isOfForm_13 : decode cX8_isOfForm 13 = .ok (.iload_n 1, 1) := dk_27 (dk_at dksX8_isOfForm_0 13 rfl rfl)
theorem dX8_isOfForm_14 : decode cX8_isOfForm 14 = .ok (.if_icmp .ge 40, 3) := dk_162 0 40 (dk_at dksX8_isOfForm_0 14 rfl rfl)
theorem dX8_isOfForm_17 : decode cX8_isOfForm 17 = .ok (.iload_n 2, 1) := dk_28 (dk_at dksX8_isOfForm_0 17 rfl rfl)
theorem dX8_isOfForm_18 : decode cX8_isOfForm 18 = .ok (.ifCond .eq 36, 3) := dk_153 0 36 (dk_at dksX8_isOfForm_0 18 rfl rfl)
theorem dX8_isOfForm_21 : decode cX8_isOfForm 21 = .ok (.iload_n 3, 1) := dk_29 (dk_at dksX8_isOfForm_0 21 rfl rfl)
theorem dX8_isOfForm_22 : decode cX8_isOfForm 22 = .ok (.ifCond .eq 12, 3) := dk_153 0 12 (dk_at dksX8_isOfForm_1 0 rfl rfl)
theorem dX8_isOfForm_25 : decode cX8_isOfForm 25 = .ok (.aload_n 0, 1) := dk_42 (dk_at dksX8_isOfForm_1 3 rfl rfl)
theorem dX8_isOfForm_26 : decode cX8_isOfForm 26 = .ok (.bipush 44, 2) := dk_16 44 (dk_at dksX8_isOfForm_1 4 rfl rfl)
theorem dX8_isOfForm_28 : decode cX8_isOfForm 28 = .ok (.invokevirtual 57, 3) := dk_182 0 57 (dk_at dksX8_isOfForm_1 6 rfl rfl)
theorem dX8_isOfForm_31 : decode cX8_isOfForm 31 = .ok (.ifCond .eq 15, 3) := dk_153 0 15 (dk_at dksX8_isOfForm_1 9 rfl rfl)
theorem dX8_isOfForm_34 : decode cX8_isOfForm 34 = .ok (.aload_n 0, 1) := dk_42 (dk_at dksX8_isOfForm_1 12 rfl rfl)
theorem dX8_isOfForm_35 : decode cX8_isOfForm 35 = .ok (.iload_n 3, 1) := dk_29 (dk_at dksX8_isOfForm_1 13 rfl rfl)
theorem dX8_isOfForm_36 : decode cX8_isOfForm 36 = .ok (.invokevirtual 61, 3) := dk_182 0 61 (dk_at dksX8_isOfForm_1 14 rfl rfl)
theorem dX8_isOfForm_39 : decode cX8_isOfForm 39 = .ok (.ifCond .eq 7, 3) := dk_153 0 7 (dk_at dksX8_isOfForm_1 17 rfl rfl)
theorem dX8_isOfForm_42 : decode cX8_isOfForm 42 = .ok (.iconst 1, 1) := dk_4 (dk_at dksX8_isOfForm_1 20 rfl rfl)
theorem dX8_isOfForm_43 : decode cX8_isOfForm 43 = .ok (.goto 4, 3) := dk_167 0 4 (dk_at dksX8_isOfForm_1 21 rfl rfl)
theorem dX8_isOfForm_46 : decode cX8_isOfForm 46 = .ok (.iconst 0, 1) := dk_3 (dk_at dksX8_isOfForm_2 0 rfl rfl)
theorem dX8_isOfForm_47 : decode cX8_isOfForm 47 = .ok (.istore_n 2, 1) := dk_61 (dk_at dksX8_isOfForm_2 1 rfl rfl)
theorem dX8_isOfForm_48 : decode cX8_isOfForm 48 = .ok (.iinc 3 1, 3) := dk_132 3 1 (dk_at dksX8_isOfForm_2 2 rfl rfl)
theorem dX8_isOfForm_51 : decode cX8_isOfForm 51 = .ok (.goto (-39), 3) := dk_167 255 217 (dk_at dksX8_isOfForm_2 5 rfl rfl)
theorem dX8_isOfForm_54 : decode cX8_isOfForm 54 = .ok (.iload_n 2, 1) := dk_28 (dk_at dksX8_isOfForm_2 8 rfl rfl)
theorem dX8_isOfForm_55 : decode cX8_isOfForm 55 = .ok (.ifCond .eq 16, 3) := dk_153 0 16 (dk_at dksX8_isOfForm_2 9 rfl rfl)
theorem dX8_isOfForm_58 : decode cX8_isOfForm 58 = .ok (.aload_n 0, 1) := dk_42 (dk_at dksX8_isOfForm_2 12 rfl rfl)
theorem dX8_isOfForm_59 : decode cX8_isOfForm 59 = .ok (.bipush 59, 2) := dk_16 59 (dk_at dksX8_isOfForm_2 13 rfl rfl)
theorem dX8_isOfForm_61 : decode cX8_isOfForm 61 = .ok (.invokevirtual 57, 3) := dk_182 0 57 (dk_at dksX8_isOfForm_2 15 rfl rfl)
theorem dX8_isOfForm_64 : decode cX8_isOfForm 64 = .ok (.ifCond .eq 7, 3) := dk_153 0 7 (dk_at dksX8_isOfForm_2 18 rfl rfl)
theorem dX8_isOfForm_67 : decode cX8_isOfForm 67 = .ok (.iconst 1, 1) := dk_4 (dk_at dksX8_isOfForm_2 21 rfl rfl)
theorem dX8_isOfForm_68 : decode cX8_isOfForm 68 = .ok (.goto 4, 3) := dk_167 0 4 (dk_at dksX8_isOfForm_3 0 rfl rfl)
theorem dX8_isOfForm_71 : decode cX8_isOfForm 71 = .ok (.iconst 0, 1) := dk_3 (dk_at dksX8_isOfForm_3 3 rfl rfl)
theorem dX8_isOfForm_72 : decode cX8_isOfForm 72 = .ok (.ireturn, 1) := dk_172 (dk_at dksX8_isOfForm_3 4 rfl rfl)
abbrev cX8_accepts : ByteArray := prog_4_method_2_code
def yX8_accepts : MethodName := ⟨RX8, "accepts", "(C)Z"⟩
def dkwX8_accepts_2 : List UInt8 := [153, 0, 7, 4, 167, 0, 4, 3, 96, 181, 0, 31, 28, 172]
abbrev dktX8_accepts_2 : List UInt8 := dkwX8_accepts_2 ++ []
def dkwX8_accepts_1 : List UInt8 := [42, 180, 0, 31, 182, 0, 45, 27, 160, 0, 7, 4, 167, 0, 4, 3, 61, 42, 89, 180, 0, 31, 28]
abbrev dktX8_accepts_1 : List UInt8 := dkwX8_accepts_1 ++ dktX8_accepts_2
def dkwX8_accepts_0 : List UInt8 := [42, 180, 0, 31, 42, 180, 0, 3, 180, 0, 35, 182, 0, 39, 162, 0, 25, 42, 180, 0, 3, 180, 0, 35]
abbrev dktX8_accepts_0 : List UInt8 := dkwX8_accepts_0 ++ dktX8_accepts_1
theorem dksX8_accepts_0 : cX8_accepts.data.toList.drop 0 = dktX8_accepts_0 := by decide +kernel
theorem dksX8_accepts_1 : cX8_accepts.data.toList.drop 24 = dktX8_accepts_1 := dk_seg dksX8_accepts_0 24 rfl rfl
theorem dksX8_accepts_2 : cX8_accepts.data.toList.drop 47 = dktX8_accepts_2 := dk_seg dksX8_accepts_1 23 rfl rfl
theorem dX8_accepts_0 : decode cX8_accepts 0 = .ok (.aload_n 0, 1) := dk_42 (dk_at dksX8_accepts_0 0 rfl rfl)
theorem dX8_accepts_1 : decode cX8_accepts 1 = .ok (.getfield 31, 3) := dk_180 0 31 (dk_at dksX8_accepts_0 1 rfl rfl)
theorem dX8_accepts_4 : decode cX8_accepts 4 = .ok (.aload_n 0, 1) := dk_42 (dk_at dksX8_accepts_0 4 rfl rfl)
theorem dX8_accepts_5 : decode cX8_accepts 5 = .ok (.getfield 3, 3) := dk_180 0 3 (dk_at dksX8_accepts_0 5 rfl rfl)
theorem dX8_accepts_8 : decode cX8_accepts 8 = .ok (.getfield 35, 3) := dk_180 0 35 (dk_at dksX8_accepts_0 8 rfl rfl)
theorem dX8_accepts_11 : decode cX8_accepts 11 = .ok (.invokevirtual 39, 3) := dk_182 0 39 (dk_at dksX8_accepts_0 11 rfl rfl)
theorem dX8_accepts_14 : decode cX8_accepts 14 = .ok (.if_icmp .ge 25, 3) := dk_162 0 25 (dk_at dksX8_accepts_0 14 rfl rfl)
theorem dX8_accepts_17 : decode cX8_accepts 17 = .ok (.aload_n 0, 1) := dk_42 (dk_at dksX8_accepts_0 17 rfl rfl)
theorem dX8_accepts_18 : decode cX8_accepts 18 = .ok (.getfield 3, 3) := dk_180 0 3 (dk_at dksX8_accepts_0 18 rfl rfl)
theorem dX8_accepts_21 : decode cX8_accepts 21 = .ok (.getfield 35, 3) := dk_180 0 35 (dk_at dksX8_accepts_0 21 rfl rfl)
theorem dX8_accepts_24 : decode cX8_accepts 24 = .ok (.aload_n 0, 1) := dk_42 (dk_at dksX8_accepts_1 0 rfl rfl)
theorem dX8_accepts_25 : decode cX8_accepts 25 = .ok (.getfield 31, 3) := dk_180 0 31 (dk_at dksX8_accepts_1 1 rfl rfl)
theorem dX8_accepts_28 : decode cX8_accepts 28 = .ok (.invokevirtual 45, 3) := dk_182 0 45 (dk_at dksX8_accepts_1 4 rfl rfl)
theorem dX8_accepts_31 : decode cX8_accepts 31 = .ok (.iload_n 1, 1) := dk_27 (dk_at dksX8_accepts_1 7 rfl rfl)
theorem dX8_accepts_32 : decode cX8_accepts 32 = .ok (.if_icmp .ne 7, 3) := dk_160 0 7 (dk_at dksX8_accepts_1 8 rfl rfl)
theorem dX8_accepts_35 : decode cX8_accepts 35 = .ok (.iconst 1, 1) := dk_4 (dk_at dksX8_accepts_1 11 rfl rfl)
theorem dX8_accepts_36 : decode cX8_accepts 36 = .ok (.goto 4, 3) := dk_167 0 4 (dk_at dksX8_accepts_1 12 rfl rfl)
theorem dX8_accepts_39 : decode cX8_accepts 39 = .ok (.iconst 0, 1) := dk_3 (dk_at dksX8_accepts_1 15 rfl rfl)
theorem dX8_accepts_40 : decode cX8_accepts 40 = .ok (.istore_n 2, 1) := dk_61 (dk_at dksX8_accepts_1 16 rfl rfl)
theorem dX8_accepts_41 : decode cX8_accepts 41 = .ok (.aload_n 0, 1) := dk_42 (dk_at dksX8_accepts_1 17 rfl rfl)
theorem dX8_accepts_42 : decode cX8_accepts 42 = .ok (.dup, 1) := dk_89 (dk_at dksX8_accepts_1 18 rfl rfl)
theorem dX8_accepts_43 : decode cX8_accepts 43 = .ok (.getfield 31, 3) := dk_180 0 31 (dk_at dksX8_accepts_1 19 rfl rfl)
theorem dX8_accepts_46 : decode cX8_accepts 46 = .ok (.iload_n 2, 1) := dk_28 (dk_at dksX8_accepts_1 22 rfl rfl)
theorem dX8_accepts_47 : decode cX8_accepts 47 = .ok (.ifCond .eq 7, 3) := dk_153 0 7 (dk_at dksX8_accepts_2 0 rfl rfl)
theorem dX8_accepts_50 : decode cX8_accepts 50 = .ok (.iconst 1, 1) := dk_4 (dk_at dksX8_accepts_2 3 rfl rfl)
theorem dX8_accepts_51 : decode cX8_accepts 51 = .ok (.goto 4, 3) := dk_167 0 4 (dk_at dksX8_accepts_2 4 rfl rfl)
theorem dX8_accepts_54 : decode cX8_accepts 54 = .ok (.iconst 0, 1) := dk_3 (dk_at dksX8_accepts_2 7 rfl rfl)
theorem dX8_accepts_55 : decode cX8_accepts 55 = .ok (.iadd, 1) := dk_96 (dk_at dksX8_accepts_2 8 rfl rfl)
theorem dX8_accepts_56 : decode cX8_accepts 56 = .ok (.putfield 31, 3) := dk_181 0 31 (dk_at dksX8_accepts_2 9 rfl rfl)
theorem dX8_accepts_59 : decode cX8_accepts 59 = .ok (.iload_n 2, 1) := dk_28 (dk_at dksX8_accepts_2 12 rfl rfl)
theorem dX8_accepts_60 : decode cX8_accepts 60 = .ok (.ireturn, 1) := dk_172 (dk_at dksX8_accepts_2 13 rfl rfl)
abbrev cX8_reads : ByteArray := prog_4_method_3_code
def yX8_reads : MethodName := ⟨RX8, "reads", "(I)Z"⟩
def dkwX8_reads_4 : List UInt8 := [3, 96, 181, 0, 31, 28, 172]
abbrev dktX8_reads_4 : List UInt8 := dkwX8_reads_4 ++ []
def dkwX8_reads_3 : List UInt8 := [182, 0, 45, 16, 48, 100, 167, 0, 4, 3, 79, 42, 89, 180, 0, 31, 28, 153, 0, 7, 4, 167, 0, 4]
abbrev dktX8_reads_3 : List UInt8 := dkwX8_reads_3 ++ dktX8_reads_4
def dkwX8_reads_2 : List UInt8 := [3, 61, 42, 180, 0, 27, 27, 28, 153, 0, 23, 42, 180, 0, 3, 180, 0, 35, 42, 180, 0, 31]
abbrev dktX8_reads_2 : List UInt8 := dkwX8_reads_2 ++ dktX8_reads_3
def dkwX8_reads_1 : List UInt8 := [42, 180, 0, 31, 182, 0, 45, 133, 20, 0, 49, 20, 0, 51, 184, 0, 53, 153, 0, 7, 4, 167, 0, 4]
abbrev dktX8_reads_1 : List UInt8 := dkwX8_reads_1 ++ dktX8_reads_2
def dkwX8_reads_0 : List UInt8 := [42, 180, 0, 31, 42, 180, 0, 3, 180, 0, 35, 182, 0, 39, 162, 0, 34, 42, 180, 0, 3, 180, 0, 35]
abbrev dktX8_reads_0 : List UInt8 := dkwX8_reads_0 ++ dktX8_reads_1
theorem dksX8_reads_0 : cX8_reads.data.toList.drop 0 = dktX8_reads_0 := by decide +kernel
theorem dksX8_reads_1 : cX8_reads.data.toList.drop 24 = dktX8_reads_1 := dk_seg dksX8_reads_0 24 rfl rfl
theorem dksX8_reads_2 : cX8_reads.data.toList.drop 48 = dktX8_reads_2 := dk_seg dksX8_reads_1 24 rfl rfl
theorem dksX8_reads_3 : cX8_reads.data.toList.drop 70 = dktX8_reads_3 := dk_seg dksX8_reads_2 22 rfl rfl
theorem dksX8_reads_4 : cX8_reads.data.toList.drop 94 = dktX8_reads_4 := dk_seg dksX8_reads_3 24 rfl rfl
theorem dX8_reads_0 : decode cX8_reads 0 = .ok (.aload_n 0, 1) := dk_42 (dk_at dksX8_reads_0 0 rfl rfl)
theorem dX8_reads_1 : decode cX8_reads 1 = .ok (.getfield 31, 3) := dk_180 0 31 (dk_at dksX8_reads_0 1 rfl rfl)
theorem dX8_reads_4 : decode cX8_reads 4 = .ok (.aload_n 0, 1) := dk_42 (dk_at dksX8_reads_0 4 rfl rfl)
theorem dX8_reads_5 : decode cX8_reads 5 = .ok (.getfield 3, 3) := dk_180 0 3 (dk_at dksX8_reads_0 5 rfl rfl)
theorem dX8_reads_8 : decode cX8_reads 8 = .ok (.getfield 35, 3) := dk_180 0 35 (dk_at dksX8_reads_0 8 rfl rfl)
theorem dX8_reads_11 : decode cX8_reads 11 = .ok (.invokevirtual 39, 3) := dk_182 0 39 (dk_at dksX8_reads_0 11 rfl rfl)
theorem dX8_reads_14 : decode cX8_reads 14 = .ok (.if_icmp .ge 34, 3) := dk_162 0 34 (dk_at dksX8_reads_0 14 rfl rfl)
theorem dX8_reads_17 : decode cX8_reads 17 = .ok (.aload_n 0, 1) := dk_42 (dk_at dksX8_reads_0 17 rfl rfl)
theorem dX8_reads_18 : decode cX8_reads 18 = .ok (.getfield 3, 3) := dk_180 0 3 (dk_at dksX8_reads_0 18 rfl rfl)
theorem dX8_reads_21 : decode cX8_reads 21 = .ok (.getfield 35, 3) := dk_180 0 35 (dk_at dksX8_reads_0 21 rfl rfl)
theorem dX8_reads_24 : decode cX8_reads 24 = .ok (.aload_n 0, 1) := dk_42 (dk_at dksX8_reads_1 0 rfl rfl)
theorem dX8_reads_25 : decode cX8_reads 25 = .ok (.getfield 31, 3) := dk_180 0 31 (dk_at dksX8_reads_1 1 rfl rfl)
theorem dX8_reads_28 : decode cX8_reads 28 = .ok (.invokevirtual 45, 3) := dk_182 0 45 (dk_at dksX8_reads_1 4 rfl rfl)
theorem dX8_reads_31 : decode cX8_reads 31 = .ok (.i2l, 1) := dk_133 (dk_at dksX8_reads_1 7 rfl rfl)
theorem dX8_reads_32 : decode cX8_reads 32 = .ok (.ldc2_w 49, 3) := dk_20 0 49 (dk_at dksX8_reads_1 8 rfl rfl)
theorem dX8_reads_35 : decode cX8_reads 35 = .ok (.ldc2_w 51, 3) := dk_20 0 51 (dk_at dksX8_reads_1 11 rfl rfl)
theorem dX8_reads_38 : decode cX8_reads 38 = .ok (.invokestatic 53, 3) := dk_184 0 53 (dk_at dksX8_reads_1 14 rfl rfl)
theorem dX8_reads_41 : decode cX8_reads 41 = .ok (.ifCond .eq 7, 3) := dk_153 0 7 (dk_at dksX8_reads_1 17 rfl rfl)
theorem dX8_reads_44 : decode cX8_reads 44 = .ok (.iconst 1, 1) := dk_4 (dk_at dksX8_reads_1 20 rfl rfl)
theorem dX8_reads_45 : decode cX8_reads 45 = .ok (.goto 4, 3) := dk_167 0 4 (dk_at dksX8_reads_1 21 rfl rfl)
theorem dX8_reads_48 : decode cX8_reads 48 = .ok (.iconst 0, 1) := dk_3 (dk_at dksX8_reads_2 0 rfl rfl)
theorem dX8_reads_49 : decode cX8_reads 49 = .ok (.istore_n 2, 1) := dk_61 (dk_at dksX8_reads_2 1 rfl rfl)
theorem dX8_reads_50 : decode cX8_reads 50 = .ok (.aload_n 0, 1) := dk_42 (dk_at dksX8_reads_2 2 rfl rfl)
theorem dX8_reads_51 : decode cX8_reads 51 = .ok (.getfield 27, 3) := dk_180 0 27 (dk_at dksX8_reads_2 3 rfl rfl)
theorem dX8_reads_54 : decode cX8_reads 54 = .ok (.iload_n 1, 1) := dk_27 (dk_at dksX8_reads_2 6 rfl rfl)
theorem dX8_reads_55 : decode cX8_reads 55 = .ok (.iload_n 2, 1) := dk_28 (dk_at dksX8_reads_2 7 rfl rfl)
theorem dX8_reads_56 : decode cX8_reads 56 = .ok (.ifCond .eq 23, 3) := dk_153 0 23 (dk_at dksX8_reads_2 8 rfl rfl)
theorem dX8_reads_59 : decode cX8_reads 59 = .ok (.aload_n 0, 1) := dk_42 (dk_at dksX8_reads_2 11 rfl rfl)
theorem dX8_reads_60 : decode cX8_reads 60 = .ok (.getfield 3, 3) := dk_180 0 3 (dk_at dksX8_reads_2 12 rfl rfl)
theorem dX8_reads_63 : decode cX8_reads 63 = .ok (.getfield 35, 3) := dk_180 0 35 (dk_at dksX8_reads_2 15 rfl rfl)
theorem dX8_reads_66 : decode cX8_reads 66 = .ok (.aload_n 0, 1) := dk_42 (dk_at dksX8_reads_2 18 rfl rfl)
theorem dX8_reads_67 : decode cX8_reads 67 = .ok (.getfield 31, 3) := dk_180 0 31 (dk_at dksX8_reads_2 19 rfl rfl)
theorem dX8_reads_70 : decode cX8_reads 70 = .ok (.invokevirtual 45, 3) := dk_182 0 45 (dk_at dksX8_reads_3 0 rfl rfl)
theorem dX8_reads_73 : decode cX8_reads 73 = .ok (.bipush 48, 2) := dk_16 48 (dk_at dksX8_reads_3 3 rfl rfl)
theorem dX8_reads_75 : decode cX8_reads 75 = .ok (.isub, 1) := dk_100 (dk_at dksX8_reads_3 5 rfl rfl)
theorem dX8_reads_76 : decode cX8_reads 76 = .ok (.goto 4, 3) := dk_167 0 4 (dk_at dksX8_reads_3 6 rfl rfl)
theorem dX8_reads_79 : decode cX8_reads 79 = .ok (.iconst 0, 1) := dk_3 (dk_at dksX8_reads_3 9 rfl rfl)
theorem dX8_reads_80 : decode cX8_reads 80 = .ok (.iastore, 1) := dk_79 (dk_at dksX8_reads_3 10 rfl rfl)
theorem dX8_reads_81 : decode cX8_reads 81 = .ok (.aload_n 0, 1) := dk_42 (dk_at dksX8_reads_3 11 rfl rfl)
theorem dX8_reads_82 : decode cX8_reads 82 = .ok (.dup, 1) := dk_89 (dk_at dksX8_reads_3 12 rfl rfl)
theorem dX8_reads_83 : decode cX8_reads 83 = .ok (.getfield 31, 3) := dk_180 0 31 (dk_at dksX8_reads_3 13 rfl rfl)
theorem dX8_reads_86 : decode cX8_reads 86 = .ok (.iload_n 2, 1) := dk_28 (dk_at dksX8_reads_3 16 rfl rfl)
theorem dX8_reads_87 : decode cX8_reads 87 = .ok (.ifCond .eq 7, 3) := dk_153 0 7 (dk_at dksX8_reads_3 17 rfl rfl)
theorem dX8_reads_90 : decode cX8_reads 90 = .ok (.iconst 1, 1) := dk_4 (dk_at dksX8_reads_3 20 rfl rfl)
theorem dX8_reads_91 : decode cX8_reads 91 = .ok (.goto 4, 3) := dk_167 0 4 (dk_at dksX8_reads_3 21 rfl rfl)
theorem dX8_reads_94 : decode cX8_reads 94 = .ok (.iconst 0, 1) := dk_3 (dk_at dksX8_reads_4 0 rfl rfl)
theorem dX8_reads_95 : decode cX8_reads 95 = .ok (.iadd, 1) := dk_96 (dk_at dksX8_reads_4 1 rfl rfl)
theorem dX8_reads_96 : decode cX8_reads 96 = .ok (.putfield 31, 3) := dk_181 0 31 (dk_at dksX8_reads_4 2 rfl rfl)
theorem dX8_reads_99 : decode cX8_reads 99 = .ok (.iload_n 2, 1) := dk_28 (dk_at dksX8_reads_4 5 rfl rfl)
theorem dX8_reads_100 : decode cX8_reads 100 = .ok (.ireturn, 1) := dk_172 (dk_at dksX8_reads_4 6 rfl rfl)
theorem q124 : (Jvm.Cond.initialized "FerryClocks$Reader") ∈ lw_all := lw_g (lw_at lw_m1 33 rfl) rfl
theorem q254 : (Jvm.Cond.fieldLinkNest "FerryClocks$Reader" (17 : Nat) "FerryClocks" "desk" "LFerryClocks$Desk;" "FerryClocks") ∈ lw_tbl := lw_at lw_m1 163 rfl
theorem q258 : (Jvm.Cond.fieldLinkNest "FerryClocks$Reader" (35 : Nat) "FerryClocks" "text" "Ljava/lang/StringBuilder;" "FerryClocks") ∈ lw_tbl := lw_at lw_m1 167 rfl
theorem q372 : (Jvm.Cond.selects "FerryClocks$Reader" ({ cls := "java/lang/Object", name := "getClass", desc := "()Ljava/lang/Class;" } : Jvm.MethodName) ({ cls := "java/lang/Object", name := "getClass", desc := "()Ljava/lang/Class;" } : Jvm.MethodName)) ∈ lw_all := lw_g (lw_at lw_m2 41 rfl) rfl
theorem q473 : (Jvm.Cond.fieldLinkNest "FerryClocks$Reader" (96 : Nat) "FerryClocks$Refused" "kind" "I" "FerryClocks") ∈ lw_tbl := lw_at lw_m2 142 rfl
theorem q1606 : (Jvm.Cond.instantiable "FerryClocks$Reader" (8 : Nat)) ∈ lw_all := lw_g (lw_at lw_m7 75 rfl) rfl
theorem q1608 : (Jvm.Cond.instanceMethod ({ cls := "FerryClocks$Reader", name := "<init>", desc := "(LFerryClocks;)V" } : Jvm.MethodName)) ∈ lw_all := lw_g (lw_at lw_m7 77 rfl) rfl
theorem q1609 : (Jvm.Cond.code ({ cls := "FerryClocks$Reader", name := "<init>", desc := "(LFerryClocks;)V" } : Jvm.MethodName) prog_4_method_1_code (2 : Nat) (Option.none : Option Jvm.ClassFile.FieldType)) ∈ lw_all := lw_g (lw_at lw_m7 78 rfl) rfl
theorem q1610 : (Jvm.Cond.methodLink "FerryClocks$Reader" (9 : Nat) ({ cls := "java/lang/Object", name := "<init>", desc := "()V" } : Jvm.MethodName)) ∈ lw_all := lw_g (lw_at lw_m7 79 rfl) rfl
theorem q1611 : (Jvm.Cond.classLink "FerryClocks$Reader" (15 : Nat) "FerryClocks$Desk") ∈ lw_all := lw_g (lw_at lw_m7 80 rfl) rfl
theorem q1612 : (Jvm.Cond.methodLink "FerryClocks$Reader" (21 : Nat) ({ cls := "FerryClocks$Desk", name := "<init>", desc := "(LFerryClocks$Desk;)V" } : Jvm.MethodName)) ∈ lw_all := lw_g (lw_at lw_m7 81 rfl) rfl
theorem q1613 : (Jvm.Cond.fieldLink "FerryClocks$Reader" (24 : Nat) "FerryClocks$Reader" "trial" "LFerryClocks$Desk;") ∈ lw_all := lw_g (lw_at lw_m7 82 rfl) rfl
theorem q1615 : (Jvm.Cond.fieldLink "FerryClocks$Reader" (27 : Nat) "FerryClocks$Reader" "numbers" "[I") ∈ lw_all := lw_g (lw_at lw_m7 84 rfl) rfl
theorem q1616 : (Jvm.Cond.fieldLink "FerryClocks$Reader" (31 : Nat) "FerryClocks$Reader" "at" "I") ∈ lw_all := lw_g (lw_at lw_m7 85 rfl) rfl
theorem q1617 : (Jvm.Cond.fieldLink "FerryClocks$Reader" (81 : Nat) "FerryClocks$Reader" "begins" "I") ∈ lw_all := lw_g (lw_at lw_m7 86 rfl) rfl
theorem q1619 : (Jvm.Cond.fieldLink "FerryClocks$Reader" (78 : Nat) "FerryClocks$Reader" "reason" "I") ∈ lw_all := lw_g (lw_at lw_m7 88 rfl) rfl
theorem q1621 : (Jvm.Cond.fieldLink "FerryClocks$Reader" (84 : Nat) "FerryClocks$Reader" "cause" "I") ∈ lw_all := lw_g (lw_at lw_m7 90 rfl) rfl
theorem q1623 : (Jvm.Cond.fieldLink "FerryClocks$Reader" (91 : Nat) "FerryClocks$Reader" "many" "I") ∈ lw_all := lw_g (lw_at lw_m7 92 rfl) rfl
theorem q1625 : (Jvm.Cond.fieldLink "FerryClocks$Reader" (3 : Nat) "FerryClocks$Reader" "this$0" "LFerryClocks;") ∈ lw_all := lw_g (lw_at lw_m7 94 rfl) rfl
theorem q1626 : (Jvm.Cond.laysFinal "FerryClocks$Reader" "FerryClocks$Reader" "trial" "LFerryClocks$Desk;") ∈ lw_all := lw_g (lw_at lw_m7 95 rfl) rfl
theorem q1627 : (Jvm.Cond.soleField "FerryClocks$Reader" "trial") ∈ lw_all := lw_g (lw_at lw_m7 96 rfl) rfl
theorem q1628 : (Jvm.Cond.laysFinal "FerryClocks$Reader" "FerryClocks$Reader" "numbers" "[I") ∈ lw_all := lw_g (lw_at lw_m7 97 rfl) rfl
theorem q1629 : (Jvm.Cond.soleField "FerryClocks$Reader" "numbers") ∈ lw_all := lw_g (lw_at lw_m7 98 rfl) rfl
theorem q1630 : (Jvm.Cond.lays "FerryClocks$Reader" "FerryClocks$Reader" "at" "I") ∈ lw_all := lw_g (lw_at lw_m7 99 rfl) rfl
theorem q1631 : (Jvm.Cond.soleField "FerryClocks$Reader" "at") ∈ lw_all := lw_g (lw_at lw_m7 100 rfl) rfl
theorem q1632 : (Jvm.Cond.lays "FerryClocks$Reader" "FerryClocks$Reader" "begins" "I") ∈ lw_all := lw_g (lw_at lw_m7 101 rfl) rfl
theorem q1633 : (Jvm.Cond.soleField "FerryClocks$Reader" "begins") ∈ lw_all := lw_g (lw_at lw_m7 102 rfl) rfl
theorem q1634 : (Jvm.Cond.lays "FerryClocks$Reader" "FerryClocks$Reader" "reason" "I") ∈ lw_all := lw_g (lw_at lw_m7 103 rfl) rfl
theorem q1635 : (Jvm.Cond.soleField "FerryClocks$Reader" "reason") ∈ lw_all := lw_g (lw_at lw_m7 104 rfl) rfl
theorem q1636 : (Jvm.Cond.lays "FerryClocks$Reader" "FerryClocks$Reader" "cause" "I") ∈ lw_all := lw_g (lw_at lw_m7 105 rfl) rfl
theorem q1637 : (Jvm.Cond.soleField "FerryClocks$Reader" "cause") ∈ lw_all := lw_g (lw_at lw_m7 106 rfl) rfl
theorem q1638 : (Jvm.Cond.lays "FerryClocks$Reader" "FerryClocks$Reader" "many" "I") ∈ lw_all := lw_g (lw_at lw_m7 107 rfl) rfl
theorem q1639 : (Jvm.Cond.soleField "FerryClocks$Reader" "many") ∈ lw_all := lw_g (lw_at lw_m7 108 rfl) rfl
theorem q1640 : (Jvm.Cond.laysFinal "FerryClocks$Reader" "FerryClocks$Reader" "this$0" "LFerryClocks;") ∈ lw_all := lw_g (lw_at lw_m7 109 rfl) rfl
theorem q1641 : (Jvm.Cond.soleField "FerryClocks$Reader" "this$0") ∈ lw_all := lw_g (lw_at lw_m7 110 rfl) rfl
theorem q1642 : (Jvm.Cond.superclass "FerryClocks$Reader" "java/lang/Object") ∈ lw_all := lw_g (lw_at lw_m7 111 rfl) rfl
theorem q1644 : (Jvm.Cond.instanceMethod ({ cls := "FerryClocks$Reader", name := "isWell", desc := "()Z" } : Jvm.MethodName)) ∈ lw_all := lw_g (lw_at lw_m7 113 rfl) rfl
theorem q1645 : (Jvm.Cond.selects "FerryClocks$Reader" ({ cls := "FerryClocks$Reader", name := "isWell", desc := "()Z" } : Jvm.MethodName) ({ cls := "FerryClocks$Reader", name := "isWell", desc := "()Z" } : Jvm.MethodName)) ∈ lw_all := lw_g (lw_at lw_m7 114 rfl) rfl
theorem q1646 : (Jvm.Cond.code ({ cls := "FerryClocks$Reader", name := "isWell", desc := "()Z" } : Jvm.MethodName) prog_4_method_6_code (1 : Nat) (Option.some Jvm.ClassFile.FieldType.boolean)) ∈ lw_all := lw_g (lw_at lw_m7 115 rfl) rfl
theorem q1647 : (Jvm.Cond.methodLink "FerryClocks$Reader" (39 : Nat) ({ cls := "java/lang/StringBuilder", name := "length", desc := "()I" } : Jvm.MethodName)) ∈ lw_all := lw_g (lw_at lw_m7 116 rfl) rfl
theorem q1648 : (Jvm.Cond.methodLink "FerryClocks$Reader" (99 : Nat) ({ cls := "FerryClocks$Reader", name := "one", desc := "()V" } : Jvm.MethodName)) ∈ lw_all := lw_g (lw_at lw_m7 117 rfl) rfl
theorem q1649 : (Jvm.Cond.privateMethod ({ cls := "FerryClocks$Reader", name := "one", desc := "()V" } : Jvm.MethodName)) ∈ lw_tbl := lw_at lw_m7 118 rfl
theorem q1650 : (Jvm.Cond.instanceMethod ({ cls := "FerryClocks$Reader", name := "one", desc := "()V" } : Jvm.MethodName)) ∈ lw_all := lw_g (lw_at lw_m7 119 rfl) rfl
theorem q1651 : (Jvm.Cond.codeWith ({ cls := "FerryClocks$Reader", name := "one", desc := "()V" } : Jvm.MethodName) prog_4_method_5_code (4 : Nat) (Option.none : Option Jvm.ClassFile.FieldType) [((108 : Nat), (131 : Nat), (134 : Nat), (94 : Nat))]) ∈ lw_all := lw_g (lw_at lw_m7 120 rfl) rfl
theorem q1652 : (Jvm.Cond.classLink "FerryClocks$Reader" (94 : Nat) "FerryClocks$Refused") ∈ lw_all := lw_g (lw_at lw_m7 121 rfl) rfl
theorem q1653 : (Jvm.Cond.methodLink "FerryClocks$Reader" (45 : Nat) ({ cls := "java/lang/StringBuilder", name := "charAt", desc := "(I)C" } : Jvm.MethodName)) ∈ lw_all := lw_g (lw_at lw_m7 122 rfl) rfl
theorem q1663 : (Jvm.Cond.stringRef "FerryClocks$Reader" (65 : Nat) "mlr") ∈ lw_tbl := lw_at lw_m7 132 rfl
theorem q1664 : (Jvm.Cond.methodLink "FerryClocks$Reader" (67 : Nat) ({ cls := "java/lang/String", name := "indexOf", desc := "(I)I" } : Jvm.MethodName)) ∈ lw_all := lw_g (lw_at lw_m7 133 rfl) rfl
theorem q1714 : (Jvm.Cond.stringRef "FerryClocks$Reader" (73 : Nat) "wt") ∈ lw_tbl := lw_at lw_m7 183 rfl
theorem q1715 : (Jvm.Cond.methodLink "FerryClocks$Reader" (75 : Nat) ({ cls := "FerryClocks$Reader", name := "isOfForm", desc := "(I)Z" } : Jvm.MethodName)) ∈ lw_all := lw_g (lw_at lw_m7 184 rfl) rfl
theorem q1716 : (Jvm.Cond.privateMethod ({ cls := "FerryClocks$Reader", name := "isOfForm", desc := "(I)Z" } : Jvm.MethodName)) ∈ lw_tbl := lw_at lw_m7 185 rfl
theorem q1717 : (Jvm.Cond.instanceMethod ({ cls := "FerryClocks$Reader", name := "isOfForm", desc := "(I)Z" } : Jvm.MethodName)) ∈ lw_all := lw_g (lw_at lw_m7 186 rfl) rfl
theorem q1718 : (Jvm.Cond.code ({ cls := "FerryClocks$Reader", name := "isOfForm", desc := "(I)Z" } : Jvm.MethodName) prog_4_method_4_code (4 : Nat) (Option.some Jvm.ClassFile.FieldType.boolean)) ∈ lw_all := lw_g (lw_at lw_m7 187 rfl) rfl
theorem q1719 : (Jvm.Cond.methodLink "FerryClocks$Reader" (57 : Nat) ({ cls := "FerryClocks$Reader", name := "accepts", desc := "(C)Z" } : Jvm.MethodName)) ∈ lw_all := lw_g (lw_at lw_m7 188 rfl) rfl
theorem q1720 : (Jvm.Cond.privateMethod ({ cls := "FerryClocks$Reader", name := "accepts", desc := "(C)Z" } : Jvm.MethodName)) ∈ lw_tbl := lw_at lw_m7 189 rfl
theorem q1721 : (Jvm.Cond.instanceMethod ({ cls := "FerryClocks$Reader", name := "accepts", desc := "(C)Z" } : Jvm.MethodName)) ∈ lw_all := lw_g (lw_at lw_m7 190 rfl) rfl
theorem q1722 : (Jvm.Cond.code ({ cls := "FerryClocks$Reader", name := "accepts", desc := "(C)Z" } : Jvm.MethodName) prog_4_method_2_code (3 : Nat) (Option.some Jvm.ClassFile.FieldType.boolean)) ∈ lw_all := lw_g (lw_at lw_m7 191 rfl) rfl
theorem q1723 : (Jvm.Cond.methodLink "FerryClocks$Reader" (61 : Nat) ({ cls := "FerryClocks$Reader", name := "reads", desc := "(I)Z" } : Jvm.MethodName)) ∈ lw_all := lw_g (lw_at lw_m7 192 rfl) rfl
theorem q1724 : (Jvm.Cond.privateMethod ({ cls := "FerryClocks$Reader", name := "reads", desc := "(I)Z" } : Jvm.MethodName)) ∈ lw_tbl := lw_at lw_m7 193 rfl
theorem q1725 : (Jvm.Cond.instanceMethod ({ cls := "FerryClocks$Reader", name := "reads", desc := "(I)Z" } : Jvm.MethodName)) ∈ lw_all := lw_g (lw_at lw_m7 194 rfl) rfl
theorem q1726 : (Jvm.Cond.code ({ cls := "FerryClocks$Reader", name := "reads", desc := "(I)Z" } : Jvm.MethodName) prog_4_method_3_code (3 : Nat) (Option.some Jvm.ClassFile.FieldType.boolean)) ∈ lw_all := lw_g (lw_at lw_m7 195 rfl) rfl
theorem q1727 : (Jvm.Cond.constantLong "FerryClocks$Reader" (49 : Nat) (48 : Int64)) ∈ lw_all := lw_g (lw_at lw_m7 196 rfl) rfl
theorem q1728 : (Jvm.Cond.constantLong "FerryClocks$Reader" (51 : Nat) (57 : Int64)) ∈ lw_all := lw_g (lw_at lw_m7 197 rfl) rfl
theorem q1729 : (Jvm.Cond.methodLinkNest "FerryClocks$Reader" (53 : Nat) ({ cls := "FerryClocks", name := "isBetween", desc := "(JJJ)Z" } : Jvm.MethodName) "FerryClocks") ∈ lw_tbl := lw_at lw_m7 198 rfl
theorem q1730 : (Jvm.Cond.methodLinkNest "FerryClocks$Reader" (87 : Nat) ({ cls := "FerryClocks", name := "done", desc := "(LFerryClocks$Desk;C[I)I" } : Jvm.MethodName) "FerryClocks") ∈ lw_tbl := lw_at lw_m7 199 rfl
theorem q2417 : (Jvm.Cond.castable "FerryClocks$Reader" "java/lang/Object") ∈ lw_tbl := lw_at lw_m10 166 rfl
theorem in_X8 : ∀ w ∈ wsX80, w ∈ lw_all := lw_in wsX80 [1626, 1628, 1630, 1632, 1634, 1636, 1638, 1640] (by decide +kernel) (by decide +kernel)
