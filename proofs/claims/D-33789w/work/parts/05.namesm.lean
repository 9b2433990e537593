/-! FerryClocksModel -/
set_option maxRecDepth 100000
def RX4 : String := "FerryClocksModel"
def TX4 : u_T := fun k => match k with
  | 0 => ("FerryClocksModel", "s", "[I", true)
  | 1 => ("FerryClocksModel", "before", "[I", true)
  | 2 => ("FerryClocksModel", "kept", "[I", true)
  | 3 => ("FerryClocksModel", "isKept", "Z", false)
  | 4 => ("FerryClocksModel", "past", "[I", true)
  | 5 => ("FerryClocksModel", "known", "I", false)
  | 6 => ("FerryClocksModel", "text", "[I", true)
  | 7 => ("FerryClocksModel", "length", "I", false)
  | 8 => ("FerryClocksModel", "thrown", "I", false)
  | 9 => ("FerryClocksModel", "tight", "[I", true)
  | 10 => ("FerryClocksModel", "other", "[I", true)
  | 11 => ("FerryClocksModel", "many", "I", false)
  | 12 => ("FerryClocksModel", "clockSum", "J", false)
  | 13 => ("FerryClocksModel", "zone", "[I", true)
  | 14 => ("FerryClocksModel", "harbourOf", "[I", true)
  | 15 => ("FerryClocksModel", "steps", "[I", true)
  | 16 => ("FerryClocksModel", "zones", "I", false)
  | 17 => ("FerryClocksModel", "ticks", "[I", true)
  | 18 => ("FerryClocksModel", "row", "[I", true)
  | 19 => ("FerryClocksModel", "rowLength", "I", false)
  | 20 => ("FerryClocksModel", "spot", "I", false)
  | 21 => ("FerryClocksModel", "begin", "I", false)
  | 22 => ("FerryClocksModel", "isForm", "Z", false)
  | 23 => ("FerryClocksModel", "letter", "I", false)
  | 24 => ("FerryClocksModel", "first", "I", false)
  | 25 => ("FerryClocksModel", "second", "I", false)
  | 26 => ("FerryClocksModel", "third", "I", false)
  | 27 => ("FerryClocksModel", "reason", "I", false)
  | _ => ("FerryClocksModel", "cause", "I", false)
def tyX4 : Nat → FieldType := fun k => match k with
  | 0 => .array .int
  | 1 => .array .int
  | 2 => .array .int
  | 3 => .boolean
  | 4 => .array .int
  | 5 => .int
  | 6 => .array .int
  | 7 => .int
  | 8 => .int
  | 9 => .array .int
  | 10 => .array .int
  | 11 => .int
  | 12 => .long
  | 13 => .array .int
  | 14 => .array .int
  | 15 => .array .int
  | 16 => .int
  | 17 => .array .int
  | 18 => .array .int
  | 19 => .int
  | 20 => .int
  | 21 => .int
  | 22 => .boolean
  | 23 => .int
  | 24 => .int
  | 25 => .int
  | 26 => .int
  | 27 => .int
  | _ => .int
abbrev wsX40 : List Cond := u_ws RX4 TX4 29
set_option maxRecDepth 100000 in
theorem nmX4 : ∀ a, a < 29 → ∀ b, b < 29 → a ≠ b → (TX4 a).2.1 ≠ (TX4 b).2.1 := by decide +kernel
set_option maxRecDepth 100000 in
theorem tyX4_ok : ∀ k, k < 29 → parseFieldDescriptor (TX4 k).2.2.1 = some (tyX4 k) := by decide +kernel
abbrev cX4_init : ByteArray := prog_9_method_1_code
def yX4_init : MethodName := ⟨RX4, "<init>", "()V"⟩
def dkwX4_init_5 : List UInt8 := [16, 18, 162, 0, 20, 42, 180, 0, 7, 16, 84, 27, 96, 16, 10, 79, 132, 1, 1, 167, 255, 236, 177]
abbrev dktX4_init_5 : List UInt8 := dkwX4_init_5 ++ []
def dkwX4_init_4 : List UInt8 := [17, 31, 50, 188, 10, 181, 0, 40, 42, 17, 31, 50, 188, 10, 181, 0, 43, 42, 182, 0, 46, 3, 60, 27]
abbrev dktX4_init_4 : List UInt8 := dkwX4_init_4 ++ dktX4_init_5
def dkwX4_init_3 : List UInt8 := [188, 10, 181, 0, 31, 42, 16, 121, 188, 10, 181, 0, 34, 42, 16, 121, 188, 10, 181, 0, 37, 42]
abbrev dktX4_init_3 : List UInt8 := dkwX4_init_3 ++ dktX4_init_4
def dkwX4_init_2 : List UInt8 := [181, 0, 22, 42, 16, 16, 188, 10, 181, 0, 25, 42, 16, 16, 188, 10, 181, 0, 28, 42, 17, 7, 144]
abbrev dktX4_init_2 : List UInt8 := dkwX4_init_2 ++ dktX4_init_3
def dkwX4_init_1 : List UInt8 := [17, 0, 194, 188, 10, 181, 0, 16, 42, 17, 3, 8, 188, 10, 181, 0, 19, 42, 16, 60, 188, 10]
abbrev dktX4_init_1 : List UInt8 := dkwX4_init_1 ++ dktX4_init_2
def dkwX4_init_0 : List UInt8 := [42, 183, 0, 1, 42, 17, 0, 194, 188, 10, 181, 0, 7, 42, 17, 0, 194, 188, 10, 181, 0, 13, 42]
abbrev dktX4_init_0 : List UInt8 := dkwX4_init_0 ++ dktX4_init_1
theorem dksX4_init_0 : cX4_init.data.toList.drop 0 = dktX4_init_0 := by decide +kernel
theorem dksX4_init_1 : cX4_init.data.toList.drop 23 = dktX4_init_1 := dk_seg dksX4_init_0 23 rfl rfl
theorem dksX4_init_2 : cX4_init.data.toList.drop 45 = dktX4_init_2 := dk_seg dksX4_init_1 22 rfl rfl
theorem dksX4_init_3 : cX4_init.data.toList.drop 68 = dktX4_init_3 := dk_seg dksX4_init_2 23 rfl rfl
theorem dksX4_init_4 : cX4_init.data.toList.drop 90 = dktX4_init_4 := dk_seg dksX4_init_3 22 rfl rfl
theorem dksX4_init_5 : cX4_init.data.toList.drop 114 = dktX4_init_5 := dk_seg dksX4_init_4 24 rfl rfl
theorem dX4_init_0 : decode cX4_init 0 = .ok (.aload_n 0, 1) := dk_42 (dk_at dksX4_init_0 0 rfl rfl)
theorem dX4_init_1 : decode cX4_init 1 = .ok (.invokespecial 1, 3) := dk_183 0 1 (dk_at dksX4_init_0 1 rfl rfl)
theorem dX4_init_4 : decode cX4_init 4 = .ok (.aload_n 0, 1) := dk_42 (dk_at dksX4_init_0 4 rfl rfl)
theorem dX4_init_5 : decode cX4_init 5 = .ok (.sipush 194, 3) := dk_17 0 194 (dk_at dksX4_init_0 5 rfl rfl)
theorem dX4_init_8 : decode cX4_init 8 = .ok (.newarray .int, 2) := dk_188_10 (dk_at dksX4_init_0 8 rfl rfl)
theorem dX4_init_10 : decode cX4_init 10 = .ok (.putfield 7, 3) := dk_181 0 7 (dk_at dksX4_init_0 10 rfl rfl)
theorem dX4_init_13 : decode cX4_init 13 = .ok (.aload_n 0, 1) := dk_42 (dk_at dksX4_init_0 13 rfl rfl)
theorem dX4_init_14 : decode cX4_init 14 = .ok (.sipush 194, 3) := dk_17 0 194 (dk_at dksX4_init_0 14 rfl rfl)
theorem dX4_init_17 : decode cX4_init 17 = .ok (.newarray .int, 2) := dk_188_10 (dk_at dksX4_init_0 17 rfl rfl)
theorem dX4_init_19 : decode cX4_init 19 = .ok (.putfield 13, 3) := dk_181 0 13 (dk_at dksX4_init_0 19 rfl rfl)
theorem dX4_init_22 : decode cX4_init 22 = .ok (.aload_n 0, 1) := dk_42 (dk_at dksX4_init_0 22 rfl rfl)
theorem dX4_init_23 : decode cX4_init 23 = .ok (.sipush 194, 3) := dk_17 0 194 (dk_at dksX4_init_1 0 rfl rfl)
theorem dX4_init_26 : decode cX4_init 26 = .ok (.newarray .int, 2) := dk_188_10 (dk_at dksX4_init_1 3 rfl rfl)
theorem dX4_init_28 : decode cX4_init 28 = .ok (.putfield 16, 3) := dk_181 0 16 (dk_at dksX4_init_1 5 rfl rfl)
theorem dX4_init_31 : decode cX4_init 31 = .ok (.aload_n 0, 1) := dk_42 (dk_at dksX4_init_1 8 rfl rfl)
theorem dX4_init_32 : decode cX4_init 32 = .ok (.sipush 776, 3) := dk_17 3 8 (dk_at dksX4_init_1 9 rfl rfl)
theorem dX4_init_35 : decode cX4_init 35 = .ok (.newarray .int, 2) := dk_188_10 (dk_at dksX4_init_1 12 rfl rfl)
theorem dX4_init_37 : decode cX4_init 37 = .ok (.putfield 19, 3) := dk_181 0 19 (dk_at dksX4_init_1 14 rfl rfl)
theorem dX4_init_40 : decode cX4_init 40 = .ok (.aload_n 0, 1) := dk_42 (dk_at dksX4_init_1 17 rfl rfl)
theorem dX4_init_41 : decode cX4_init 41 = .ok (.bipush 60, 2) := dk_16 60 (dk_at dksX4_init_1 18 rfl rfl)
theorem dX4_init_43 : decode cX4_init 43 = .ok (.newarray .int, 2) := dk_188_10 (dk_at dksX4_init_1 20 rfl rfl)
theorem dX4_init_45 : decode cX4_init 45 = .ok (.putfield 22, 3) := dk_181 0 22 (dk_at dksX4_init_2 0 rfl rfl)
theorem dX4_init_48 : decode cX4_init 48 = .ok (.aload_n 0, 1) := dk_42 (dk_at dksX4_init_2 3 rfl rfl)
theorem dX4_init_49 : decode cX4_init 49 = .ok (.bipush 16, 2) := dk_16 16 (dk_at dksX4_init_2 4 rfl rfl)
theorem dX4_init_51 : decode cX4_init 51 = .ok (.newarray .int, 2) := dk_188_10 (dk_at dksX4_init_2 6 rfl rfl)
theorem dX4_init_53 : decode cX4_init 53 = .ok (.putfield 25, 3) := dk_181 0 25 (dk_at dksX4_init_2 8 rfl rfl)
theorem dX4_init_56 : decode cX4_init 56 = .ok (.aload_n 0, 1) := dk_42 (dk_at dksX4_init_2 11 rfl rfl)
theorem dX4_init_57 : decode cX4_init 57 = .ok (.bipush 16, 2) := dk_16 16 (dk_at dksX4_init_2 12 rfl rfl)
theorem dX4_init_59 : decode cX4_init 59 = .ok (.newarray .int, 2) := dk_188_10 (dk_at dksX4_init_2 14 rfl rfl)
theorem dX4_init_61 : decode cX4_init 61 = .ok (.putfield 28, 3) := dk_181 0 28 (dk_at dksX4_init_2 16 rfl rfl)
theorem dX4_init_64 : decode cX4_init 64 = .ok (.aload_n 0, 1) := dk_42 (dk_at dksX4_init_2 19 rfl rfl)
theorem dX4_init_65 : decode cX4_init 65 = .ok (.sipush 1936, 3) := dk_17 7 144 (dk_at dksX4_init_2 20 rfl rfl)
theorem dX4_init_68 : decode cX4_init 68 = .ok (.newarray .int, 2) := dk_188_10 (dk_at dksX4_init_3 0 rfl rfl)
theorem dX4_init_70 : decode cX4_init 70 = .ok (.putfield 31, 3) := dk_181 0 31 (dk_at dksX4_init_3 2 rfl rfl)
theorem dX4_init_73 : decode cX4_init 73 = .ok (.aload_n 0, 1) := dk_42 (dk_at dksX4_init_3 5 rfl rfl)
theorem dX4_init_74 : decode cX4_init 74 = .ok (.bipush 121, 2) := dk_16 121 (dk_at dksX4_init_3 6 rfl rfl)
theorem dX4_init_76 : decode cX4_init 76 = .ok (.newarray .int, 2) := dk_188_10 (dk_at dksX4_init_3 8 rfl rfl)
theorem dX4_init_78 : decode cX4_init 78 = .ok (.putfield 34, 3) := dk_181 0 34 (dk_at dksX4_init_3 10 rfl rfl)
theorem dX4_init_81 : decode cX4_init 81 = .ok (.aload_n 0, 1) := dk_42 (dk_at dksX4_init_3 13 rfl rfl)
theorem dX4_init_82 : decode cX4_init 82 = .ok (.bipush 121, 2) := dk_16 121 (dk_at dksX4_init_3 14 rfl rfl)
theorem dX4_init_84 : decode cX4_init 84 = .ok (.newarray .int, 2) := dk_188_10 (dk_at dksX4_init_3 16 rfl rfl)
theorem dX4_init_86 : decode cX4_init 86 = .ok (.putfield 37, 3) := dk_181 0 37 (dk_at dksX4_init_3 18 rfl rfl)
theorem dX4_init_89 : decode cX4_init 89 = .ok (.aload_n 0, 1) := dk_42 (dk_at dksX4_init_3 21 rfl rfl)
theorem dX4_init_90 : decode cX4_init 90 = .ok (.sipush 7986, 3) := dk_17 31 50 (dk_at dksX4_init_4 0 rfl rfl)
theorem dX4_init_93 : decode cX4_init 93 = .ok (.newarray .int, 2) := dk_188_10 (dk_at dksX4_init_4 3 rfl rfl)
theorem dX4_init_95 : decode cX4_init 95 = .ok (.putfield 40, 3) := dk_181 0 40 (dk_at dksX4_init_4 5 rfl rfl)
theorem dX4_init_98 : decode cX4_init 98 = .ok (.aload_n 0, 1) := dk_42 (dk_at dksX4_init_4 8 rfl rfl)
theorem dX4_init_99 : decode cX4_init 99 = .ok (.sipush 7986, 3) := dk_17 31 50 (dk_at dksX4_init_4 9 rfl rfl)
theorem dX4_init_102 : decode cX4_init 102 = .ok (.newarray .int, 2) := dk_188_10 (dk_at dksX4_init_4 12 rfl rfl)
theorem dX4_init_104 : decode cX4_init 104 = .ok (.putfield 43, 3) := dk_181 0 43 (dk_at dksX4_init_4 14 rfl rfl)
theorem dX4_init_107 : decode cX4_init 107 = .ok (.aload_n 0, 1) := dk_42 (dk_at dksX4_init_4 17 rfl rfl)
theorem dX4_init_108 : decode cX4_init 108 = .ok (.invokevirtual 46, 3) := dk_182 0 46 (dk_at dksX4_init_4 18 rfl rfl)
theorem dX4_init_111 : decode cX4_init 111 = .ok (.iconst 0, 1) := dk_3 (dk_at dksX4_init_4 21 rfl rfl)
theorem dX4_init_112 : decode cX4_init 112 = .ok (.istore_n 1, 1) := dk_60 (dk_at dksX4_init_4 22 rfl rfl)
theorem dX4_init_113 : decode cX4_init 113 = .ok (.iload_n 1, 1) := dk_27 (dk_at dksX4_init_4 23 rfl rfl)
theorem dX4_init_114 : decode cX4_init 114 = .ok (.bipush 18, 2) := dk_16 18 (dk_at dksX4_init_5 0 rfl rfl)
theorem dX4_init_116 : decode cX4_init 116 = .ok (.if_icmp .ge 20, 3) := dk_162 0 20 (dk_at dksX4_init_5 2 rfl rfl)
theorem dX4_init_119 : decode cX4_init 119 = .ok (.aload_n 0, 1) := dk_42 (dk_at dksX4_init_5 5 rfl rfl)
theorem dX4_init_120 : decode cX4_init 120 = .ok (.getfield 7, 3) := dk_180 0 7 (dk_at dksX4_init_5 6 rfl rfl)
theorem dX4_init_123 : decode cX4_init 123 = .ok (.bipush 84, 2) := dk_16 84 (dk_at dksX4_init_5 9 rfl rfl)
theorem dX4_init_125 : decode cX4_init 125 = .ok (.iload_n 1, 1) := dk_27 (dk_at dksX4_init_5 11 rfl rfl)
theorem dX4_init_126 : decode cX4_init 126 = .ok (.iadd, 1) := dk_96 (dk_at dksX4_init_5 12 rfl rfl)
theorem dX4_init_127 : decode cX4_init 127 = .ok (.bipush 10, 2) := dk_16 10 (dk_at dksX4_init_5 13 rfl rfl)
theorem dX4_init_129 : decode cX4_init 129 = .ok (.iastore, 1) := dk_79 (dk_at dksX4_init_5 15 rfl rfl)
theorem dX4_init_130 : decode cX4_init 130 = .ok (.iinc 1 1, 3) := dk_132 1 1 (dk_at dksX4_init_5 16 rfl rfl)
theorem dX4_init_133 : decode cX4_init 133 = .ok (.goto (-20), 3) := dk_167 255 236 (dk_at dksX4_init_5 19 rfl rfl)
theorem dX4_init_136 : decode cX4_init 136 = .ok (.return_, 1) := dk_177 (dk_at dksX4_init_5 22 rfl rfl)
abbrev cX4_frees : ByteArray := prog_9_method_12_code
def yX4_frees : MethodName := ⟨RX4, "frees", "()V"⟩
def dkwX4_frees_1 : List UInt8 := [27, 7, 108, 6, 160, 0, 7, 3, 167, 0, 5, 18, 67, 79, 132, 1, 1, 167, 255, 217, 177]
abbrev dktX4_frees_1 : List UInt8 := dkwX4_frees_1 ++ []
def dkwX4_frees_0 : List UInt8 := [3, 60, 27, 16, 16, 162, 0, 39, 42, 180, 0, 7, 3, 27, 96, 27, 7, 108, 27, 7, 112, 159, 0, 10]
abbrev dktX4_frees_0 : List UInt8 := dkwX4_frees_0 ++ dktX4_frees_1
theorem dksX4_frees_0 : cX4_frees.data.toList.drop 0 = dktX4_frees_0 := by decide +kernel
theorem dksX4_frees_1 : cX4_frees.data.toList.drop 24 = dktX4_frees_1 := dk_seg dksX4_frees_0 24 rfl rfl
theorem dX4_frees_0 : decode cX4_frees 0 = .ok (.iconst 0, 1) := dk_3 (dk_at dksX4_frees_0 0 rfl rfl)
theorem dX4_frees_1 : decode cX4_frees 1 = .ok (.istore_n 1, 1) := dk_60 (dk_at dksX4_frees_0 1 rfl rfl)
theorem dX4_frees_2 : decode cX4_frees 2 = .ok (.iload_n 1, 1) := dk_27 (dk_at dksX4_frees_0 2 rfl rfl)
theorem dX4_frees_3 : decode cX4_frees 3 = .ok (.bipush 16, 2) := dk_16 16 (dk_at dksX4_frees_0 3 rfl rfl)
theorem dX4_frees_5 : decode cX4_frees 5 = .ok (.if_icmp .ge 39, 3) := dk_162 0 39 (dk_at dksX4_frees_0 5 rfl rfl)
theorem dX4_frees_8 : decode cX4_frees 8 = .ok (.aload_n 0, 1) := dk_42 (dk_at dksX4_frees_0 8 rfl rfl)
theorem dX4_frees_9 : decode cX4_frees 9 = .ok (.getfield 7, 3) := dk_180 0 7 (dk_at dksX4_frees_0 9 rfl rfl)
theorem dX4_frees_12 : decode cX4_frees 12 = .ok (.iconst 0, 1) := dk_3 (dk_at dksX4_frees_0 12 rfl rfl)
theorem dX4_frees_13 : decode cX4_frees 13 = .ok (.iload_n 1, 1) := dk_27 (dk_at dksX4_frees_0 13 rfl rfl)
theorem dX4_frees_14 : decode cX4_frees 14 = .ok (.iadd, 1) := dk_96 (dk_at dksX4_frees_0 14 rfl rfl)
theorem dX4_frees_15 : decode cX4_frees 15 = .ok (.iload_n 1, 1) := dk_27 (dk_at dksX4_frees_0 15 rfl rfl)
theorem dX4_frees_16 : decode cX4_frees 16 = .ok (.iconst 4, 1) := dk_7 (dk_at dksX4_frees_0 16 rfl rfl)
theorem dX4_frees_17 : decode cX4_frees 17 = .ok (.idiv, 1) := dk_108 (dk_at dksX4_frees_0 17 rfl rfl)
theorem dX4_frees_18 : decode cX4_frees 18 = .ok (.iload_n 1, 1) := dk_27 (dk_at dksX4_frees_0 18 rfl rfl)
theorem dX4_frees_19 : decode cX4_frees 19 = .ok (.iconst 4, 1) := dk_7 (dk_at dksX4_frees_0 19 rfl rfl)
theorem dX4_frees_20 : decode cX4_frees 20 = .ok (.irem, 1) := dk_112 (dk_at dksX4_frees_0 20 rfl rfl)
theorem dX4_frees_21 : decode cX4_frees 21 = .ok (.if_icmp .eq 10, 3) := dk_159 0 10 (dk_at dksX4_frees_0 21 rfl rfl)
theorem dX4_frees_24 : decode cX4_frees 24 = .ok (.iload_n 1, 1) := dk_27 (dk_at dksX4_frees_1 0 rfl rfl)
theorem dX4_frees_25 : decode cX4_frees 25 = .ok (.iconst 4, 1) := dk_7 (dk_at dksX4_frees_1 1 rfl rfl)
theorem dX4_frees_26 : decode cX4_frees 26 = .ok (.idiv, 1) := dk_108 (dk_at dksX4_frees_1 2 rfl rfl)
theorem dX4_frees_27 : decode cX4_frees 27 = .ok (.iconst 3, 1) := dk_6 (dk_at dksX4_frees_1 3 rfl rfl)
theorem dX4_frees_28 : decode cX4_frees 28 = .ok (.if_icmp .ne 7, 3) := dk_160 0 7 (dk_at dksX4_frees_1 4 rfl rfl)
theorem dX4_frees_31 : decode cX4_frees 31 = .ok (.iconst 0, 1) := dk_3 (dk_at dksX4_frees_1 7 rfl rfl)
theorem dX4_frees_32 : decode cX4_frees 32 = .ok (.goto 5, 3) := dk_167 0 5 (dk_at dksX4_frees_1 8 rfl rfl)
theorem dX4_frees_35 : decode cX4_frees 35 = .ok (.ldc 67, 2) := dk_18 67 (dk_at dksX4_frees_1 11 rfl rfl)
theorem dX4_frees_37 : decode cX4_frees 37 = .ok (.iastore, 1) := dk_79 (dk_at dksX4_frees_1 13 rfl rfl)
theorem dX4_frees_38 : decode cX4_frees 38 = .ok (.iinc 1 1, 3) := dk_132 1 1 (dk_at dksX4_frees_1 14 rfl rfl)
theorem dX4_frees_41 : decode cX4_frees 41 = .ok (.goto (-39), 3) := dk_167 255 217 (dk_at dksX4_frees_1 17 rfl rfl)
theorem dX4_frees_44 : decode cX4_frees 44 = .ok (.return_, 1) := dk_177 (dk_at dksX4_frees_1 20 rfl rfl)
abbrev cX4_thrown : ByteArray := prog_9_method_2_code
def yX4_thrown : MethodName := ⟨RX4, "thrown", "()I"⟩
theorem dX4_thrown_0 : decode cX4_thrown 0 = .ok (.aload_n 0, 1) := by decide +kernel
theorem dX4_thrown_1 : decode cX4_thrown 1 = .ok (.getfield 49, 3) := by decide +kernel
theorem dX4_thrown_4 : decode cX4_thrown 4 = .ok (.ireturn, 1) := by decide +kernel
abbrev cX4_tell : ByteArray := prog_9_method_40_code
def yX4_tell : MethodName := ⟨RX4, "tell", "(III)Z"⟩
def dkwX4_tell_1 : List UInt8 := [172]
abbrev dktX4_tell_1 : List UInt8 := dkwX4_tell_1 ++ []
def dkwX4_tell_0 : List UInt8 := [42, 182, 0, 127, 42, 42, 27, 28, 29, 182, 0, 130, 182, 0, 134, 4, 160, 0, 7, 4, 167, 0, 4, 3]
abbrev dktX4_tell_0 : List UInt8 := dkwX4_tell_0 ++ dktX4_tell_1
theorem dksX4_tell_0 : cX4_tell.data.toList.drop 0 = dktX4_tell_0 := by decide +kernel
theorem dksX4_tell_1 : cX4_tell.data.toList.drop 24 = dktX4_tell_1 := dk_seg dksX4_tell_0 24 rfl rfl
theorem dX4_tell_0 : decode cX4_tell 0 = .ok (.aload_n 0, 1) := dk_42 (dk_at dksX4_tell_0 0 rfl rfl)
theorem dX4_tell_1 : decode cX4_tell 1 = .ok (.invokevirtual 127, 3) := dk_182 0 127 (dk_at dksX4_tell_0 1 rfl rfl)
theorem dX4_tell_4 : decode cX4_tell 4 = .ok (.aload_n 0, 1) := dk_42 (dk_at dksX4_tell_0 4 rfl rfl)
theorem dX4_tell_5 : decode cX4_tell 5 = .ok (.aload_n 0, 1) := dk_42 (dk_at dksX4_tell_0 5 rfl rfl)
theorem dX4_tell_6 : decode cX4_tell 6 = .ok (.iload_n 1, 1) := dk_27 (dk_at dksX4_tell_0 6 rfl rfl)
theorem dX4_tell_7 : decode cX4_tell 7 = .ok (.iload_n 2, 1) := dk_28 (dk_at dksX4_tell_0 7 rfl rfl)
theorem dX4_tell_8 : decode cX4_tell 8 = .ok (.iload_n 3, 1) := dk_29 (dk_at dksX4_tell_0 8 rfl rfl)
theorem dX4_tell_9 : decode cX4_tell 9 = .ok (.invokevirtual 130, 3) := dk_182 0 130 (dk_at dksX4_tell_0 9 rfl rfl)
theorem dX4_tell_12 : decode cX4_tell 12 = .ok (.invokevirtual 134, 3) := dk_182 0 134 (dk_at dksX4_tell_0 12 rfl rfl)
theorem dX4_tell_15 : decode cX4_tell 15 = .ok (.iconst 1, 1) := dk_4 (dk_at dksX4_tell_0 15 rfl rfl)
theorem dX4_tell_16 : decode cX4_tell 16 = .ok (.if_icmp .ne 7, 3) := dk_160 0 7 (dk_at dksX4_tell_0 16 rfl rfl)
theorem dX4_tell_19 : decode cX4_tell 19 = .ok (.iconst 1, 1) := dk_4 (dk_at dksX4_tell_0 19 rfl rfl)
theorem dX4_tell_20 : decode cX4_tell 20 = .ok (.goto 4, 3) := dk_167 0 4 (dk_at dksX4_tell_0 20 rfl rfl)
theorem dX4_tell_23 : decode cX4_tell 23 = .ok (.iconst 0, 1) := dk_3 (dk_at dksX4_tell_0 23 rfl rfl)
theorem dX4_tell_24 : decode cX4_tell 24 = .ok (.ireturn, 1) := dk_172 (dk_at dksX4_tell_1 0 rfl rfl)
abbrev cX4_begins : ByteArray := prog_9_method_9_code
def yX4_begins : MethodName := ⟨RX4, "begins", "()V"⟩
def dkwX4_begins_0 : List UInt8 := [42, 3, 181, 0, 49, 42, 180, 0, 7, 3, 42, 180, 0, 13, 3, 184, 0, 53, 177]
abbrev dktX4_begins_0 : List UInt8 := dkwX4_begins_0 ++ []
theorem dksX4_begins_0 : cX4_begins.data.toList.drop 0 = dktX4_begins_0 := by decide +kernel
theorem dX4_begins_0 : decode cX4_begins 0 = .ok (.aload_n 0, 1) := dk_42 (dk_at dksX4_begins_0 0 rfl rfl)
theorem dX4_begins_1 : decode cX4_begins 1 = .ok (.iconst 0, 1) := dk_3 (dk_at dksX4_begins_0 1 rfl rfl)
theorem dX4_begins_2 : decode cX4_begins 2 = .ok (.putfield 49, 3) := dk_181 0 49 (dk_at dksX4_begins_0 2 rfl rfl)
theorem dX4_begins_5 : decode cX4_begins 5 = .ok (.aload_n 0, 1) := dk_42 (dk_at dksX4_begins_0 5 rfl rfl)
theorem dX4_begins_6 : decode cX4_begins 6 = .ok (.getfield 7, 3) := dk_180 0 7 (dk_at dksX4_begins_0 6 rfl rfl)
theorem dX4_begins_9 : decode cX4_begins 9 = .ok (.iconst 0, 1) := dk_3 (dk_at dksX4_begins_0 9 rfl rfl)
theorem dX4_begins_10 : decode cX4_begins 10 = .ok (.aload_n 0, 1) := dk_42 (dk_at dksX4_begins_0 10 rfl rfl)
theorem dX4_begins_11 : decode cX4_begins 11 = .ok (.getfield 13, 3) := dk_180 0 13 (dk_at dksX4_begins_0 11 rfl rfl)
theorem dX4_begins_14 : decode cX4_begins 14 = .ok (.iconst 0, 1) := dk_3 (dk_at dksX4_begins_0 14 rfl rfl)
theorem dX4_begins_15 : decode cX4_begins 15 = .ok (.invokestatic 53, 3) := dk_184 0 53 (dk_at dksX4_begins_0 15 rfl rfl)
theorem dX4_begins_18 : decode cX4_begins 18 = .ok (.return_, 1) := dk_177 (dk_at dksX4_begins_0 18 rfl rfl)
abbrev cX4_copies : ByteArray := prog_9_method_8_code
def yX4_copies : MethodName := ⟨RX4, "copies", "([II[II)V"⟩
def dkwX4_copies_1 : List UInt8 := [132, 4, 1, 167, 255, 233, 177]
abbrev dktX4_copies_1 : List UInt8 := dkwX4_copies_1 ++ []
def dkwX4_copies_0 : List UInt8 := [3, 54, 4, 21, 4, 17, 0, 194, 162, 0, 21, 44, 29, 21, 4, 96, 42, 27, 21, 4, 96, 46, 79]
abbrev dktX4_copies_0 : List UInt8 := dkwX4_copies_0 ++ dktX4_copies_1
theorem dksX4_copies_0 : cX4_copies.data.toList.drop 0 = dktX4_copies_0 := by decide +kernel
theorem dksX4_copies_1 : cX4_copies.data.toList.drop 23 = dktX4_copies_1 := dk_seg dksX4_copies_0 23 rfl rfl
theorem dX4_copies_0 : decode cX4_copies 0 = .ok (.iconst 0, 1) := dk_3 (dk_at dksX4_copies_0 0 rfl rfl)
theorem dX4_copies_1 : decode cX4_copies 1 = .ok (.istore 4, 2) := dk_54 4 (dk_at dksX4_copies_0 1 rfl rfl)
theorem dX4_copies_3 : decode cX4_copies 3 = .ok (.iload 4, 2) := dk_21 4 (dk_at dksX4_copies_0 3 rfl rfl)
theorem dX4_copies_5 : decode cX4_copies 5 = .ok (.sipush 194, 3) := dk_17 0 194 (dk_at dksX4_copies_0 5 rfl rfl)
theorem dX4_copies_8 : decode cX4_copies 8 = .ok (.if_icmp .ge 21, 3) := dk_162 0 21 (dk_at dksX4_copies_0 8 rfl rfl)
theorem dX4_copies_11 : decode cX4_copies 11 = .ok (.aload_n 2, 1) := dk_44 (dk_at dksX4_copies_0 11 rfl rfl)
theorem dX4_copies_12 : decode cX4_copies 12 = .ok (.iload_n 3, 1) := dk_29 (dk_at dksX4_copies_0 12 rfl rfl)
theorem dX4_copies_13 : decode cX4_copies 13 = .ok (.iload 4, 2) := dk_21 4 (dk_at dksX4_copies_0 13 rfl rfl)
theorem dX4_copies_15 : decode cX4_copies 15 = .ok (.iadd, 1) := dk_96 (dk_at dksX4_copies_0 15 rfl rfl)
theorem dX4_copies_16 : decode cX4_copies 16 = .ok (.aload_n 0, 1) := dk_42 (dk_at dksX4_copies_0 16 rfl rfl)
theorem dX4_copies_17 : decode cX4_copies 17 = .ok (.iload_n 1, 1) := dk_27 (dk_at dksX4_copies_0 17 rfl rfl)
theorem dX4_copies_18 : decode cX4_copies 18 = .ok (.iload 4, 2) := dk_21 4 (dk_at dksX4_copies_0 18 rfl rfl)
theorem dX4_copies_20 : decode cX4_copies 20 = .ok (.iadd, 1) := dk_96 (dk_at dksX4_copies_0 20 rfl rfl)
theorem dX4_copies_21 : decode cX4_copies 21 = .ok (.iaload, 1) := dk_46 (dk_at dksX4_copies_0 21 rfl rfl)
theorem dX4_copies_22 : decode cX4_copies 22 = .ok (.iastore, 1) := dk_79 (dk_at dksX4_copies_0 22 rfl rfl)
theorem dX4_copies_23 : decode cX4_copies 23 = .ok (.iinc 4 1, 3) := dk_132 4 1 (dk_at dksX4_copies_1 0 rfl rfl)
theorem dX4_copies_26 : decode cX4_copies 26 = .ok (.goto (-23), 3) := dk_167 255 233 (dk_at dksX4_copies_1 3 rfl rfl)
theorem dX4_copies_29 : decode cX4_copies 29 = .ok (.return_, 1) := dk_177 (dk_at dksX4_copies_1 6 rfl rfl)
abbrev cX4_goTell : ByteArray := prog_9_method_26_code
def yX4_goTell : MethodName := ⟨RX4, "goTell", "(III)I"⟩
def dkwX4_goTell_4 : List UInt8 := [21, 5, 153, 0, 7, 4, 167, 0, 4, 3, 172]
abbrev dktX4_goTell_4 : List UInt8 := dkwX4_goTell_4 ++ []
def dkwX4_goTell_3 : List UInt8 := [167, 0, 10, 42, 180, 0, 7, 21, 4, 46, 79, 42, 182, 0, 86, 153, 0, 8, 16, 244, 167, 0, 13]
abbrev dktX4_goTell_3 : List UInt8 := dkwX4_goTell_3 ++ dktX4_goTell_4
def dkwX4_goTell_2 : List UInt8 := [46, 29, 164, 0, 7, 4, 167, 0, 4, 3, 54, 5, 42, 180, 0, 7, 21, 4, 21, 5, 153, 0, 7, 29]
abbrev dktX4_goTell_2 : List UInt8 := dkwX4_goTell_2 ++ dktX4_goTell_3
def dkwX4_goTell_1 : List UInt8 := [184, 0, 92, 154, 0, 6, 16, 245, 172, 3, 7, 27, 104, 96, 28, 96, 54, 4, 42, 180, 0, 7, 21, 4]
abbrev dktX4_goTell_1 : List UInt8 := dkwX4_goTell_1 ++ dktX4_goTell_2
def dkwX4_goTell_0 : List UInt8 := [27, 28, 184, 0, 96, 153, 0, 23, 29, 16, 247, 27, 6, 160, 0, 7, 3, 167, 0, 5, 16, 9]
abbrev dktX4_goTell_0 : List UInt8 := dkwX4_goTell_0 ++ dktX4_goTell_1
theorem dksX4_goTell_0 : cX4_goTell.data.toList.drop 0 = dktX4_goTell_0 := by decide +kernel
theorem dksX4_goTell_1 : cX4_goTell.data.toList.drop 22 = dktX4_goTell_1 := dk_seg dksX4_goTell_0 22 rfl rfl
theorem dksX4_goTell_2 : cX4_goTell.data.toList.drop 46 = dktX4_goTell_2 := dk_seg dksX4_goTell_1 24 rfl rfl
theorem dksX4_goTell_3 : cX4_goTell.data.toList.drop 70 = dktX4_goTell_3 := dk_seg dksX4_goTell_2 24 rfl rfl
theorem dksX4_goTell_4 : cX4_goTell.data.toList.drop 93 = dktX4_goTell_4 := dk_seg dksX4_goTell_3 23 rfl rfl
theorem dX4_goTell_0 : decode cX4_goTell 0 = .ok (.iload_n 1, 1) := dk_27 (dk_at dksX4_goTell_0 0 rfl rfl)
theorem dX4_goTell_1 : decode cX4_goTell 1 = .ok (.iload_n 2, 1) := dk_28 (dk_at dksX4_goTell_0 1 rfl rfl)
theorem dX4_goTell_2 : decode cX4_goTell 2 = .ok (.invokestatic 96, 3) := dk_184 0 96 (dk_at dksX4_goTell_0 2 rfl rfl)
theorem dX4_goTell_5 : decode cX4_goTell 5 = .ok (.ifCond .eq 23, 3) := dk_153 0 23 (dk_at dksX4_goTell_0 5 rfl rfl)
theorem dX4_goTell_8 : decode cX4_goTell 8 = .ok (.iload_n 3, 1) := dk_29 (dk_at dksX4_goTell_0 8 rfl rfl)
theorem dX4_goTell_9 : decode cX4_goTell 9 = .ok (.bipush (-9), 2) := dk_16 247 (dk_at dksX4_goTell_0 9 rfl rfl)
theorem dX4_goTell_11 : decode cX4_goTell 11 = .ok (.iload_n 1, 1) := dk_27 (dk_at dksX4_goTell_0 11 rfl rfl)
theorem dX4_goTell_12 : decode cX4_goTell 12 = .ok (.iconst 3, 1) := dk_6 (dk_at dksX4_goTell_0 12 rfl rfl)
theorem dX4_goTell_13 : decode cX4_goTell 13 = .ok (.if_icmp .ne 7, 3) := dk_160 0 7 (dk_at dksX4_goTell_0 13 rfl rfl)
theorem dX4_goTell_16 : decode cX4_goTell 16 = .ok (.iconst 0, 1) := dk_3 (dk_at dksX4_goTell_0 16 rfl rfl)
theorem dX4_goTell_17 : decode cX4_goTell 17 = .ok (.goto 5, 3) := dk_167 0 5 (dk_at dksX4_goTell_0 17 rfl rfl)
theorem dX4_goTell_20 : decode cX4_goTell 20 = .ok (.bipush 9, 2) := dk_16 9 (dk_at dksX4_goTell_0 20 rfl rfl)
theorem dX4_goTell_22 : decode cX4_goTell 22 = .ok (.invokestatic 92, 3) := dk_184 0 92 (dk_at dksX4_goTell_1 0 rfl rfl)
theorem dX4_goTell_25 : decode cX4_goTell 25 = .ok (.ifCond .ne 6, 3) := dk_154 0 6 (dk_at dksX4_goTell_1 3 rfl rfl)
theorem dX4_goTell_28 : decode cX4_goTell 28 = .ok (.bipush (-11), 2) := dk_16 245 (dk_at dksX4_goTell_1 6 rfl rfl)
theorem dX4_goTell_30 : decode cX4_goTell 30 = .ok (.ireturn, 1) := dk_172 (dk_at dksX4_goTell_1 8 rfl rfl)
theorem dX4_goTell_31 : decode cX4_goTell 31 = .ok (.iconst 0, 1) := dk_3 (dk_at dksX4_goTell_1 9 rfl rfl)
theorem dX4_goTell_32 : decode cX4_goTell 32 = .ok (.iconst 4, 1) := dk_7 (dk_at dksX4_goTell_1 10 rfl rfl)
theorem dX4_goTell_33 : decode cX4_goTell 33 = .ok (.iload_n 1, 1) := dk_27 (dk_at dksX4_goTell_1 11 rfl rfl)
theorem dX4_goTell_34 : decode cX4_goTell 34 = .ok (.imul, 1) := dk_104 (dk_at dksX4_goTell_1 12 rfl rfl)
theorem dX4_goTell_35 : decode cX4_goTell 35 = .ok (.iadd, 1) := dk_96 (dk_at dksX4_goTell_1 13 rfl rfl)
theorem dX4_goTell_36 : decode cX4_goTell 36 = .ok (.iload_n 2, 1) := dk_28 (dk_at dksX4_goTell_1 14 rfl rfl)
theorem dX4_goTell_37 : decode cX4_goTell 37 = .ok (.iadd, 1) := dk_96 (dk_at dksX4_goTell_1 15 rfl rfl)
theorem dX4_goTell_38 : decode cX4_goTell 38 = .ok (.istore 4, 2) := dk_54 4 (dk_at dksX4_goTell_1 16 rfl rfl)
theorem dX4_goTell_40 : decode cX4_goTell 40 = .ok (.aload_n 0, 1) := dk_42 (dk_at dksX4_goTell_1 18 rfl rfl)
theorem dX4_goTell_41 : decode cX4_goTell 41 = .ok (.getfield 7, 3) := dk_180 0 7 (dk_at dksX4_goTell_1 19 rfl rfl)
theorem dX4_goTell_44 : decode cX4_goTell 44 = .ok (.iload 4, 2) := dk_21 4 (dk_at dksX4_goTell_1 22 rfl rfl)
theorem dX4_goTell_46 : decode cX4_goTell 46 = .ok (.iaload, 1) := dk_46 (dk_at dksX4_goTell_2 0 rfl rfl)
theorem dX4_goTell_47 : decode cX4_goTell 47 = .ok (.iload_n 3, 1) := dk_29 (dk_at dksX4_goTell_2 1 rfl rfl)
theorem dX4_goTell_48 : decode cX4_goTell 48 = .ok (.if_icmp .le 7, 3) := dk_164 0 7 (dk_at dksX4_goTell_2 2 rfl rfl)
theorem dX4_goTell_51 : decode cX4_goTell 51 = .ok (.iconst 1, 1) := dk_4 (dk_at dksX4_goTell_2 5 rfl rfl)
theorem dX4_goTell_52 : decode cX4_goTell 52 = .ok (.goto 4, 3) := dk_167 0 4 (dk_at dksX4_goTell_2 6 rfl rfl)
theorem dX4_goTell_55 : decode cX4_goTell 55 = .ok (.iconst 0, 1) := dk_3 (dk_at dksX4_goTell_2 9 rfl rfl)
theorem dX4_goTell_56 : decode cX4_goTell 56 = .ok (.istore 5, 2) := dk_54 5 (dk_at dksX4_goTell_2 10 rfl rfl)
theorem dX4_goTell_58 : decode cX4_goTell 58 = .ok (.aload_n 0, 1) := dk_42 (dk_at dksX4_goTell_2 12 rfl rfl)
theorem dX4_goTell_59 : decode cX4_goTell 59 = .ok (.getfield 7, 3) := dk_180 0 7 (dk_at dksX4_goTell_2 13 rfl rfl)
theorem dX4_goTell_62 : decode cX4_goTell 62 = .ok (.iload 4, 2) := dk_21 4 (dk_at dksX4_goTell_2 16 rfl rfl)
theorem dX4_goTell_64 : decode cX4_goTell 64 = .ok (.iload 5, 2) := dk_21 5 (dk_at dksX4_goTell_2 18 rfl rfl)
theorem dX4_goTell_66 : decode cX4_goTell 66 = .ok (.ifCond .eq 7, 3) := dk_153 0 7 (dk_at dksX4_goTell_2 20 rfl rfl)
theorem dX4_goTell_69 : decode cX4_goTell 69 = .ok (.iload_n 3, 1) := dk_29 (dk_at dksX4_goTell_2 23 rfl rfl)
theorem dX4_goTell_70 : decode cX4_goTell 70 = .ok (.goto 10, 3) := dk_167 0 10 (dk_at dksX4_goTell_3 0 rfl rfl)
theorem dX4_goTell_73 : decode cX4_goTell 73 = .ok (.aload_n 0, 1) := dk_42 (dk_at dksX4_goTell_3 3 rfl rfl)
theorem dX4_goTell_74 : decode cX4_goTell 74 = .ok (.getfield 7, 3) := dk_180 0 7 (dk_at dksX4_goTell_3 4 rfl rfl)
theorem dX4_goTell_77 : decode cX4_goTell 77 = .ok (.iload 4, 2) := dk_21 4 (dk_at dksX4_goTell_3 7 rfl rfl)
theorem dX4_goTell_79 : decode cX4_goTell 79 = .ok (.iaload, 1) := dk_46 (dk_at dksX4_goTell_3 9 rfl rfl)
theorem dX4_goTell_80 : decode cX4_goTell 80 = .ok (.iastore, 1) := dk_79 (dk_at dksX4_goTell_3 10 rfl rfl)
theorem dX4_goTell_81 : decode cX4_goTell 81 = .ok (.aload_n 0, 1) := dk_42 (dk_at dksX4_goTell_3 11 rfl rfl)
theorem dX4_goTell_82 : decode cX4_goTell 82 = .ok (.invokevirtual 86, 3) := dk_182 0 86 (dk_at dksX4_goTell_3 12 rfl rfl)
theorem dX4_goTell_85 : decode cX4_goTell 85 = .ok (.ifCond .eq 8, 3) := dk_153 0 8 (dk_at dksX4_goTell_3 15 rfl rfl)
theorem dX4_goTell_88 : decode cX4_goTell 88 = .ok (.bipush (-12), 2) := dk_16 244 (dk_at dksX4_goTell_3 18 rfl rfl)
theorem dX4_goTell_90 : decode cX4_goTell 90 = .ok (.goto 13, 3) := dk_167 0 13 (dk_at dksX4_goTell_3 20 rfl rfl)
theorem dX4_goTell_93 : decode cX4_goTell 93 = .ok (.iload 5, 2) := dk_21 5 (dk_at dksX4_goTell_4 0 rfl rfl)
theorem dX4_goTell_95 : decode cX4_goTell 95 = .ok (.ifCond .eq 7, 3) := dk_153 0 7 (dk_at dksX4_goTell_4 2 rfl rfl)
theorem dX4_goTell_98 : decode cX4_goTell 98 = .ok (.iconst 1, 1) := dk_4 (dk_at dksX4_goTell_4 5 rfl rfl)
theorem dX4_goTell_99 : decode cX4_goTell 99 = .ok (.goto 4, 3) := dk_167 0 4 (dk_at dksX4_goTell_4 6 rfl rfl)
theorem dX4_goTell_102 : decode cX4_goTell 102 = .ok (.iconst 0, 1) := dk_3 (dk_at dksX4_goTell_4 9 rfl rfl)
theorem dX4_goTell_103 : decode cX4_goTell 103 = .ok (.ireturn, 1) := dk_172 (dk_at dksX4_goTell_4 10 rfl rfl)
abbrev cX4_arePair : ByteArray := prog_9_method_23_code
def yX4_arePair : MethodName := ⟨RX4, "arePair", "(II)Z"⟩
def dkwX4_arePair_1 : List UInt8 := [167, 0, 4, 3, 172]
abbrev dktX4_arePair_1 : List UInt8 := dkwX4_arePair_1 ++ []
def dkwX4_arePair_0 : List UInt8 := [26, 3, 6, 184, 0, 92, 153, 0, 21, 27, 3, 6, 184, 0, 92, 153, 0, 12, 26, 27, 159, 0, 7, 4]
abbrev dktX4_arePair_0 : List UInt8 := dkwX4_arePair_0 ++ dktX4_arePair_1
theorem dksX4_arePair_0 : cX4_arePair.data.toList.drop 0 = dktX4_arePair_0 := by decide +kernel
theorem dksX4_arePair_1 : cX4_arePair.data.toList.drop 24 = dktX4_arePair_1 := dk_seg dksX4_arePair_0 24 rfl rfl
theorem dX4_arePair_0 : decode cX4_arePair 0 = .ok (.iload_n 0, 1) := dk_26 (dk_at dksX4_arePair_0 0 rfl rfl)
theorem dX4_arePair_1 : decode cX4_arePair 1 = .ok (.iconst 0, 1) := dk_3 (dk_at dksX4_arePair_0 1 rfl rfl)
theorem dX4_arePair_2 : decode cX4_arePair 2 = .ok (.iconst 3, 1) := dk_6 (dk_at dksX4_arePair_0 2 rfl rfl)
theorem dX4_arePair_3 : decode cX4_arePair 3 = .ok (.invokestatic 92, 3) := dk_184 0 92 (dk_at dksX4_arePair_0 3 rfl rfl)
theorem dX4_arePair_6 : decode cX4_arePair 6 = .ok (.ifCond .eq 21, 3) := dk_153 0 21 (dk_at dksX4_arePair_0 6 rfl rfl)
theorem dX4_arePair_9 : decode cX4_arePair 9 = .ok (.iload_n 1, 1) := dk_27 (dk_at dksX4_arePair_0 9 rfl rfl)
theorem dX4_arePair_10 : decode cX4_arePair 10 = .ok (.iconst 0, 1) := dk_3 (dk_at dksX4_arePair_0 10 rfl rfl)
theorem dX4_arePair_11 : decode cX4_arePair 11 = .ok (.iconst 3, 1) := dk_6 (dk_at dksX4_arePair_0 11 rfl rfl)
theorem dX4_arePair_12 : decode cX4_arePair 12 = .ok (.invokestatic 92, 3) := dk_184 0 92 (dk_at dksX4_arePair_0 12 rfl rfl)
theorem dX4_arePair_15 : decode cX4_arePair 15 = .ok (.ifCond .eq 12, 3) := dk_153 0 12 (dk_at dksX4_arePair_0 15 rfl rfl)
theorem dX4_arePair_18 : decode cX4_arePair 18 = .ok (.iload_n 0, 1) := dk_26 (dk_at dksX4_arePair_0 18 rfl rfl)
theorem dX4_arePair_19 : decode cX4_arePair 19 = .ok (.iload_n 1, 1) := dk_27 (dk_at dksX4_arePair_0 19 rfl rfl)
theorem dX4_arePair_20 : decode cX4_arePair 20 = .ok (.if_icmp .eq 7, 3) := dk_159 0 7 (dk_at dksX4_arePair_0 20 rfl rfl)
theorem dX4_arePair_23 : decode cX4_arePair 23 = .ok (.iconst 1, 1) := dk_4 (dk_at dksX4_arePair_0 23 rfl rfl)
theorem dX4_arePair_24 : decode cX4_arePair 24 = .ok (.goto 4, 3) := dk_167 0 4 (dk_at dksX4_arePair_1 0 rfl rfl)
theorem dX4_arePair_27 : decode cX4_arePair 27 = .ok (.iconst 0, 1) := dk_3 (dk_at dksX4_arePair_1 3 rfl rfl)
theorem dX4_arePair_28 : decode cX4_arePair 28 = .ok (.ireturn, 1) := dk_172 (dk_at dksX4_arePair_1 4 rfl rfl)
abbrev cX4_in : ByteArray := prog_9_method_5_code
def yX4_in : MethodName := ⟨RX4, "in", "(III)Z"⟩
def dkwX4_in_0 : List UInt8 := [26, 27, 161, 0, 12, 26, 28, 163, 0, 7, 4, 167, 0, 4, 3, 172]
abbrev dktX4_in_0 : List UInt8 := dkwX4_in_0 ++ []
theorem dksX4_in_0 : cX4_in.data.toList.drop 0 = dktX4_in_0 := by decide +kernel
theorem dX4_in_0 : decode cX4_in 0 = .ok (.iload_n 0, 1) := dk_26 (dk_at dksX4_in_0 0 rfl rfl)
theorem dX4_in_1 : decode cX4_in 1 = .ok (.iload_n 1, 1) := dk_27 (dk_at dksX4_in_0 1 rfl rfl)
theorem dX4_in_2 : decode cX4_in 2 = .ok (.if_icmp .lt 12, 3) := dk_161 0 12 (dk_at dksX4_in_0 2 rfl rfl)
theorem dX4_in_5 : decode cX4_in 5 = .ok (.iload_n 0, 1) := dk_26 (dk_at dksX4_in_0 5 rfl rfl)
theorem dX4_in_6 : decode cX4_in 6 = .ok (.iload_n 2, 1) := dk_28 (dk_at dksX4_in_0 6 rfl rfl)
theorem dX4_in_7 : decode cX4_in 7 = .ok (.if_icmp .gt 7, 3) := dk_163 0 7 (dk_at dksX4_in_0 7 rfl rfl)
theorem dX4_in_10 : decode cX4_in 10 = .ok (.iconst 1, 1) := dk_4 (dk_at dksX4_in_0 10 rfl rfl)
theorem dX4_in_11 : decode cX4_in 11 = .ok (.goto 4, 3) := dk_167 0 4 (dk_at dksX4_in_0 11 rfl rfl)
theorem dX4_in_14 : decode cX4_in 14 = .ok (.iconst 0, 1) := dk_3 (dk_at dksX4_in_0 14 rfl rfl)
theorem dX4_in_15 : decode cX4_in 15 = .ok (.ireturn, 1) := dk_172 (dk_at dksX4_in_0 15 rfl rfl)
abbrev cX4_isTooLate : ByteArray := prog_9_method_18_code
def yX4_isTooLate : MethodName := ⟨RX4, "isTooLate", "()Z"⟩
def dkwX4_isTooLate_2 : List UInt8 := [28, 153, 0, 7, 4, 167, 0, 4, 3, 172]
abbrev dktX4_isTooLate_2 : List UInt8 := dkwX4_isTooLate_2 ++ []
def dkwX4_isTooLate_1 : List UInt8 := [29, 96, 46, 16, 226, 162, 0, 7, 4, 167, 0, 4, 3, 61, 132, 3, 1, 167, 255, 224, 27, 153, 0, 11]
abbrev dktX4_isTooLate_1 : List UInt8 := dkwX4_isTooLate_1 ++ dktX4_isTooLate_2
def dkwX4_isTooLate_0 : List UInt8 := [42, 182, 0, 82, 60, 3, 61, 3, 62, 29, 6, 162, 0, 33, 28, 154, 0, 17, 42, 180, 0, 25, 16, 12]
abbrev dktX4_isTooLate_0 : List UInt8 := dkwX4_isTooLate_0 ++ dktX4_isTooLate_1
theorem dksX4_isTooLate_0 : cX4_isTooLate.data.toList.drop 0 = dktX4_isTooLate_0 := by decide +kernel
theorem dksX4_isTooLate_1 : cX4_isTooLate.data.toList.drop 24 = dktX4_isTooLate_1 := dk_seg dksX4_isTooLate_0 24 rfl rfl
theorem dksX4_isTooLate_2 : cX4_isTooLate.data.toList.drop 48 = dktX4_isTooLate_2 := dk_seg dksX4_isTooLate_1 24 rfl rfl
theorem dX4_isTooLate_0 : decode cX4_isTooLate 0 = .ok (.aload_n 0, 1) := dk_42 (dk_at dksX4_isTooLate_0 0 rfl rfl)
theorem dX4_isTooLate_1 : decode cX4_isTooLate 1 = .ok (.invokevirtual 82, 3) := dk_182 0 82 (dk_at dksX4_isTooLate_0 1 rfl rfl)
theorem dX4_isTooLate_4 : decode cX4_isTooLate 4 = .ok (.istore_n 1, 1) := dk_60 (dk_at dksX4_isTooLate_0 4 rfl rfl)
theorem dX4_isTooLate_5 : decode cX4_isTooLate 5 = .ok (.iconst 0, 1) := dk_3 (dk_at dksX4_isTooLate_0 5 rfl rfl)
theorem dX4_isTooLate_6 : decode cX4_isTooLate 6 = .ok (.istore_n 2, 1) := dk_61 (dk_at dksX4_isTooLate_0 6 rfl rfl)
theorem dX4_isTooLate_7 : decode cX4_isTooLate 7 = .ok (.iconst 0, 1) := dk_3 (dk_at dksX4_isTooLate_0 7 rfl rfl)
theorem dX4_isTooLate_8 : decode cX4_isTooLate 8 = .ok (.istore_n 3, 1) := dk_62 (dk_at dksX4_isTooLate_0 8 rfl rfl)
theorem dX4_isTooLate_9 : decode cX4_isTooLate 9 = .ok (.iload_n 3, 1) := dk_29 (dk_at dksX4_isTooLate_0 9 rfl rfl)
theorem dX4_isTooLate_10 : decode cX4_isTooLate 10 = .ok (.iconst 3, 1) := dk_6 (dk_at dksX4_isTooLate_0 10 rfl rfl)
theorem dX4_isTooLate_11 : decode cX4_isTooLate 11 = .ok (.if_icmp .ge 33, 3) := dk_162 0 33 (dk_at dksX4_isTooLate_0 11 rfl rfl)
theorem dX4_isTooLate_14 : decode cX4_isTooLate 14 = .ok (.iload_n 2, 1) := dk_28 (dk_at dksX4_isTooLate_0 14 rfl rfl)
theorem dX4_isTooLate_15 : decode cX4_isTooLate 15 = .ok (.ifCond .ne 17, 3) := dk_154 0 17 (dk_at dksX4_isTooLate_0 15 rfl rfl)
theorem dX4_isTooLate_18 : decode cX4_isTooLate 18 = .ok (.aload_n 0, 1) := dk_42 (dk_at dksX4_isTooLate_0 18 rfl rfl)
theorem dX4_isTooLate_19 : decode cX4_isTooLate 19 = .ok (.getfield 25, 3) := dk_180 0 25 (dk_at dksX4_isTooLate_0 19 rfl rfl)
theorem dX4_isTooLate_22 : decode cX4_isTooLate 22 = .ok (.bipush 12, 2) := dk_16 12 (dk_at dksX4_isTooLate_0 22 rfl rfl)
theorem dX4_isTooLate_24 : decode cX4_isTooLate 24 = .ok (.iload_n 3, 1) := dk_29 (dk_at dksX4_isTooLate_1 0 rfl rfl)
theorem dX4_isTooLate_25 : decode cX4_isTooLate 25 = .ok (.iadd, 1) := dk_96 (dk_at dksX4_isTooLate_1 1 rfl rfl)
theorem dX4_isTooLate_26 : decode cX4_isTooLate 26 = .ok (.iaload, 1) := dk_46 (dk_at dksX4_isTooLate_1 2 rfl rfl)
theorem dX4_isTooLate_27 : decode cX4_isTooLate 27 = .ok (.bipush (-30), 2) := dk_16 226 (dk_at dksX4_isTooLate_1 3 rfl rfl)
theorem dX4_isTooLate_29 : decode cX4_isTooLate 29 = .ok (.if_icmp .ge 7, 3) := dk_162 0 7 (dk_at dksX4_isTooLate_1 5 rfl rfl)
theorem dX4_isTooLate_32 : decode cX4_isTooLate 32 = .ok (.iconst 1, 1) := dk_4 (dk_at dksX4_isTooLate_1 8 rfl rfl)
theorem dX4_isTooLate_33 : decode cX4_isTooLate 33 = .ok (.goto 4, 3) := dk_167 0 4 (dk_at dksX4_isTooLate_1 9 rfl rfl)
theorem dX4_isTooLate_36 : decode cX4_isTooLate 36 = .ok (.iconst 0, 1) := dk_3 (dk_at dksX4_isTooLate_1 12 rfl rfl)
theorem dX4_isTooLate_37 : decode cX4_isTooLate 37 = .ok (.istore_n 2, 1) := dk_61 (dk_at dksX4_isTooLate_1 13 rfl rfl)
theorem dX4_isTooLate_38 : decode cX4_isTooLate 38 = .ok (.iinc 3 1, 3) := dk_132 3 1 (dk_at dksX4_isTooLate_1 14 rfl rfl)
theorem dX4_isTooLate_41 : decode cX4_isTooLate 41 = .ok (.goto (-32), 3) := dk_167 255 224 (dk_at dksX4_isTooLate_1 17 rfl rfl)
theorem dX4_isTooLate_44 : decode cX4_isTooLate 44 = .ok (.iload_n 1, 1) := dk_27 (dk_at dksX4_isTooLate_1 20 rfl rfl)
theorem dX4_isTooLate_45 : decode cX4_isTooLate 45 = .ok (.ifCond .eq 11, 3) := dk_153 0 11 (dk_at dksX4_isTooLate_1 21 rfl rfl)
theorem dX4_isTooLate_48 : decode cX4_isTooLate 48 = .ok (.iload_n 2, 1) := dk_28 (dk_at dksX4_isTooLate_2 0 rfl rfl)
theorem dX4_isTooLate_49 : decode cX4_isTooLate 49 = .ok (.ifCond .eq 7, 3) := dk_153 0 7 (dk_at dksX4_isTooLate_2 1 rfl rfl)
theorem dX4_isTooLate_52 : decode cX4_isTooLate 52 = .ok (.iconst 1, 1) := dk_4 (dk_at dksX4_isTooLate_2 4 rfl rfl)
theorem dX4_isTooLate_53 : decode cX4_isTooLate 53 = .ok (.goto 4, 3) := dk_167 0 4 (dk_at dksX4_isTooLate_2 5 rfl rfl)
theorem dX4_isTooLate_56 : decode cX4_isTooLate 56 = .ok (.iconst 0, 1) := dk_3 (dk_at dksX4_isTooLate_2 8 rfl rfl)
theorem dX4_isTooLate_57 : decode cX4_isTooLate 57 = .ok (.ireturn, 1) := dk_172 (dk_at dksX4_isTooLate_2 9 rfl rfl)
abbrev cX4_looks : ByteArray := prog_9_method_16_code
def yX4_looks : MethodName := ⟨RX4, "looks", "()Z"⟩
def dkwX4_looks_0 : List UInt8 := [42, 180, 0, 7, 3, 42, 180, 0, 25, 3, 184, 0, 75, 42, 180, 0, 25, 3, 184, 0, 78, 172]
abbrev dktX4_looks_0 : List UInt8 := dkwX4_looks_0 ++ []
theorem dksX4_looks_0 : cX4_looks.data.toList.drop 0 = dktX4_looks_0 := by decide +kernel
theorem dX4_looks_0 : decode cX4_looks 0 = .ok (.aload_n 0, 1) := dk_42 (dk_at dksX4_looks_0 0 rfl rfl)
theorem dX4_looks_1 : decode cX4_looks 1 = .ok (.getfield 7, 3) := dk_180 0 7 (dk_at dksX4_looks_0 1 rfl rfl)
theorem dX4_looks_4 : decode cX4_looks 4 = .ok (.iconst 0, 1) := dk_3 (dk_at dksX4_looks_0 4 rfl rfl)
theorem dX4_looks_5 : decode cX4_looks 5 = .ok (.aload_n 0, 1) := dk_42 (dk_at dksX4_looks_0 5 rfl rfl)
theorem dX4_looks_6 : decode cX4_looks 6 = .ok (.getfield 25, 3) := dk_180 0 25 (dk_at dksX4_looks_0 6 rfl rfl)
theorem dX4_looks_9 : decode cX4_looks 9 = .ok (.iconst 0, 1) := dk_3 (dk_at dksX4_looks_0 9 rfl rfl)
theorem dX4_looks_10 : decode cX4_looks 10 = .ok (.invokestatic 75, 3) := dk_184 0 75 (dk_at dksX4_looks_0 10 rfl rfl)
theorem dX4_looks_13 : decode cX4_looks 13 = .ok (.aload_n 0, 1) := dk_42 (dk_at dksX4_looks_0 13 rfl rfl)
theorem dX4_looks_14 : decode cX4_looks 14 = .ok (.getfield 25, 3) := dk_180 0 25 (dk_at dksX4_looks_0 14 rfl rfl)
theorem dX4_looks_17 : decode cX4_looks 17 = .ok (.iconst 0, 1) := dk_3 (dk_at dksX4_looks_0 17 rfl rfl)
theorem dX4_looks_18 : decode cX4_looks 18 = .ok (.invokestatic 78, 3) := dk_184 0 78 (dk_at dksX4_looks_0 18 rfl rfl)
theorem dX4_looks_21 : decode cX4_looks 21 = .ok (.ireturn, 1) := dk_172 (dk_at dksX4_looks_0 21 rfl rfl)
abbrev cX4_carries : ByteArray := prog_9_method_15_code
def yX4_carries : MethodName := ⟨RX4, "carries", "([II[II)V"⟩
def dkwX4_carries_1 : List UInt8 := [132, 4, 1, 167, 255, 234, 177]
abbrev dktX4_carries_1 : List UInt8 := dkwX4_carries_1 ++ []
def dkwX4_carries_0 : List UInt8 := [3, 54, 4, 21, 4, 16, 16, 162, 0, 21, 44, 29, 21, 4, 96, 42, 27, 21, 4, 96, 46, 79]
abbrev dktX4_carries_0 : List UInt8 := dkwX4_carries_0 ++ dktX4_carries_1
theorem dksX4_carries_0 : cX4_carries.data.toList.drop 0 = dktX4_carries_0 := by decide +kernel
theorem dksX4_carries_1 : cX4_carries.data.toList.drop 22 = dktX4_carries_1 := dk_seg dksX4_carries_0 22 rfl rfl
theorem dX4_carries_0 : decode cX4_carries 0 = .ok (.iconst 0, 1) := dk_3 (dk_at dksX4_carries_0 0 rfl rfl)
theorem dX4_carries_1 : decode cX4_carries 1 = .ok (.istore 4, 2) := dk_54 4 (dk_at dksX4_carries_0 1 rfl rfl)
theorem dX4_carries_3 : decode cX4_carries 3 = .ok (.iload 4, 2) := dk_21 4 (dk_at dksX4_carries_0 3 rfl rfl)
theorem dX4_carries_5 : decode cX4_carries 5 = .ok (.bipush 16, 2) := dk_16 16 (dk_at dksX4_carries_0 5 rfl rfl)
theorem dX4_carries_7 : decode cX4_carries 7 = .ok (.if_icmp .ge 21, 3) := dk_162 0 21 (dk_at dksX4_carries_0 7 rfl rfl)
theorem dX4_carries_10 : decode cX4_carries 10 = .ok (.aload_n 2, 1) := dk_44 (dk_at dksX4_carries_0 10 rfl rfl)
theorem dX4_carries_11 : decode cX4_carries 11 = .ok (.iload_n 3, 1) := dk_29 (dk_at dksX4_carries_0 11 rfl rfl)
theorem dX4_carries_12 : decode cX4_carries 12 = .ok (.iload 4, 2) := dk_21 4 (dk_at dksX4_carries_0 12 rfl rfl)
theorem dX4_carries_14 : decode cX4_carries 14 = .ok (.iadd, 1) := dk_96 (dk_at dksX4_carries_0 14 rfl rfl)
theorem dX4_carries_15 : decode cX4_carries 15 = .ok (.aload_n 0, 1) := dk_42 (dk_at dksX4_carries_0 15 rfl rfl)
theorem dX4_carries_16 : decode cX4_carries 16 = .ok (.iload_n 1, 1) := dk_27 (dk_at dksX4_carries_0 16 rfl rfl)
theorem dX4_carries_17 : decode cX4_carries 17 = .ok (.iload 4, 2) := dk_21 4 (dk_at dksX4_carries_0 17 rfl rfl)
theorem dX4_carries_19 : decode cX4_carries 19 = .ok (.iadd, 1) := dk_96 (dk_at dksX4_carries_0 19 rfl rfl)
theorem dX4_carries_20 : decode cX4_carries 20 = .ok (.iaload, 1) := dk_46 (dk_at dksX4_carries_0 20 rfl rfl)
theorem dX4_carries_21 : decode cX4_carries 21 = .ok (.iastore, 1) := dk_79 (dk_at dksX4_carries_0 21 rfl rfl)
theorem dX4_carries_22 : decode cX4_carries 22 = .ok (.iinc 4 1, 3) := dk_132 4 1 (dk_at dksX4_carries_1 0 rfl rfl)
theorem dX4_carries_25 : decode cX4_carries 25 = .ok (.goto (-22), 3) := dk_167 255 234 (dk_at dksX4_carries_1 3 rfl rfl)
theorem dX4_carries_28 : decode cX4_carries 28 = .ok (.return_, 1) := dk_177 (dk_at dksX4_carries_1 6 rfl rfl)
abbrev cX4_tightens : ByteArray := prog_9_method_14_code
def yX4_tightens : MethodName := ⟨RX4, "tightens", "([II)Z"⟩
def dkwX4_tightens_4 : List UInt8 := [155, 0, 7, 4, 167, 0, 4, 3, 61, 132, 3, 1, 167, 255, 228, 28, 172]
abbrev dktX4_tightens_4 : List UInt8 := dkwX4_tightens_4 ++ []
def dkwX4_tightens_3 : List UInt8 := [167, 255, 188, 4, 61, 3, 62, 29, 7, 162, 0, 29, 28, 153, 0, 17, 42, 27, 8, 29, 104, 96, 46]
abbrev dktX4_tightens_3 : List UInt8 := dkwX4_tightens_3 ++ dktX4_tightens_4
def dkwX4_tightens_2 : List UInt8 := [28, 104, 96, 21, 5, 96, 46, 184, 0, 68, 184, 0, 72, 79, 132, 3, 1, 167, 255, 201, 132, 2, 1]
abbrev dktX4_tightens_2 : List UInt8 := dkwX4_tightens_2 ++ dktX4_tightens_3
def dkwX4_tightens_1 : List UInt8 := [54, 5, 42, 27, 29, 96, 42, 27, 29, 96, 46, 42, 27, 7, 21, 4, 104, 96, 28, 96, 46, 42, 27, 7]
abbrev dktX4_tightens_1 : List UInt8 := dkwX4_tightens_1 ++ dktX4_tightens_2
def dkwX4_tightens_0 : List UInt8 := [3, 61, 28, 7, 162, 0, 69, 3, 62, 29, 16, 16, 162, 0, 55, 29, 7, 108, 54, 4, 29, 7, 112]
abbrev dktX4_tightens_0 : List UInt8 := dkwX4_tightens_0 ++ dktX4_tightens_1
theorem dksX4_tightens_0 : cX4_tightens.data.toList.drop 0 = dktX4_tightens_0 := by decide +kernel
theorem dksX4_tightens_1 : cX4_tightens.data.toList.drop 23 = dktX4_tightens_1 := dk_seg dksX4_tightens_0 23 rfl rfl
theorem dksX4_tightens_2 : cX4_tightens.data.toList.drop 47 = dktX4_tightens_2 := dk_seg dksX4_tightens_1 24 rfl rfl
theorem dksX4_tightens_3 : cX4_tightens.data.toList.drop 70 = dktX4_tightens_3 := dk_seg dksX4_tightens_2 23 rfl rfl
theorem dksX4_tightens_4 : cX4_tightens.data.toList.drop 93 = dktX4_tightens_4 := dk_seg dksX4_tightens_3 23 rfl rfl
theorem dX4_tightens_0 : decode cX4_tightens 0 = .ok (.iconst 0, 1) := dk_3 (dk_at dksX4_tightens_0 0 rfl rfl)
theorem dX4_tightens_1 : decode cX4_tightens 1 = .ok (.istore_n 2, 1) := dk_61 (dk_at dksX4_tightens_0 1 rfl rfl)
theorem dX4_tightens_2 : decode cX4_tightens 2 = .ok (.iload_n 2, 1) := dk_28 (dk_at dksX4_tightens_0 2 rfl rfl)
theorem dX4_tightens_3 : decode cX4_tightens 3 = .ok (.iconst 4, 1) := dk_7 (dk_at dksX4_tightens_0 3 rfl rfl)
theorem dX4_tightens_4 : decode cX4_tightens 4 = .ok (.if_icmp .ge 69, 3) := dk_162 0 69 (dk_at dksX4_tightens_0 4 rfl rfl)
theorem dX4_tightens_7 : decode cX4_tightens 7 = .ok (.iconst 0, 1) := dk_3 (dk_at dksX4_tightens_0 7 rfl rfl)
theorem dX4_tightens_8 : decode cX4_tightens 8 = .ok (.istore_n 3, 1) := dk_62 (dk_at dksX4_tightens_0 8 rfl rfl)
theorem dX4_tightens_9 : decode cX4_tightens 9 = .ok (.iload_n 3, 1) := dk_29 (dk_at dksX4_tightens_0 9 rfl rfl)
theorem dX4_tightens_10 : decode cX4_tightens 10 = .ok (.bipush 16, 2) := dk_16 16 (dk_at dksX4_tightens_0 10 rfl rfl)
theorem dX4_tightens_12 : decode cX4_tightens 12 = .ok (.if_icmp .ge 55, 3) := dk_162 0 55 (dk_at dksX4_tightens_0 12 rfl rfl)
theorem dX4_tightens_15 : decode cX4_tightens 15 = .ok (.iload_n 3, 1) := dk_29 (dk_at dksX4_tightens_0 15 rfl rfl)
theorem dX4_tightens_16 : decode cX4_tightens 16 = .ok (.iconst 4, 1) := dk_7 (dk_at dksX4_tightens_0 16 rfl rfl)
theorem dX4_tightens_17 : decode cX4_tightens 17 = .ok (.idiv, 1) := dk_108 (dk_at dksX4_tightens_0 17 rfl rfl)
theorem dX4_tightens_18 : decode cX4_tightens 18 = .ok (.istore 4, 2) := dk_54 4 (dk_at dksX4_tightens_0 18 rfl rfl)
theorem dX4_tightens_20 : decode cX4_tightens 20 = .ok (.iload_n 3, 1) := dk_29 (dk_at dksX4_tightens_0 20 rfl rfl)
theorem dX4_tightens_21 : decode cX4_tightens 21 = .ok (.iconst 4, 1) := dk_7 (dk_at dksX4_tightens_0 21 rfl rfl)
theorem dX4_tightens_22 : decode cX4_tightens 22 = .ok (.irem, 1) := dk_112 (dk_at dksX4_tightens_0 22 rfl rfl)
theorem dX4_tightens_23 : decode cX4_tightens 23 = .ok (.istore 5, 2) := dk_54 5 (dk_at dksX4_tightens_1 0 rfl rfl)
theorem dX4_tightens_25 : decode cX4_tightens 25 = .ok (.aload_n 0, 1) := dk_42 (dk_at dksX4_tightens_1 2 rfl rfl)
theorem dX4_tightens_26 : decode cX4_tightens 26 = .ok (.iload_n 1, 1) := dk_27 (dk_at dksX4_tightens_1 3 rfl rfl)
theorem dX4_tightens_27 : decode cX4_tightens 27 = .ok (.iload_n 3, 1) := dk_29 (dk_at dksX4_tightens_1 4 rfl rfl)
theorem dX4_tightens_28 : decode cX4_tightens 28 = .ok (.iadd, 1) := dk_96 (dk_at dksX4_tightens_1 5 rfl rfl)
theorem dX4_tightens_29 : decode cX4_tightens 29 = .ok (.aload_n 0, 1) := dk_42 (dk_at dksX4_tightens_1 6 rfl rfl)
theorem dX4_tightens_30 : decode cX4_tightens 30 = .ok (.iload_n 1, 1) := dk_27 (dk_at dksX4_tightens_1 7 rfl rfl)
theorem dX4_tightens_31 : decode cX4_tightens 31 = .ok (.iload_n 3, 1) := dk_29 (dk_at dksX4_tightens_1 8 rfl rfl)
theorem dX4_tightens_32 : decode cX4_tightens 32 = .ok (.iadd, 1) := dk_96 (dk_at dksX4_tightens_1 9 rfl rfl)
theorem dX4_tightens_33 : decode cX4_tightens 33 = .ok (.iaload, 1) := dk_46 (dk_at dksX4_tightens_1 10 rfl rfl)
theorem dX4_tightens_34 : decode cX4_tightens 34 = .ok (.aload_n 0, 1) := dk_42 (dk_at dksX4_tightens_1 11 rfl rfl)
theorem dX4_tightens_35 : decode cX4_tightens 35 = .ok (.iload_n 1, 1) := dk_27 (dk_at dksX4_tightens_1 12 rfl rfl)
theorem dX4_tightens_36 : decode cX4_tightens 36 = .ok (.iconst 4, 1) := dk_7 (dk_at dksX4_tightens_1 13 rfl rfl)
theorem dX4_tightens_37 : decode cX4_tightens 37 = .ok (.iload 4, 2) := dk_21 4 (dk_at dksX4_tightens_1 14 rfl rfl)
theorem dX4_tightens_39 : decode cX4_tightens 39 = .ok (.imul, 1) := dk_104 (dk_at dksX4_tightens_1 16 rfl rfl)
theorem dX4_tightens_40 : decode cX4_tightens 40 = .ok (.iadd, 1) := dk_96 (dk_at dksX4_tightens_1 17 rfl rfl)
theorem dX4_tightens_41 : decode cX4_tightens 41 = .ok (.iload_n 2, 1) := dk_28 (dk_at dksX4_tightens_1 18 rfl rfl)
theorem dX4_tightens_42 : decode cX4_tightens 42 = .ok (.iadd, 1) := dk_96 (dk_at dksX4_tightens_1 19 rfl rfl)
theorem dX4_tightens_43 : decode cX4_tightens 43 = .ok (.iaload, 1) := dk_46 (dk_at dksX4_tightens_1 20 rfl rfl)
theorem dX4_tightens_44 : decode cX4_tightens 44 = .ok (.aload_n 0, 1) := dk_42 (dk_at dksX4_tightens_1 21 rfl rfl)
theorem dX4_tightens_45 : decode cX4_tightens 45 = .ok (.iload_n 1, 1) := dk_27 (dk_at dksX4_tightens_1 22 rfl rfl)
theorem dX4_tightens_46 : decode cX4_tightens 46 = .ok (.iconst 4, 1) := dk_7 (dk_at dksX4_tightens_1 23 rfl rfl)
theorem dX4_tightens_47 : decode cX4_tightens 47 = .ok (.iload_n 2, 1) := dk_28 (dk_at dksX4_tightens_2 0 rfl rfl)
theorem dX4_tightens_48 : decode cX4_tightens 48 = .ok (.imul, 1) := dk_104 (dk_at dksX4_tightens_2 1 rfl rfl)
theorem dX4_tightens_49 : decode cX4_tightens 49 = .ok (.iadd, 1) := dk_96 (dk_at dksX4_tightens_2 2 rfl rfl)
theorem dX4_tightens_50 : decode cX4_tightens 50 = .ok (.iload 5, 2) := dk_21 5 (dk_at dksX4_tightens_2 3 rfl rfl)
theorem dX4_tightens_52 : decode cX4_tightens 52 = .ok (.iadd, 1) := dk_96 (dk_at dksX4_tightens_2 5 rfl rfl)
theorem dX4_tightens_53 : decode cX4_tightens 53 = .ok (.iaload, 1) := dk_46 (dk_at dksX4_tightens_2 6 rfl rfl)
theorem dX4_tightens_54 : decode cX4_tightens 54 = .ok (.invokestatic 68, 3) := dk_184 0 68 (dk_at dksX4_tightens_2 7 rfl rfl)
theorem dX4_tightens_57 : decode cX4_tightens 57 = .ok (.invokestatic 72, 3) := dk_184 0 72 (dk_at dksX4_tightens_2 10 rfl rfl)
theorem dX4_tightens_60 : decode cX4_tightens 60 = .ok (.iastore, 1) := dk_79 (dk_at dksX4_tightens_2 13 rfl rfl)
theorem dX4_tightens_61 : decode cX4_tightens 61 = .ok (.iinc 3 1, 3) := dk_132 3 1 (dk_at dksX4_tightens_2 14 rfl rfl)
theorem dX4_tightens_64 : decode cX4_tightens 64 = .ok (.goto (-55), 3) := dk_167 255 201 (dk_at dksX4_tightens_2 17 rfl rfl)
theorem dX4_tightens_67 : decode cX4_tightens 67 = .ok (.iinc 2 1, 3) := dk_132 2 1 (dk_at dksX4_tightens_2 20 rfl rfl)
theorem dX4_tightens_70 : decode cX4_tightens 70 = .ok (.goto (-68), 3) := dk_167 255 188 (dk_at dksX4_tightens_3 0 rfl rfl)
theorem dX4_tightens_73 : decode cX4_tightens 73 = .ok (.iconst 1, 1) := dk_4 (dk_at dksX4_tightens_3 3 rfl rfl)
theorem dX4_tightens_74 : decode cX4_tightens 74 = .ok (.istore_n 2, 1) := dk_61 (dk_at dksX4_tightens_3 4 rfl rfl)
theorem dX4_tightens_75 : decode cX4_tightens 75 = .ok (.iconst 0, 1) := dk_3 (dk_at dksX4_tightens_3 5 rfl rfl)
theorem dX4_tightens_76 : decode cX4_tightens 76 = .ok (.istore_n 3, 1) := dk_62 (dk_at dksX4_tightens_3 6 rfl rfl)
theorem dX4_tightens_77 : decode cX4_tightens 77 = .ok (.iload_n 3, 1) := dk_29 (dk_at dksX4_tightens_3 7 rfl rfl)
theorem dX4_tightens_78 : decode cX4_tightens 78 = .ok (.iconst 4, 1) := dk_7 (dk_at dksX4_tightens_3 8 rfl rfl)
theorem dX4_tightens_79 : decode cX4_tightens 79 = .ok (.if_icmp .ge 29, 3) := dk_162 0 29 (dk_at dksX4_tightens_3 9 rfl rfl)
theorem dX4_tightens_82 : decode cX4_tightens 82 = .ok (.iload_n 2, 1) := dk_28 (dk_at dksX4_tightens_3 12 rfl rfl)
theorem dX4_tightens_83 : decode cX4_tightens 83 = .ok (.ifCond .eq 17, 3) := dk_153 0 17 (dk_at dksX4_tightens_3 13 rfl rfl)
theorem dX4_tightens_86 : decode cX4_tightens 86 = .ok (.aload_n 0, 1) := dk_42 (dk_at dksX4_tightens_3 16 rfl rfl)
theorem dX4_tightens_87 : decode cX4_tightens 87 = .ok (.iload_n 1, 1) := dk_27 (dk_at dksX4_tightens_3 17 rfl rfl)
theorem dX4_tightens_88 : decode cX4_tightens 88 = .ok (.iconst 5, 1) := dk_8 (dk_at dksX4_tightens_3 18 rfl rfl)
theorem dX4_tightens_89 : decode cX4_tightens 89 = .ok (.iload_n 3, 1) := dk_29 (dk_at dksX4_tightens_3 19 rfl rfl)
theorem dX4_tightens_90 : decode cX4_tightens 90 = .ok (.imul, 1) := dk_104 (dk_at dksX4_tightens_3 20 rfl rfl)
theorem dX4_tightens_91 : decode cX4_tightens 91 = .ok (.iadd, 1) := dk_96 (dk_at dksX4_tightens_3 21 rfl rfl)
theorem dX4_tightens_92 : decode cX4_tightens 92 = .ok (.iaload, 1) := dk_46 (dk_at dksX4_tightens_3 22 rfl rfl)
theorem dX4_tightens_93 : decode cX4_tightens 93 = .ok (.ifCond .lt 7, 3) := dk_155 0 7 (dk_at dksX4_tightens_4 0 rfl rfl)
theorem dX4_tightens_96 : decode cX4_tightens 96 = .ok (.iconst 1, 1) := dk_4 (dk_at dksX4_tightens_4 3 rfl rfl)
theorem dX4_tightens_97 : decode cX4_tightens 97 = .ok (.goto 4, 3) := dk_167 0 4 (dk_at dksX4_tightens_4 4 rfl rfl)
theorem dX4_tightens_100 : decode cX4_tightens 100 = .ok (.iconst 0, 1) := dk_3 (dk_at dksX4_tightens_4 7 rfl rfl)
theorem dX4_tightens_101 : decode cX4_tightens 101 = .ok (.istore_n 2, 1) := dk_61 (dk_at dksX4_tightens_4 8 rfl rfl)
theorem dX4_tightens_102 : decode cX4_tightens 102 = .ok (.iinc 3 1, 3) := dk_132 3 1 (dk_at dksX4_tightens_4 9 rfl rfl)
theorem dX4_tightens_105 : decode cX4_tightens 105 = .ok (.goto (-28), 3) := dk_167 255 228 (dk_at dksX4_tightens_4 12 rfl rfl)
theorem dX4_tightens_108 : decode cX4_tightens 108 = .ok (.iload_n 2, 1) := dk_28 (dk_at dksX4_tightens_4 15 rfl rfl)
theorem dX4_tightens_109 : decode cX4_tightens 109 = .ok (.ireturn, 1) := dk_172 (dk_at dksX4_tightens_4 16 rfl rfl)
abbrev cX4_sum : ByteArray := prog_9_method_13_code
def yX4_sum : MethodName := ⟨RX4, "sum", "(II)I"⟩
def dkwX4_sum_0 : List UInt8 := [26, 18, 67, 159, 0, 9, 27, 18, 67, 160, 0, 8, 18, 67, 167, 0, 6, 26, 27, 96, 172]
abbrev dktX4_sum_0 : List UInt8 := dkwX4_sum_0 ++ []
theorem dksX4_sum_0 : cX4_sum.data.toList.drop 0 = dktX4_sum_0 := by decide +kernel
theorem dX4_sum_0 : decode cX4_sum 0 = .ok (.iload_n 0, 1) := dk_26 (dk_at dksX4_sum_0 0 rfl rfl)
theorem dX4_sum_1 : decode cX4_sum 1 = .ok (.ldc 67, 2) := dk_18 67 (dk_at dksX4_sum_0 1 rfl rfl)
theorem dX4_sum_3 : decode cX4_sum 3 = .ok (.if_icmp .eq 9, 3) := dk_159 0 9 (dk_at dksX4_sum_0 3 rfl rfl)
theorem dX4_sum_6 : decode cX4_sum 6 = .ok (.iload_n 1, 1) := dk_27 (dk_at dksX4_sum_0 6 rfl rfl)
theorem dX4_sum_7 : decode cX4_sum 7 = .ok (.ldc 67, 2) := dk_18 67 (dk_at dksX4_sum_0 7 rfl rfl)
theorem dX4_sum_9 : decode cX4_sum 9 = .ok (.if_icmp .ne 8, 3) := dk_160 0 8 (dk_at dksX4_sum_0 9 rfl rfl)
theorem dX4_sum_12 : decode cX4_sum 12 = .ok (.ldc 67, 2) := dk_18 67 (dk_at dksX4_sum_0 12 rfl rfl)
theorem dX4_sum_14 : decode cX4_sum 14 = .ok (.goto 6, 3) := dk_167 0 6 (dk_at dksX4_sum_0 14 rfl rfl)
theorem dX4_sum_17 : decode cX4_sum 17 = .ok (.iload_n 0, 1) := dk_26 (dk_at dksX4_sum_0 17 rfl rfl)
theorem dX4_sum_18 : decode cX4_sum 18 = .ok (.iload_n 1, 1) := dk_27 (dk_at dksX4_sum_0 18 rfl rfl)
theorem dX4_sum_19 : decode cX4_sum 19 = .ok (.iadd, 1) := dk_96 (dk_at dksX4_sum_0 19 rfl rfl)
theorem dX4_sum_20 : decode cX4_sum 20 = .ok (.ireturn, 1) := dk_172 (dk_at dksX4_sum_0 20 rfl rfl)
abbrev cX4_less : ByteArray := prog_9_method_6_code
def yX4_less : MethodName := ⟨RX4, "less", "(II)I"⟩
def dkwX4_less_0 : List UInt8 := [26, 27, 162, 0, 7, 26, 167, 0, 4, 27, 172]
abbrev dktX4_less_0 : List UInt8 := dkwX4_less_0 ++ []
theorem dksX4_less_0 : cX4_less.data.toList.drop 0 = dktX4_less_0 := by decide +kernel
theorem dX4_less_0 : decode cX4_less 0 = .ok (.iload_n 0, 1) := dk_26 (dk_at dksX4_less_0 0 rfl rfl)
theorem dX4_less_1 : decode cX4_less 1 = .ok (.iload_n 1, 1) := dk_27 (dk_at dksX4_less_0 1 rfl rfl)
theorem dX4_less_2 : decode cX4_less 2 = .ok (.if_icmp .ge 7, 3) := dk_162 0 7 (dk_at dksX4_less_0 2 rfl rfl)
theorem dX4_less_5 : decode cX4_less 5 = .ok (.iload_n 0, 1) := dk_26 (dk_at dksX4_less_0 5 rfl rfl)
theorem dX4_less_6 : decode cX4_less 6 = .ok (.goto 4, 3) := dk_167 0 4 (dk_at dksX4_less_0 6 rfl rfl)
theorem dX4_less_9 : decode cX4_less 9 = .ok (.iload_n 1, 1) := dk_27 (dk_at dksX4_less_0 9 rfl rfl)
theorem dX4_less_10 : decode cX4_less 10 = .ok (.ireturn, 1) := dk_172 (dk_at dksX4_less_0 10 rfl rfl)
abbrev cX4_ends : ByteArray := prog_9_method_11_code
def yX4_ends : MethodName := ⟨RX4, "ends", "(I)I"⟩
def dkwX4_ends_2 : List UInt8 := [172]
abbrev dktX4_ends_2 : List UInt8 := dkwX4_ends_2 ++ []
def dkwX4_ends_1 : List UInt8 := [184, 0, 53, 42, 27, 16, 245, 160, 0, 7, 4, 167, 0, 4, 5, 182, 0, 60, 172, 42, 182, 0, 64, 27]
abbrev dktX4_ends_1 : List UInt8 := dkwX4_ends_1 ++ dktX4_ends_2
def dkwX4_ends_0 : List UInt8 := [27, 16, 245, 159, 0, 9, 27, 16, 244, 160, 0, 32, 42, 180, 0, 13, 3, 42, 180, 0, 7, 3]
abbrev dktX4_ends_0 : List UInt8 := dkwX4_ends_0 ++ dktX4_ends_1
theorem dksX4_ends_0 : cX4_ends.data.toList.drop 0 = dktX4_ends_0 := by decide +kernel
theorem dksX4_ends_1 : cX4_ends.data.toList.drop 22 = dktX4_ends_1 := dk_seg dksX4_ends_0 22 rfl rfl
theorem dksX4_ends_2 : cX4_ends.data.toList.drop 46 = dktX4_ends_2 := dk_seg dksX4_ends_1 24 rfl rfl
theorem dX4_ends_0 : decode cX4_ends 0 = .ok (.iload_n 1, 1) := dk_27 (dk_at dksX4_ends_0 0 rfl rfl)
theorem dX4_ends_1 : decode cX4_ends 1 = .ok (.bipush (-11), 2) := dk_16 245 (dk_at dksX4_ends_0 1 rfl rfl)
theorem dX4_ends_3 : decode cX4_ends 3 = .ok (.if_icmp .eq 9, 3) := dk_159 0 9 (dk_at dksX4_ends_0 3 rfl rfl)
theorem dX4_ends_6 : decode cX4_ends 6 = .ok (.iload_n 1, 1) := dk_27 (dk_at dksX4_ends_0 6 rfl rfl)
theorem dX4_ends_7 : decode cX4_ends 7 = .ok (.bipush (-12), 2) := dk_16 244 (dk_at dksX4_ends_0 7 rfl rfl)
theorem dX4_ends_9 : decode cX4_ends 9 = .ok (.if_icmp .ne 32, 3) := dk_160 0 32 (dk_at dksX4_ends_0 9 rfl rfl)
theorem dX4_ends_12 : decode cX4_ends 12 = .ok (.aload_n 0, 1) := dk_42 (dk_at dksX4_ends_0 12 rfl rfl)
theorem dX4_ends_13 : decode cX4_ends 13 = .ok (.getfield 13, 3) := dk_180 0 13 (dk_at dksX4_ends_0 13 rfl rfl)
theorem dX4_ends_16 : decode cX4_ends 16 = .ok (.iconst 0, 1) := dk_3 (dk_at dksX4_ends_0 16 rfl rfl)
theorem dX4_ends_17 : decode cX4_ends 17 = .ok (.aload_n 0, 1) := dk_42 (dk_at dksX4_ends_0 17 rfl rfl)
theorem dX4_ends_18 : decode cX4_ends 18 = .ok (.getfield 7, 3) := dk_180 0 7 (dk_at dksX4_ends_0 18 rfl rfl)
theorem dX4_ends_21 : decode cX4_ends 21 = .ok (.iconst 0, 1) := dk_3 (dk_at dksX4_ends_0 21 rfl rfl)
theorem dX4_ends_22 : decode cX4_ends 22 = .ok (.invokestatic 53, 3) := dk_184 0 53 (dk_at dksX4_ends_1 0 rfl rfl)
theorem dX4_ends_25 : decode cX4_ends 25 = .ok (.aload_n 0, 1) := dk_42 (dk_at dksX4_ends_1 3 rfl rfl)
theorem dX4_ends_26 : decode cX4_ends 26 = .ok (.iload_n 1, 1) := dk_27 (dk_at dksX4_ends_1 4 rfl rfl)
theorem dX4_ends_27 : decode cX4_ends 27 = .ok (.bipush (-11), 2) := dk_16 245 (dk_at dksX4_ends_1 5 rfl rfl)
theorem dX4_ends_29 : decode cX4_ends 29 = .ok (.if_icmp .ne 7, 3) := dk_160 0 7 (dk_at dksX4_ends_1 7 rfl rfl)
theorem dX4_ends_32 : decode cX4_ends 32 = .ok (.iconst 1, 1) := dk_4 (dk_at dksX4_ends_1 10 rfl rfl)
theorem dX4_ends_33 : decode cX4_ends 33 = .ok (.goto 4, 3) := dk_167 0 4 (dk_at dksX4_ends_1 11 rfl rfl)
theorem dX4_ends_36 : decode cX4_ends 36 = .ok (.iconst 2, 1) := dk_5 (dk_at dksX4_ends_1 14 rfl rfl)
theorem dX4_ends_37 : decode cX4_ends 37 = .ok (.invokevirtual 60, 3) := dk_182 0 60 (dk_at dksX4_ends_1 15 rfl rfl)
theorem dX4_ends_40 : decode cX4_ends 40 = .ok (.ireturn, 1) := dk_172 (dk_at dksX4_ends_1 18 rfl rfl)
theorem dX4_ends_41 : decode cX4_ends 41 = .ok (.aload_n 0, 1) := dk_42 (dk_at dksX4_ends_1 19 rfl rfl)
theorem dX4_ends_42 : decode cX4_ends 42 = .ok (.invokevirtual 64, 3) := dk_182 0 64 (dk_at dksX4_ends_1 20 rfl rfl)
theorem dX4_ends_45 : decode cX4_ends 45 = .ok (.iload_n 1, 1) := dk_27 (dk_at dksX4_ends_1 23 rfl rfl)
theorem dX4_ends_46 : decode cX4_ends 46 = .ok (.ireturn, 1) := dk_172 (dk_at dksX4_ends_2 0 rfl rfl)
abbrev cX4_fails : ByteArray := prog_9_method_3_code
def yX4_fails : MethodName := ⟨RX4, "fails", "(I)I"⟩
def dkwX4_fails_0 : List UInt8 := [42, 27, 181, 0, 49, 3, 172]
abbrev dktX4_fails_0 : List UInt8 := dkwX4_fails_0 ++ []
theorem dksX4_fails_0 : cX4_fails.data.toList.drop 0 = dktX4_fails_0 := by decide +kernel
theorem dX4_fails_0 : decode cX4_fails 0 = .ok (.aload_n 0, 1) := dk_42 (dk_at dksX4_fails_0 0 rfl rfl)
theorem dX4_fails_1 : decode cX4_fails 1 = .ok (.iload_n 1, 1) := dk_27 (dk_at dksX4_fails_0 1 rfl rfl)
theorem dX4_fails_2 : decode cX4_fails 2 = .ok (.putfield 49, 3) := dk_181 0 49 (dk_at dksX4_fails_0 2 rfl rfl)
theorem dX4_fails_5 : decode cX4_fails 5 = .ok (.iconst 0, 1) := dk_3 (dk_at dksX4_fails_0 5 rfl rfl)
theorem dX4_fails_6 : decode cX4_fails 6 = .ok (.ireturn, 1) := dk_172 (dk_at dksX4_fails_0 6 rfl rfl)
abbrev cX4_records : ByteArray := prog_9_method_10_code
def yX4_records : MethodName := ⟨RX4, "records", "()V"⟩
def dkwX4_records_3 : List UInt8 := [89, 180, 0, 57, 4, 96, 181, 0, 57, 177]
abbrev dktX4_records_3 : List UInt8 := dkwX4_records_3 ++ []
def dkwX4_records_2 : List UInt8 := [181, 0, 57, 42, 180, 0, 13, 3, 42, 180, 0, 19, 17, 0, 194, 42, 180, 0, 57, 104, 184, 0, 53, 42]
abbrev dktX4_records_2 : List UInt8 := dkwX4_records_2 ++ dktX4_records_3
def dkwX4_records_1 : List UInt8 := [180, 0, 19, 27, 17, 0, 194, 96, 46, 79, 132, 1, 1, 167, 255, 230, 42, 89, 180, 0, 57, 4, 100]
abbrev dktX4_records_1 : List UInt8 := dkwX4_records_1 ++ dktX4_records_2
def dkwX4_records_0 : List UInt8 := [42, 180, 0, 57, 7, 160, 0, 44, 3, 60, 27, 17, 2, 70, 162, 0, 25, 42, 180, 0, 19, 27, 42]
abbrev dktX4_records_0 : List UInt8 := dkwX4_records_0 ++ dktX4_records_1
theorem dksX4_records_0 : cX4_records.data.toList.drop 0 = dktX4_records_0 := by decide +kernel
theorem dksX4_records_1 : cX4_records.data.toList.drop 23 = dktX4_records_1 := dk_seg dksX4_records_0 23 rfl rfl
theorem dksX4_records_2 : cX4_records.data.toList.drop 46 = dktX4_records_2 := dk_seg dksX4_records_1 23 rfl rfl
theorem dksX4_records_3 : cX4_records.data.toList.drop 70 = dktX4_records_3 := dk_seg dksX4_records_2 24 rfl rfl
theorem dX4_records_0 : decode cX4_records 0 = .ok (.aload_n 0, 1) := dk_42 (dk_at dksX4_records_0 0 rfl rfl)
theorem dX4_records_1 : decode cX4_records 1 = .ok (.getfield 57, 3) := dk_180 0 57 (dk_at dksX4_records_0 1 rfl rfl)
theorem dX4_records_4 : decode cX4_records 4 = .ok (.iconst 4, 1) := dk_7 (dk_at dksX4_records_0 4 rfl rfl)
theorem dX4_records_5 : decode cX4_records 5 = .ok (.if_icmp .ne 44, 3) := dk_160 0 44 (dk_at dksX4_records_0 5 rfl rfl)
theorem dX4_records_8 : decode cX4_records 8 = .ok (.iconst 0, 1) := dk_3 (dk_at dksX4_records_0 8 rfl rfl)
theorem dX4_records_9 : decode cX4_records 9 = .ok (.istore_n 1, 1) := dk_60 (dk_at dksX4_records_0 9 rfl rfl)
theorem dX4_records_10 : decode cX4_records 10 = .ok (.iload_n 1, 1) := dk_27 (dk_at dksX4_records_0 10 rfl rfl)
theorem dX4_records_11 : decode cX4_records 11 = .ok (.sipush 582, 3) := dk_17 2 70 (dk_at dksX4_records_0 11 rfl rfl)
theorem dX4_records_14 : decode cX4_records 14 = .ok (.if_icmp .ge 25, 3) := dk_162 0 25 (dk_at dksX4_records_0 14 rfl rfl)
theorem dX4_records_17 : decode cX4_records 17 = .ok (.aload_n 0, 1) := dk_42 (dk_at dksX4_records_0 17 rfl rfl)
theorem dX4_records_18 : decode cX4_records 18 = .ok (.getfield 19, 3) := dk_180 0 19 (dk_at dksX4_records_0 18 rfl rfl)
theorem dX4_records_21 : decode cX4_records 21 = .ok (.iload_n 1, 1) := dk_27 (dk_at dksX4_records_0 21 rfl rfl)
theorem dX4_records_22 : decode cX4_records 22 = .ok (.aload_n 0, 1) := dk_42 (dk_at dksX4_records_0 22 rfl rfl)
theorem dX4_records_23 : decode cX4_records 23 = .ok (.getfield 19, 3) := dk_180 0 19 (dk_at dksX4_records_1 0 rfl rfl)
theorem dX4_records_26 : decode cX4_records 26 = .ok (.iload_n 1, 1) := dk_27 (dk_at dksX4_records_1 3 rfl rfl)
theorem dX4_records_27 : decode cX4_records 27 = .ok (.sipush 194, 3) := dk_17 0 194 (dk_at dksX4_records_1 4 rfl rfl)
theorem dX4_records_30 : decode cX4_records 30 = .ok (.iadd, 1) := dk_96 (dk_at dksX4_records_1 7 rfl rfl)
theorem dX4_records_31 : decode cX4_records 31 = .ok (.iaload, 1) := dk_46 (dk_at dksX4_records_1 8 rfl rfl)
theorem dX4_records_32 : decode cX4_records 32 = .ok (.iastore, 1) := dk_79 (dk_at dksX4_records_1 9 rfl rfl)
theorem dX4_records_33 : decode cX4_records 33 = .ok (.iinc 1 1, 3) := dk_132 1 1 (dk_at dksX4_records_1 10 rfl rfl)
theorem dX4_records_36 : decode cX4_records 36 = .ok (.goto (-26), 3) := dk_167 255 230 (dk_at dksX4_records_1 13 rfl rfl)
theorem dX4_records_39 : decode cX4_records 39 = .ok (.aload_n 0, 1) := dk_42 (dk_at dksX4_records_1 16 rfl rfl)
theorem dX4_records_40 : decode cX4_records 40 = .ok (.dup, 1) := dk_89 (dk_at dksX4_records_1 17 rfl rfl)
theorem dX4_records_41 : decode cX4_records 41 = .ok (.getfield 57, 3) := dk_180 0 57 (dk_at dksX4_records_1 18 rfl rfl)
theorem dX4_records_44 : decode cX4_records 44 = .ok (.iconst 1, 1) := dk_4 (dk_at dksX4_records_1 21 rfl rfl)
theorem dX4_records_45 : decode cX4_records 45 = .ok (.isub, 1) := dk_100 (dk_at dksX4_records_1 22 rfl rfl)
theorem dX4_records_46 : decode cX4_records 46 = .ok (.putfield 57, 3) := dk_181 0 57 (dk_at dksX4_records_2 0 rfl rfl)
theorem dX4_records_49 : decode cX4_records 49 = .ok (.aload_n 0, 1) := dk_42 (dk_at dksX4_records_2 3 rfl rfl)
theorem dX4_records_50 : decode cX4_records 50 = .ok (.getfield 13, 3) := dk_180 0 13 (dk_at dksX4_records_2 4 rfl rfl)
theorem dX4_records_53 : decode cX4_records 53 = .ok (.iconst 0, 1) := dk_3 (dk_at dksX4_records_2 7 rfl rfl)
theorem dX4_records_54 : decode cX4_records 54 = .ok (.aload_n 0, 1) := dk_42 (dk_at dksX4_records_2 8 rfl rfl)
theorem dX4_records_55 : decode cX4_records 55 = .ok (.getfield 19, 3) := dk_180 0 19 (dk_at dksX4_records_2 9 rfl rfl)
theorem dX4_records_58 : decode cX4_records 58 = .ok (.sipush 194, 3) := dk_17 0 194 (dk_at dksX4_records_2 12 rfl rfl)
theorem dX4_records_61 : decode cX4_records 61 = .ok (.aload_n 0, 1) := dk_42 (dk_at dksX4_records_2 15 rfl rfl)
theorem dX4_records_62 : decode cX4_records 62 = .ok (.getfield 57, 3) := dk_180 0 57 (dk_at dksX4_records_2 16 rfl rfl)
theorem dX4_records_65 : decode cX4_records 65 = .ok (.imul, 1) := dk_104 (dk_at dksX4_records_2 19 rfl rfl)
theorem dX4_records_66 : decode cX4_records 66 = .ok (.invokestatic 53, 3) := dk_184 0 53 (dk_at dksX4_records_2 20 rfl rfl)
theorem dX4_records_69 : decode cX4_records 69 = .ok (.aload_n 0, 1) := dk_42 (dk_at dksX4_records_2 23 rfl rfl)
theorem dX4_records_70 : decode cX4_records 70 = .ok (.dup, 1) := dk_89 (dk_at dksX4_records_3 0 rfl rfl)
theorem dX4_records_71 : decode cX4_records 71 = .ok (.getfield 57, 3) := dk_180 0 57 (dk_at dksX4_records_3 1 rfl rfl)
theorem dX4_records_74 : decode cX4_records 74 = .ok (.iconst 1, 1) := dk_4 (dk_at dksX4_records_3 4 rfl rfl)
theorem dX4_records_75 : decode cX4_records 75 = .ok (.iadd, 1) := dk_96 (dk_at dksX4_records_3 5 rfl rfl)
theorem dX4_records_76 : decode cX4_records 76 = .ok (.putfield 57, 3) := dk_181 0 57 (dk_at dksX4_records_3 6 rfl rfl)
theorem dX4_records_79 : decode cX4_records 79 = .ok (.return_, 1) := dk_177 (dk_at dksX4_records_3 9 rfl rfl)
abbrev cX4_forget : ByteArray := prog_9_method_41_code
def yX4_forget : MethodName := ⟨RX4, "forget", "(II)Z"⟩
def dkwX4_forget_0 : List UInt8 := [42, 182, 0, 127, 42, 42, 27, 28, 182, 0, 137, 182, 0, 134, 4, 160, 0, 7, 4, 167, 0, 4, 3, 172]
abbrev dktX4_forget_0 : List UInt8 := dkwX4_forget_0 ++ []
theorem dksX4_forget_0 : cX4_forget.data.toList.drop 0 = dktX4_forget_0 := by decide +kernel
theorem dX4_forget_0 : decode cX4_forget 0 = .ok (.aload_n 0, 1) := dk_42 (dk_at dksX4_forget_0 0 rfl rfl)
theorem dX4_forget_1 : decode cX4_forget 1 = .ok (.invokevirtual 127, 3) := dk_182 0 127 (dk_at dksX4_forget_0 1 rfl rfl)
theorem dX4_forget_4 : decode cX4_forget 4 = .ok (.aload_n 0, 1) := dk_42 (dk_at dksX4_forget_0 4 rfl rfl)
theorem dX4_forget_5 : decode cX4_forget 5 = .ok (.aload_n 0, 1) := dk_42 (dk_at dksX4_forget_0 5 rfl rfl)
theorem dX4_forget_6 : decode cX4_forget 6 = .ok (.iload_n 1, 1) := dk_27 (dk_at dksX4_forget_0 6 rfl rfl)
theorem dX4_forget_7 : decode cX4_forget 7 = .ok (.iload_n 2, 1) := dk_28 (dk_at dksX4_forget_0 7 rfl rfl)
theorem dX4_forget_8 : decode cX4_forget 8 = .ok (.invokevirtual 137, 3) := dk_182 0 137 (dk_at dksX4_forget_0 8 rfl rfl)
theorem dX4_forget_11 : decode cX4_forget 11 = .ok (.invokevirtual 134, 3) := dk_182 0 134 (dk_at dksX4_forget_0 11 rfl rfl)
theorem dX4_forget_14 : decode cX4_forget 14 = .ok (.iconst 1, 1) := dk_4 (dk_at dksX4_forget_0 14 rfl rfl)
theorem dX4_forget_15 : decode cX4_forget 15 = .ok (.if_icmp .ne 7, 3) := dk_160 0 7 (dk_at dksX4_forget_0 15 rfl rfl)
theorem dX4_forget_18 : decode cX4_forget 18 = .ok (.iconst 1, 1) := dk_4 (dk_at dksX4_forget_0 18 rfl rfl)
theorem dX4_forget_19 : decode cX4_forget 19 = .ok (.goto 4, 3) := dk_167 0 4 (dk_at dksX4_forget_0 19 rfl rfl)
theorem dX4_forget_22 : decode cX4_forget 22 = .ok (.iconst 0, 1) := dk_3 (dk_at dksX4_forget_0 22 rfl rfl)
theorem dX4_forget_23 : decode cX4_forget 23 = .ok (.ireturn, 1) := dk_172 (dk_at dksX4_forget_0 23 rfl rfl)
abbrev cX4_goForget : ByteArray := prog_9_method_27_code
def yX4_goForget : MethodName := ⟨RX4, "goForget", "(II)I"⟩
def dkwX4_goForget_3 : List UInt8 := [153, 0, 7, 4, 167, 0, 4, 3, 172]
abbrev dktX4_goForget_3 : List UInt8 := dkwX4_goForget_3 ++ []
def dkwX4_goForget_2 : List UInt8 := [54, 5, 42, 180, 0, 7, 29, 21, 4, 79, 42, 182, 0, 86, 153, 0, 8, 16, 244, 167, 0, 13, 21, 5]
abbrev dktX4_goForget_2 : List UInt8 := dkwX4_goForget_2 ++ dktX4_goForget_3
def dkwX4_goForget_1 : List UInt8 := [3, 167, 0, 5, 18, 67, 54, 4, 42, 180, 0, 7, 29, 46, 21, 4, 159, 0, 7, 4, 167, 0, 4, 3]
abbrev dktX4_goForget_1 : List UInt8 := dkwX4_goForget_1 ++ dktX4_goForget_2
def dkwX4_goForget_0 : List UInt8 := [27, 28, 184, 0, 96, 154, 0, 6, 16, 245, 172, 3, 7, 27, 104, 96, 28, 96, 62, 27, 6, 160, 0, 7]
abbrev dktX4_goForget_0 : List UInt8 := dkwX4_goForget_0 ++ dktX4_goForget_1
theorem dksX4_goForget_0 : cX4_goForget.data.toList.drop 0 = dktX4_goForget_0 := by decide +kernel
theorem dksX4_goForget_1 : cX4_goForget.data.toList.drop 24 = dktX4_goForget_1 := dk_seg dksX4_goForget_0 24 rfl rfl
theorem dksX4_goForget_2 : cX4_goForget.data.toList.drop 48 = dktX4_goForget_2 := dk_seg dksX4_goForget_1 24 rfl rfl
theorem dksX4_goForget_3 : cX4_goForget.data.toList.drop 72 = dktX4_goForget_3 := dk_seg dksX4_goForget_2 24 rfl rfl
theorem dX4_goForget_0 : decode cX4_goForget 0 = .ok (.iload_n 1, 1) := dk_27 (dk_at dksX4_goForget_0 0 rfl rfl)
theorem dX4_goForget_1 : decode cX4_goForget 1 = .ok (.iload_n 2, 1) := dk_28 (dk_at dksX4_goForget_0 1 rfl rfl)
theorem dX4_goForget_2 : decode cX4_goForget 2 = .ok (.invokestatic 96, 3) := dk_184 0 96 (dk_at dksX4_goForget_0 2 rfl rfl)
theorem dX4_goForget_5 : decode cX4_goForget 5 = .ok (.ifCond .ne 6, 3) := dk_154 0 6 (dk_at dksX4_goForget_0 5 rfl rfl)
theorem dX4_goForget_8 : decode cX4_goForget 8 = .ok (.bipush (-11), 2) := dk_16 245 (dk_at dksX4_goForget_0 8 rfl rfl)
theorem dX4_goForget_10 : decode cX4_goForget 10 = .ok (.ireturn, 1) := dk_172 (dk_at dksX4_goForget_0 10 rfl rfl)
theorem dX4_goForget_11 : decode cX4_goForget 11 = .ok (.iconst 0, 1) := dk_3 (dk_at dksX4_goForget_0 11 rfl rfl)
theorem dX4_goForget_12 : decode cX4_goForget 12 = .ok (.iconst 4, 1) := dk_7 (dk_at dksX4_goForget_0 12 rfl rfl)
theorem dX4_goForget_13 : decode cX4_goForget 13 = .ok (.iload_n 1, 1) := dk_27 (dk_at dksX4_goForget_0 13 rfl rfl)
theorem dX4_goForget_14 : decode cX4_goForget 14 = .ok (.imul, 1) := dk_104 (dk_at dksX4_goForget_0 14 rfl rfl)
theorem dX4_goForget_15 : decode cX4_goForget 15 = .ok (.iadd, 1) := dk_96 (dk_at dksX4_goForget_0 15 rfl rfl)
theorem dX4_goForget_16 : decode cX4_goForget 16 = .ok (.iload_n 2, 1) := dk_28 (dk_at dksX4_goForget_0 16 rfl rfl)
theorem dX4_goForget_17 : decode cX4_goForget 17 = .ok (.iadd, 1) := dk_96 (dk_at dksX4_goForget_0 17 rfl rfl)
theorem dX4_goForget_18 : decode cX4_goForget 18 = .ok (.istore_n 3, 1) := dk_62 (dk_at dksX4_goForget_0 18 rfl rfl)
theorem dX4_goForget_19 : decode cX4_goForget 19 = .ok (.iload_n 1, 1) := dk_27 (dk_at dksX4_goForget_0 19 rfl rfl)
theorem dX4_goForget_20 : decode cX4_goForget 20 = .ok (.iconst 3, 1) := dk_6 (dk_at dksX4_goForget_0 20 rfl rfl)
theorem dX4_goForget_21 : decode cX4_goForget 21 = .ok (.if_icmp .ne 7, 3) := dk_160 0 7 (dk_at dksX4_goForget_0 21 rfl rfl)
theorem dX4_goForget_24 : decode cX4_goForget 24 = .ok (.iconst 0, 1) := dk_3 (dk_at dksX4_goForget_1 0 rfl rfl)
theorem dX4_goForget_25 : decode cX4_goForget 25 = .ok (.goto 5, 3) := dk_167 0 5 (dk_at dksX4_goForget_1 1 rfl rfl)
theorem dX4_goForget_28 : decode cX4_goForget 28 = .ok (.ldc 67, 2) := dk_18 67 (dk_at dksX4_goForget_1 4 rfl rfl)
theorem dX4_goForget_30 : decode cX4_goForget 30 = .ok (.istore 4, 2) := dk_54 4 (dk_at dksX4_goForget_1 6 rfl rfl)
theorem dX4_goForget_32 : decode cX4_goForget 32 = .ok (.aload_n 0, 1) := dk_42 (dk_at dksX4_goForget_1 8 rfl rfl)
theorem dX4_goForget_33 : decode cX4_goForget 33 = .ok (.getfield 7, 3) := dk_180 0 7 (dk_at dksX4_goForget_1 9 rfl rfl)
theorem dX4_goForget_36 : decode cX4_goForget 36 = .ok (.iload_n 3, 1) := dk_29 (dk_at dksX4_goForget_1 12 rfl rfl)
theorem dX4_goForget_37 : decode cX4_goForget 37 = .ok (.iaload, 1) := dk_46 (dk_at dksX4_goForget_1 13 rfl rfl)
theorem dX4_goForget_38 : decode cX4_goForget 38 = .ok (.iload 4, 2) := dk_21 4 (dk_at dksX4_goForget_1 14 rfl rfl)
theorem dX4_goForget_40 : decode cX4_goForget 40 = .ok (.if_icmp .eq 7, 3) := dk_159 0 7 (dk_at dksX4_goForget_1 16 rfl rfl)
theorem dX4_goForget_43 : decode cX4_goForget 43 = .ok (.iconst 1, 1) := dk_4 (dk_at dksX4_goForget_1 19 rfl rfl)
theorem dX4_goForget_44 : decode cX4_goForget 44 = .ok (.goto 4, 3) := dk_167 0 4 (dk_at dksX4_goForget_1 20 rfl rfl)
theorem dX4_goForget_47 : decode cX4_goForget 47 = .ok (.iconst 0, 1) := dk_3 (dk_at dksX4_goForget_1 23 rfl rfl)
theorem dX4_goForget_48 : decode cX4_goForget 48 = .ok (.istore 5, 2) := dk_54 5 (dk_at dksX4_goForget_2 0 rfl rfl)
theorem dX4_goForget_50 : decode cX4_goForget 50 = .ok (.aload_n 0, 1) := dk_42 (dk_at dksX4_goForget_2 2 rfl rfl)
theorem dX4_goForget_51 : decode cX4_goForget 51 = .ok (.getfield 7, 3) := dk_180 0 7 (dk_at dksX4_goForget_2 3 rfl rfl)
theorem dX4_goForget_54 : decode cX4_goForget 54 = .ok (.iload_n 3, 1) := dk_29 (dk_at dksX4_goForget_2 6 rfl rfl)
theorem dX4_goForget_55 : decode cX4_goForget 55 = .ok (.iload 4, 2) := dk_21 4 (dk_at dksX4_goForget_2 7 rfl rfl)
theorem dX4_goForget_57 : decode cX4_goForget 57 = .ok (.iastore, 1) := dk_79 (dk_at dksX4_goForget_2 9 rfl rfl)
theorem dX4_goForget_58 : decode cX4_goForget 58 = .ok (.aload_n 0, 1) := dk_42 (dk_at dksX4_goForget_2 10 rfl rfl)
theorem dX4_goForget_59 : decode cX4_goForget 59 = .ok (.invokevirtual 86, 3) := dk_182 0 86 (dk_at dksX4_goForget_2 11 rfl rfl)
theorem dX4_goForget_62 : decode cX4_goForget 62 = .ok (.ifCond .eq 8, 3) := dk_153 0 8 (dk_at dksX4_goForget_2 14 rfl rfl)
theorem dX4_goForget_65 : decode cX4_goForget 65 = .ok (.bipush (-12), 2) := dk_16 244 (dk_at dksX4_goForget_2 17 rfl rfl)
theorem dX4_goForget_67 : decode cX4_goForget 67 = .ok (.goto 13, 3) := dk_167 0 13 (dk_at dksX4_goForget_2 19 rfl rfl)
theorem dX4_goForget_70 : decode cX4_goForget 70 = .ok (.iload 5, 2) := dk_21 5 (dk_at dksX4_goForget_2 22 rfl rfl)
theorem dX4_goForget_72 : decode cX4_goForget 72 = .ok (.ifCond .eq 7, 3) := dk_153 0 7 (dk_at dksX4_goForget_3 0 rfl rfl)
theorem dX4_goForget_75 : decode cX4_goForget 75 = .ok (.iconst 1, 1) := dk_4 (dk_at dksX4_goForget_3 3 rfl rfl)
theorem dX4_goForget_76 : decode cX4_goForget 76 = .ok (.goto 4, 3) := dk_167 0 4 (dk_at dksX4_goForget_3 4 rfl rfl)
theorem dX4_goForget_79 : decode cX4_goForget 79 = .ok (.iconst 0, 1) := dk_3 (dk_at dksX4_goForget_3 7 rfl rfl)
theorem dX4_goForget_80 : decode cX4_goForget 80 = .ok (.ireturn, 1) := dk_172 (dk_at dksX4_goForget_3 8 rfl rfl)
abbrev cX4_forgetAll : ByteArray := prog_9_method_42_code
def yX4_forgetAll : MethodName := ⟨RX4, "forgetAll", "()I"⟩
def dkwX4_forgetAll_0 : List UInt8 := [42, 182, 0, 127, 42, 182, 0, 46, 42, 42, 182, 0, 100, 182, 0, 134, 172]
abbrev dktX4_forgetAll_0 : List UInt8 := dkwX4_forgetAll_0 ++ []
theorem dksX4_forgetAll_0 : cX4_forgetAll.data.toList.drop 0 = dktX4_forgetAll_0 := by decide +kernel
theorem dX4_forgetAll_0 : decode cX4_forgetAll 0 = .ok (.aload_n 0, 1) := dk_42 (dk_at dksX4_forgetAll_0 0 rfl rfl)
theorem dX4_forgetAll_1 : decode cX4_forgetAll 1 = .ok (.invokevirtual 127, 3) := dk_182 0 127 (dk_at dksX4_forgetAll_0 1 rfl rfl)
theorem dX4_forgetAll_4 : decode cX4_forgetAll 4 = .ok (.aload_n 0, 1) := dk_42 (dk_at dksX4_forgetAll_0 4 rfl rfl)
theorem dX4_forgetAll_5 : decode cX4_forgetAll 5 = .ok (.invokevirtual 46, 3) := dk_182 0 46 (dk_at dksX4_forgetAll_0 5 rfl rfl)
theorem dX4_forgetAll_8 : decode cX4_forgetAll 8 = .ok (.aload_n 0, 1) := dk_42 (dk_at dksX4_forgetAll_0 8 rfl rfl)
theorem dX4_forgetAll_9 : decode cX4_forgetAll 9 = .ok (.aload_n 0, 1) := dk_42 (dk_at dksX4_forgetAll_0 9 rfl rfl)
theorem dX4_forgetAll_10 : decode cX4_forgetAll 10 = .ok (.invokevirtual 100, 3) := dk_182 0 100 (dk_at dksX4_forgetAll_0 10 rfl rfl)
theorem dX4_forgetAll_13 : decode cX4_forgetAll 13 = .ok (.invokevirtual 134, 3) := dk_182 0 134 (dk_at dksX4_forgetAll_0 13 rfl rfl)
theorem dX4_forgetAll_16 : decode cX4_forgetAll 16 = .ok (.ireturn, 1) := dk_172 (dk_at dksX4_forgetAll_0 16 rfl rfl)
abbrev cX4_changed : ByteArray := prog_9_method_20_code
def yX4_changed : MethodName := ⟨RX4, "changed", "()I"⟩
def dkwX4_changed_1 : List UInt8 := [28, 96, 46, 159, 0, 7, 4, 167, 0, 4, 3, 96, 60, 132, 2, 1, 167, 255, 220, 27, 172]
abbrev dktX4_changed_1 : List UInt8 := dkwX4_changed_1 ++ []
def dkwX4_changed_0 : List UInt8 := [3, 60, 3, 61, 28, 16, 16, 162, 0, 36, 27, 42, 180, 0, 7, 3, 28, 96, 46, 42, 180, 0, 13, 3]
abbrev dktX4_changed_0 : List UInt8 := dkwX4_changed_0 ++ dktX4_changed_1
theorem dksX4_changed_0 : cX4_changed.data.toList.drop 0 = dktX4_changed_0 := by decide +kernel
theorem dksX4_changed_1 : cX4_changed.data.toList.drop 24 = dktX4_changed_1 := dk_seg dksX4_changed_0 24 rfl rfl
theorem dX4_changed_0 : decode cX4_changed 0 = .ok (.iconst 0, 1) := dk_3 (dk_at dksX4_changed_0 0 rfl rfl)
theorem dX4_changed_1 : decode cX4_changed 1 = .ok (.istore_n 1, 1) := dk_60 (dk_at dksX4_changed_0 1 rfl rfl)
theorem dX4_changed_2 : decode cX4_changed 2 = .ok (.iconst 0, 1) := dk_3 (dk_at dksX4_changed_0 2 rfl rfl)
theorem dX4_changed_3 : decode cX4_changed 3 = .ok (.istore_n 2, 1) := dk_61 (dk_at dksX4_changed_0 3 rfl rfl)
theorem dX4_changed_4 : decode cX4_changed 4 = .ok (.iload_n 2, 1) := dk_28 (dk_at dksX4_changed_0 4 rfl rfl)
theorem dX4_changed_5 : decode cX4_changed 5 = .ok (.bipush 16, 2) := dk_16 16 (dk_at dksX4_changed_0 5 rfl rfl)
theorem dX4_changed_7 : decode cX4_changed 7 = .ok (.if_icmp .ge 36, 3) := dk_162 0 36 (dk_at dksX4_changed_0 7 rfl rfl)
theorem dX4_changed_10 : decode cX4_changed 10 = .ok (.iload_n 1, 1) := dk_27 (dk_at dksX4_changed_0 10 rfl rfl)
theorem dX4_changed_11 : decode cX4_changed 11 = .ok (.aload_n 0, 1) := dk_42 (dk_at dksX4_changed_0 11 rfl rfl)
theorem dX4_changed_12 : decode cX4_changed 12 = .ok (.getfield 7, 3) := dk_180 0 7 (dk_at dksX4_changed_0 12 rfl rfl)
theorem dX4_changed_15 : decode cX4_changed 15 = .ok (.iconst 0, 1) := dk_3 (dk_at dksX4_changed_0 15 rfl rfl)
theorem dX4_changed_16 : decode cX4_changed 16 = .ok (.iload_n 2, 1) := dk_28 (dk_at dksX4_changed_0 16 rfl rfl)
theorem dX4_changed_17 : decode cX4_changed 17 = .ok (.iadd, 1) := dk_96 (dk_at dksX4_changed_0 17 rfl rfl)
theorem dX4_changed_18 : decode cX4_changed 18 = .ok (.iaload, 1) := dk_46 (dk_at dksX4_changed_0 18 rfl rfl)
theorem dX4_changed_19 : decode cX4_changed 19 = .ok (.aload_n 0, 1) := dk_42 (dk_at dksX4_changed_0 19 rfl rfl)
theorem dX4_changed_20 : decode cX4_changed 20 = .ok (.getfield 13, 3) := dk_180 0 13 (dk_at dksX4_changed_0 20 rfl rfl)
theorem dX4_changed_23 : decode cX4_changed 23 = .ok (.iconst 0, 1) := dk_3 (dk_at dksX4_changed_0 23 rfl rfl)
theorem dX4_changed_24 : decode cX4_changed 24 = .ok (.iload_n 2, 1) := dk_28 (dk_at dksX4_changed_1 0 rfl rfl)
theorem dX4_changed_25 : decode cX4_changed 25 = .ok (.iadd, 1) := dk_96 (dk_at dksX4_changed_1 1 rfl rfl)
theorem dX4_changed_26 : decode cX4_changed 26 = .ok (.iaload, 1) := dk_46 (dk_at dksX4_changed_1 2 rfl rfl)
theorem dX4_changed_27 : decode cX4_changed 27 = .ok (.if_icmp .eq 7, 3) := dk_159 0 7 (dk_at dksX4_changed_1 3 rfl rfl)
theorem dX4_changed_30 : decode cX4_changed 30 = .ok (.iconst 1, 1) := dk_4 (dk_at dksX4_changed_1 6 rfl rfl)
theorem dX4_changed_31 : decode cX4_changed 31 = .ok (.goto 4, 3) := dk_167 0 4 (dk_at dksX4_changed_1 7 rfl rfl)
theorem dX4_changed_34 : decode cX4_changed 34 = .ok (.iconst 0, 1) := dk_3 (dk_at dksX4_changed_1 10 rfl rfl)
theorem dX4_changed_35 : decode cX4_changed 35 = .ok (.iadd, 1) := dk_96 (dk_at dksX4_changed_1 11 rfl rfl)
theorem dX4_changed_36 : decode cX4_changed 36 = .ok (.istore_n 1, 1) := dk_60 (dk_at dksX4_changed_1 12 rfl rfl)
theorem dX4_changed_37 : decode cX4_changed 37 = .ok (.iinc 2 1, 3) := dk_132 2 1 (dk_at dksX4_changed_1 13 rfl rfl)
theorem dX4_changed_40 : decode cX4_changed 40 = .ok (.goto (-36), 3) := dk_167 255 220 (dk_at dksX4_changed_1 16 rfl rfl)
theorem dX4_changed_43 : decode cX4_changed 43 = .ok (.iload_n 1, 1) := dk_27 (dk_at dksX4_changed_1 19 rfl rfl)
theorem dX4_changed_44 : decode cX4_changed 44 = .ok (.ireturn, 1) := dk_172 (dk_at dksX4_changed_1 20 rfl rfl)
abbrev cX4_tighten : ByteArray := prog_9_method_43_code
def yX4_tighten : MethodName := ⟨RX4, "tighten", "()I"⟩
def dkwX4_tighten_0 : List UInt8 := [42, 182, 0, 127, 42, 42, 182, 0, 140, 182, 0, 143, 172]
abbrev dktX4_tighten_0 : List UInt8 := dkwX4_tighten_0 ++ []
theorem dksX4_tighten_0 : cX4_tighten.data.toList.drop 0 = dktX4_tighten_0 := by decide +kernel
theorem dX4_tighten_0 : decode cX4_tighten 0 = .ok (.aload_n 0, 1) := dk_42 (dk_at dksX4_tighten_0 0 rfl rfl)
theorem dX4_tighten_1 : decode cX4_tighten 1 = .ok (.invokevirtual 127, 3) := dk_182 0 127 (dk_at dksX4_tighten_0 1 rfl rfl)
theorem dX4_tighten_4 : decode cX4_tighten 4 = .ok (.aload_n 0, 1) := dk_42 (dk_at dksX4_tighten_0 4 rfl rfl)
theorem dX4_tighten_5 : decode cX4_tighten 5 = .ok (.aload_n 0, 1) := dk_42 (dk_at dksX4_tighten_0 5 rfl rfl)
theorem dX4_tighten_6 : decode cX4_tighten 6 = .ok (.invokevirtual 140, 3) := dk_182 0 140 (dk_at dksX4_tighten_0 6 rfl rfl)
theorem dX4_tighten_9 : decode cX4_tighten 9 = .ok (.invokevirtual 143, 3) := dk_182 0 143 (dk_at dksX4_tighten_0 9 rfl rfl)
theorem dX4_tighten_12 : decode cX4_tighten 12 = .ok (.ireturn, 1) := dk_172 (dk_at dksX4_tighten_0 12 rfl rfl)
abbrev cX4_goTighten : ByteArray := prog_9_method_28_code
def yX4_goTighten : MethodName := ⟨RX4, "goTighten", "()I"⟩
def dkwX4_goTighten_1 : List UInt8 := [182, 0, 89, 153, 0, 8, 16, 244, 167, 0, 7, 42, 182, 0, 100, 172]
abbrev dktX4_goTighten_1 : List UInt8 := dkwX4_goTighten_1 ++ []
def dkwX4_goTighten_0 : List UInt8 := [42, 182, 0, 82, 154, 0, 6, 16, 244, 172, 42, 180, 0, 25, 3, 42, 180, 0, 7, 3, 184, 0, 75, 42]
abbrev dktX4_goTighten_0 : List UInt8 := dkwX4_goTighten_0 ++ dktX4_goTighten_1
theorem dksX4_goTighten_0 : cX4_goTighten.data.toList.drop 0 = dktX4_goTighten_0 := by decide +kernel
theorem dksX4_goTighten_1 : cX4_goTighten.data.toList.drop 24 = dktX4_goTighten_1 := dk_seg dksX4_goTighten_0 24 rfl rfl
theorem dX4_goTighten_0 : decode cX4_goTighten 0 = .ok (.aload_n 0, 1) := dk_42 (dk_at dksX4_goTighten_0 0 rfl rfl)
theorem dX4_goTighten_1 : decode cX4_goTighten 1 = .ok (.invokevirtual 82, 3) := dk_182 0 82 (dk_at dksX4_goTighten_0 1 rfl rfl)
theorem dX4_goTighten_4 : decode cX4_goTighten 4 = .ok (.ifCond .ne 6, 3) := dk_154 0 6 (dk_at dksX4_goTighten_0 4 rfl rfl)
theorem dX4_goTighten_7 : decode cX4_goTighten 7 = .ok (.bipush (-12), 2) := dk_16 244 (dk_at dksX4_goTighten_0 7 rfl rfl)
theorem dX4_goTighten_9 : decode cX4_goTighten 9 = .ok (.ireturn, 1) := dk_172 (dk_at dksX4_goTighten_0 9 rfl rfl)
theorem dX4_goTighten_10 : decode cX4_goTighten 10 = .ok (.aload_n 0, 1) := dk_42 (dk_at dksX4_goTighten_0 10 rfl rfl)
theorem dX4_goTighten_11 : decode cX4_goTighten 11 = .ok (.getfield 25, 3) := dk_180 0 25 (dk_at dksX4_goTighten_0 11 rfl rfl)
theorem dX4_goTighten_14 : decode cX4_goTighten 14 = .ok (.iconst 0, 1) := dk_3 (dk_at dksX4_goTighten_0 14 rfl rfl)
theorem dX4_goTighten_15 : decode cX4_goTighten 15 = .ok (.aload_n 0, 1) := dk_42 (dk_at dksX4_goTighten_0 15 rfl rfl)
theorem dX4_goTighten_16 : decode cX4_goTighten 16 = .ok (.getfield 7, 3) := dk_180 0 7 (dk_at dksX4_goTighten_0 16 rfl rfl)
theorem dX4_goTighten_19 : decode cX4_goTighten 19 = .ok (.iconst 0, 1) := dk_3 (dk_at dksX4_goTighten_0 19 rfl rfl)
theorem dX4_goTighten_20 : decode cX4_goTighten 20 = .ok (.invokestatic 75, 3) := dk_184 0 75 (dk_at dksX4_goTighten_0 20 rfl rfl)
theorem dX4_goTighten_23 : decode cX4_goTighten 23 = .ok (.aload_n 0, 1) := dk_42 (dk_at dksX4_goTighten_0 23 rfl rfl)
theorem dX4_goTighten_24 : decode cX4_goTighten 24 = .ok (.invokevirtual 89, 3) := dk_182 0 89 (dk_at dksX4_goTighten_1 0 rfl rfl)
theorem dX4_goTighten_27 : decode cX4_goTighten 27 = .ok (.ifCond .eq 8, 3) := dk_153 0 8 (dk_at dksX4_goTighten_1 3 rfl rfl)
theorem dX4_goTighten_30 : decode cX4_goTighten 30 = .ok (.bipush (-12), 2) := dk_16 244 (dk_at dksX4_goTighten_1 6 rfl rfl)
theorem dX4_goTighten_32 : decode cX4_goTighten 32 = .ok (.goto 7, 3) := dk_167 0 7 (dk_at dksX4_goTighten_1 8 rfl rfl)
theorem dX4_goTighten_35 : decode cX4_goTighten 35 = .ok (.aload_n 0, 1) := dk_42 (dk_at dksX4_goTighten_1 11 rfl rfl)
theorem dX4_goTighten_36 : decode cX4_goTighten 36 = .ok (.invokevirtual 100, 3) := dk_182 0 100 (dk_at dksX4_goTighten_1 12 rfl rfl)
theorem dX4_goTighten_39 : decode cX4_goTighten 39 = .ok (.ireturn, 1) := dk_172 (dk_at dksX4_goTighten_1 15 rfl rfl)
abbrev cX4_isTooFar : ByteArray := prog_9_method_19_code
def yX4_isTooFar : MethodName := ⟨RX4, "isTooFar", "()Z"⟩
def dkwX4_isTooFar_2 : List UInt8 := [60, 132, 2, 1, 167, 255, 210, 27, 172]
abbrev dktX4_isTooFar_2 : List UInt8 := dkwX4_isTooFar_2 ++ []
def dkwX4_isTooFar_1 : List UInt8 := [17, 3, 231, 164, 0, 20, 42, 180, 0, 7, 3, 28, 96, 46, 18, 67, 159, 0, 7, 4, 167, 0, 4, 3]
abbrev dktX4_isTooFar_1 : List UInt8 := dkwX4_isTooFar_1 ++ dktX4_isTooFar_2
def dkwX4_isTooFar_0 : List UInt8 := [3, 60, 3, 61, 28, 16, 16, 162, 0, 46, 27, 154, 0, 30, 42, 180, 0, 7, 3, 28, 96, 46]
abbrev dktX4_isTooFar_0 : List UInt8 := dkwX4_isTooFar_0 ++ dktX4_isTooFar_1
theorem dksX4_isTooFar_0 : cX4_isTooFar.data.toList.drop 0 = dktX4_isTooFar_0 := by decide +kernel
theorem dksX4_isTooFar_1 : cX4_isTooFar.data.toList.drop 22 = dktX4_isTooFar_1 := dk_seg dksX4_isTooFar_0 22 rfl rfl
theorem dksX4_isTooFar_2 : cX4_isTooFar.data.toList.drop 46 = dktX4_isTooFar_2 := dk_seg dksX4_isTooFar_1 24 rfl rfl
theorem dX4_isTooFar_0 : decode cX4_isTooFar 0 = .ok (.iconst 0, 1) := dk_3 (dk_at dksX4_isTooFar_0 0 rfl rfl)
theorem dX4_isTooFar_1 : decode cX4_isTooFar 1 = .ok (.istore_n 1, 1) := dk_60 (dk_at dksX4_isTooFar_0 1 rfl rfl)
theorem dX4_isTooFar_2 : decode cX4_isTooFar 2 = .ok (.iconst 0, 1) := dk_3 (dk_at dksX4_isTooFar_0 2 rfl rfl)
theorem dX4_isTooFar_3 : decode cX4_isTooFar 3 = .ok (.istore_n 2, 1) := dk_61 (dk_at dksX4_isTooFar_0 3 rfl rfl)
theorem dX4_isTooFar_4 : decode cX4_isTooFar 4 = .ok (.iload_n 2, 1) := dk_28 (dk_at dksX4_isTooFar_0 4 rfl rfl)
theorem dX4_isTooFar_5 : decode cX4_isTooFar 5 = .ok (.bipush 16, 2) := dk_16 16 (dk_at dksX4_isTooFar_0 5 rfl rfl)
theorem dX4_isTooFar_7 : decode cX4_isTooFar 7 = .ok (.if_icmp .ge 46, 3) := dk_162 0 46 (dk_at dksX4_isTooFar_0 7 rfl rfl)
theorem dX4_isTooFar_10 : decode cX4_isTooFar 10 = .ok (.iload_n 1, 1) := dk_27 (dk_at dksX4_isTooFar_0 10 rfl rfl)
theorem dX4_isTooFar_11 : decode cX4_isTooFar 11 = .ok (.ifCond .ne 30, 3) := dk_154 0 30 (dk_at dksX4_isTooFar_0 11 rfl rfl)
theorem dX4_isTooFar_14 : decode cX4_isTooFar 14 = .ok (.aload_n 0, 1) := dk_42 (dk_at dksX4_isTooFar_0 14 rfl rfl)
theorem dX4_isTooFar_15 : decode cX4_isTooFar 15 = .ok (.getfield 7, 3) := dk_180 0 7 (dk_at dksX4_isTooFar_0 15 rfl rfl)
theorem dX4_isTooFar_18 : decode cX4_isTooFar 18 = .ok (.iconst 0, 1) := dk_3 (dk_at dksX4_isTooFar_0 18 rfl rfl)
theorem dX4_isTooFar_19 : decode cX4_isTooFar 19 = .ok (.iload_n 2, 1) := dk_28 (dk_at dksX4_isTooFar_0 19 rfl rfl)
theorem dX4_isTooFar_20 : decode cX4_isTooFar 20 = .ok (.iadd, 1) := dk_96 (dk_at dksX4_isTooFar_0 20 rfl rfl)
theorem dX4_isTooFar_21 : decode cX4_isTooFar 21 = .ok (.iaload, 1) := dk_46 (dk_at dksX4_isTooFar_0 21 rfl rfl)
theorem dX4_isTooFar_22 : decode cX4_isTooFar 22 = .ok (.sipush 999, 3) := dk_17 3 231 (dk_at dksX4_isTooFar_1 0 rfl rfl)
theorem dX4_isTooFar_25 : decode cX4_isTooFar 25 = .ok (.if_icmp .le 20, 3) := dk_164 0 20 (dk_at dksX4_isTooFar_1 3 rfl rfl)
theorem dX4_isTooFar_28 : decode cX4_isTooFar 28 = .ok (.aload_n 0, 1) := dk_42 (dk_at dksX4_isTooFar_1 6 rfl rfl)
theorem dX4_isTooFar_29 : decode cX4_isTooFar 29 = .ok (.getfield 7, 3) := dk_180 0 7 (dk_at dksX4_isTooFar_1 7 rfl rfl)
theorem dX4_isTooFar_32 : decode cX4_isTooFar 32 = .ok (.iconst 0, 1) := dk_3 (dk_at dksX4_isTooFar_1 10 rfl rfl)
theorem dX4_isTooFar_33 : decode cX4_isTooFar 33 = .ok (.iload_n 2, 1) := dk_28 (dk_at dksX4_isTooFar_1 11 rfl rfl)
theorem dX4_isTooFar_34 : decode cX4_isTooFar 34 = .ok (.iadd, 1) := dk_96 (dk_at dksX4_isTooFar_1 12 rfl rfl)
theorem dX4_isTooFar_35 : decode cX4_isTooFar 35 = .ok (.iaload, 1) := dk_46 (dk_at dksX4_isTooFar_1 13 rfl rfl)
theorem dX4_isTooFar_36 : decode cX4_isTooFar 36 = .ok (.ldc 67, 2) := dk_18 67 (dk_at dksX4_isTooFar_1 14 rfl rfl)
theorem dX4_isTooFar_38 : decode cX4_isTooFar 38 = .ok (.if_icmp .eq 7, 3) := dk_159 0 7 (dk_at dksX4_isTooFar_1 16 rfl rfl)
theorem dX4_isTooFar_41 : decode cX4_isTooFar 41 = .ok (.iconst 1, 1) := dk_4 (dk_at dksX4_isTooFar_1 19 rfl rfl)
theorem dX4_isTooFar_42 : decode cX4_isTooFar 42 = .ok (.goto 4, 3) := dk_167 0 4 (dk_at dksX4_isTooFar_1 20 rfl rfl)
theorem dX4_isTooFar_45 : decode cX4_isTooFar 45 = .ok (.iconst 0, 1) := dk_3 (dk_at dksX4_isTooFar_1 23 rfl rfl)
theorem dX4_isTooFar_46 : decode cX4_isTooFar 46 = .ok (.istore_n 1, 1) := dk_60 (dk_at dksX4_isTooFar_2 0 rfl rfl)
theorem dX4_isTooFar_47 : decode cX4_isTooFar 47 = .ok (.iinc 2 1, 3) := dk_132 2 1 (dk_at dksX4_isTooFar_2 1 rfl rfl)
theorem dX4_isTooFar_50 : decode cX4_isTooFar 50 = .ok (.goto (-46), 3) := dk_167 255 210 (dk_at dksX4_isTooFar_2 4 rfl rfl)
theorem dX4_isTooFar_53 : decode cX4_isTooFar 53 = .ok (.iload_n 1, 1) := dk_27 (dk_at dksX4_isTooFar_2 7 rfl rfl)
theorem dX4_isTooFar_54 : decode cX4_isTooFar 54 = .ok (.ireturn, 1) := dk_172 (dk_at dksX4_isTooFar_2 8 rfl rfl)
abbrev cX4_only : ByteArray := prog_9_method_44_code
def yX4_only : MethodName := ⟨RX4, "only", "(I)I"⟩
def dkwX4_only_0 : List UInt8 := [42, 27, 182, 0, 134, 61, 42, 42, 180, 0, 49, 158, 0, 7, 4, 167, 0, 4, 3, 181, 0, 49, 28, 172]
abbrev dktX4_only_0 : List UInt8 := dkwX4_only_0 ++ []
theorem dksX4_only_0 : cX4_only.data.toList.drop 0 = dktX4_only_0 := by decide +kernel
theorem dX4_only_0 : decode cX4_only 0 = .ok (.aload_n 0, 1) := dk_42 (dk_at dksX4_only_0 0 rfl rfl)
theorem dX4_only_1 : decode cX4_only 1 = .ok (.iload_n 1, 1) := dk_27 (dk_at dksX4_only_0 1 rfl rfl)
theorem dX4_only_2 : decode cX4_only 2 = .ok (.invokevirtual 134, 3) := dk_182 0 134 (dk_at dksX4_only_0 2 rfl rfl)
theorem dX4_only_5 : decode cX4_only 5 = .ok (.istore_n 2, 1) := dk_61 (dk_at dksX4_only_0 5 rfl rfl)
theorem dX4_only_6 : decode cX4_only 6 = .ok (.aload_n 0, 1) := dk_42 (dk_at dksX4_only_0 6 rfl rfl)
theorem dX4_only_7 : decode cX4_only 7 = .ok (.aload_n 0, 1) := dk_42 (dk_at dksX4_only_0 7 rfl rfl)
theorem dX4_only_8 : decode cX4_only 8 = .ok (.getfield 49, 3) := dk_180 0 49 (dk_at dksX4_only_0 8 rfl rfl)
theorem dX4_only_11 : decode cX4_only 11 = .ok (.ifCond .le 7, 3) := dk_158 0 7 (dk_at dksX4_only_0 11 rfl rfl)
theorem dX4_only_14 : decode cX4_only 14 = .ok (.iconst 1, 1) := dk_4 (dk_at dksX4_only_0 14 rfl rfl)
theorem dX4_only_15 : decode cX4_only 15 = .ok (.goto 4, 3) := dk_167 0 4 (dk_at dksX4_only_0 15 rfl rfl)
theorem dX4_only_18 : decode cX4_only 18 = .ok (.iconst 0, 1) := dk_3 (dk_at dksX4_only_0 18 rfl rfl)
theorem dX4_only_19 : decode cX4_only 19 = .ok (.putfield 49, 3) := dk_181 0 49 (dk_at dksX4_only_0 19 rfl rfl)
theorem dX4_only_22 : decode cX4_only 22 = .ok (.iload_n 2, 1) := dk_28 (dk_at dksX4_only_0 22 rfl rfl)
theorem dX4_only_23 : decode cX4_only 23 = .ok (.ireturn, 1) := dk_172 (dk_at dksX4_only_0 23 rfl rfl)
abbrev cX4_reset : ByteArray := prog_9_method_45_code
def yX4_reset : MethodName := ⟨RX4, "reset", "(II)I"⟩
def dkwX4_reset_0 : List UInt8 := [42, 182, 0, 127, 42, 42, 27, 28, 182, 0, 146, 182, 0, 134, 172]
abbrev dktX4_reset_0 : List UInt8 := dkwX4_reset_0 ++ []
theorem dksX4_reset_0 : cX4_reset.data.toList.drop 0 = dktX4_reset_0 := by decide +kernel
theorem dX4_reset_0 : decode cX4_reset 0 = .ok (.aload_n 0, 1) := dk_42 (dk_at dksX4_reset_0 0 rfl rfl)
theorem dX4_reset_1 : decode cX4_reset 1 = .ok (.invokevirtual 127, 3) := dk_182 0 127 (dk_at dksX4_reset_0 1 rfl rfl)
theorem dX4_reset_4 : decode cX4_reset 4 = .ok (.aload_n 0, 1) := dk_42 (dk_at dksX4_reset_0 4 rfl rfl)
theorem dX4_reset_5 : decode cX4_reset 5 = .ok (.aload_n 0, 1) := dk_42 (dk_at dksX4_reset_0 5 rfl rfl)
theorem dX4_reset_6 : decode cX4_reset 6 = .ok (.iload_n 1, 1) := dk_27 (dk_at dksX4_reset_0 6 rfl rfl)
theorem dX4_reset_7 : decode cX4_reset 7 = .ok (.iload_n 2, 1) := dk_28 (dk_at dksX4_reset_0 7 rfl rfl)
theorem dX4_reset_8 : decode cX4_reset 8 = .ok (.invokevirtual 146, 3) := dk_182 0 146 (dk_at dksX4_reset_0 8 rfl rfl)
theorem dX4_reset_11 : decode cX4_reset 11 = .ok (.invokevirtual 134, 3) := dk_182 0 134 (dk_at dksX4_reset_0 11 rfl rfl)
theorem dX4_reset_14 : decode cX4_reset 14 = .ok (.ireturn, 1) := dk_172 (dk_at dksX4_reset_0 14 rfl rfl)
abbrev cX4_goReset : ByteArray := prog_9_method_29_code
def yX4_goReset : MethodName := ⟨RX4, "goReset", "(II)I"⟩
def dkwX4_goReset_2 : List UInt8 := [160, 0, 8, 16, 31, 167, 0, 4, 29, 182, 0, 115, 172]
abbrev dktX4_goReset_2 : List UInt8 := dkwX4_goReset_2 ++ []
def dkwX4_goReset_1 : List UInt8 := [154, 0, 6, 16, 244, 172, 42, 27, 182, 0, 108, 62, 42, 27, 28, 182, 0, 111, 42, 29, 18, 67]
abbrev dktX4_goReset_1 : List UInt8 := dkwX4_goReset_1 ++ dktX4_goReset_2
def dkwX4_goReset_0 : List UInt8 := [27, 184, 0, 104, 153, 0, 13, 28, 3, 16, 9, 184, 0, 92, 154, 0, 6, 16, 245, 172, 42, 182, 0, 82]
abbrev dktX4_goReset_0 : List UInt8 := dkwX4_goReset_0 ++ dktX4_goReset_1
theorem dksX4_goReset_0 : cX4_goReset.data.toList.drop 0 = dktX4_goReset_0 := by decide +kernel
theorem dksX4_goReset_1 : cX4_goReset.data.toList.drop 24 = dktX4_goReset_1 := dk_seg dksX4_goReset_0 24 rfl rfl
theorem dksX4_goReset_2 : cX4_goReset.data.toList.drop 46 = dktX4_goReset_2 := dk_seg dksX4_goReset_1 22 rfl rfl
theorem dX4_goReset_0 : decode cX4_goReset 0 = .ok (.iload_n 1, 1) := dk_27 (dk_at dksX4_goReset_0 0 rfl rfl)
theorem dX4_goReset_1 : decode cX4_goReset 1 = .ok (.invokestatic 104, 3) := dk_184 0 104 (dk_at dksX4_goReset_0 1 rfl rfl)
theorem dX4_goReset_4 : decode cX4_goReset 4 = .ok (.ifCond .eq 13, 3) := dk_153 0 13 (dk_at dksX4_goReset_0 4 rfl rfl)
theorem dX4_goReset_7 : decode cX4_goReset 7 = .ok (.iload_n 2, 1) := dk_28 (dk_at dksX4_goReset_0 7 rfl rfl)
theorem dX4_goReset_8 : decode cX4_goReset 8 = .ok (.iconst 0, 1) := dk_3 (dk_at dksX4_goReset_0 8 rfl rfl)
theorem dX4_goReset_9 : decode cX4_goReset 9 = .ok (.bipush 9, 2) := dk_16 9 (dk_at dksX4_goReset_0 9 rfl rfl)
theorem dX4_goReset_11 : decode cX4_goReset 11 = .ok (.invokestatic 92, 3) := dk_184 0 92 (dk_at dksX4_goReset_0 11 rfl rfl)
theorem dX4_goReset_14 : decode cX4_goReset 14 = .ok (.ifCond .ne 6, 3) := dk_154 0 6 (dk_at dksX4_goReset_0 14 rfl rfl)
theorem dX4_goReset_17 : decode cX4_goReset 17 = .ok (.bipush (-11), 2) := dk_16 245 (dk_at dksX4_goReset_0 17 rfl rfl)
theorem dX4_goReset_19 : decode cX4_goReset 19 = .ok (.ireturn, 1) := dk_172 (dk_at dksX4_goReset_0 19 rfl rfl)
theorem dX4_goReset_20 : decode cX4_goReset 20 = .ok (.aload_n 0, 1) := dk_42 (dk_at dksX4_goReset_0 20 rfl rfl)
theorem dX4_goReset_21 : decode cX4_goReset 21 = .ok (.invokevirtual 82, 3) := dk_182 0 82 (dk_at dksX4_goReset_0 21 rfl rfl)
theorem dX4_goReset_24 : decode cX4_goReset 24 = .ok (.ifCond .ne 6, 3) := dk_154 0 6 (dk_at dksX4_goReset_1 0 rfl rfl)
theorem dX4_goReset_27 : decode cX4_goReset 27 = .ok (.bipush (-12), 2) := dk_16 244 (dk_at dksX4_goReset_1 3 rfl rfl)
theorem dX4_goReset_29 : decode cX4_goReset 29 = .ok (.ireturn, 1) := dk_172 (dk_at dksX4_goReset_1 5 rfl rfl)
theorem dX4_goReset_30 : decode cX4_goReset 30 = .ok (.aload_n 0, 1) := dk_42 (dk_at dksX4_goReset_1 6 rfl rfl)
theorem dX4_goReset_31 : decode cX4_goReset 31 = .ok (.iload_n 1, 1) := dk_27 (dk_at dksX4_goReset_1 7 rfl rfl)
theorem dX4_goReset_32 : decode cX4_goReset 32 = .ok (.invokevirtual 108, 3) := dk_182 0 108 (dk_at dksX4_goReset_1 8 rfl rfl)
theorem dX4_goReset_35 : decode cX4_goReset 35 = .ok (.istore_n 3, 1) := dk_62 (dk_at dksX4_goReset_1 11 rfl rfl)
theorem dX4_goReset_36 : decode cX4_goReset 36 = .ok (.aload_n 0, 1) := dk_42 (dk_at dksX4_goReset_1 12 rfl rfl)
theorem dX4_goReset_37 : decode cX4_goReset 37 = .ok (.iload_n 1, 1) := dk_27 (dk_at dksX4_goReset_1 13 rfl rfl)
theorem dX4_goReset_38 : decode cX4_goReset 38 = .ok (.iload_n 2, 1) := dk_28 (dk_at dksX4_goReset_1 14 rfl rfl)
theorem dX4_goReset_39 : decode cX4_goReset 39 = .ok (.invokevirtual 111, 3) := dk_182 0 111 (dk_at dksX4_goReset_1 15 rfl rfl)
theorem dX4_goReset_42 : decode cX4_goReset 42 = .ok (.aload_n 0, 1) := dk_42 (dk_at dksX4_goReset_1 18 rfl rfl)
theorem dX4_goReset_43 : decode cX4_goReset 43 = .ok (.iload_n 3, 1) := dk_29 (dk_at dksX4_goReset_1 19 rfl rfl)
theorem dX4_goReset_44 : decode cX4_goReset 44 = .ok (.ldc 67, 2) := dk_18 67 (dk_at dksX4_goReset_1 20 rfl rfl)
theorem dX4_goReset_46 : decode cX4_goReset 46 = .ok (.if_icmp .ne 8, 3) := dk_160 0 8 (dk_at dksX4_goReset_2 0 rfl rfl)
theorem dX4_goReset_49 : decode cX4_goReset 49 = .ok (.bipush 31, 2) := dk_16 31 (dk_at dksX4_goReset_2 3 rfl rfl)
theorem dX4_goReset_51 : decode cX4_goReset 51 = .ok (.goto 4, 3) := dk_167 0 4 (dk_at dksX4_goReset_2 5 rfl rfl)
theorem dX4_goReset_54 : decode cX4_goReset 54 = .ok (.iload_n 3, 1) := dk_29 (dk_at dksX4_goReset_2 8 rfl rfl)
theorem dX4_goReset_55 : decode cX4_goReset 55 = .ok (.invokevirtual 115, 3) := dk_182 0 115 (dk_at dksX4_goReset_2 9 rfl rfl)
theorem dX4_goReset_58 : decode cX4_goReset 58 = .ok (.ireturn, 1) := dk_172 (dk_at dksX4_goReset_2 12 rfl rfl)
abbrev cX4_isClock : ByteArray := prog_9_method_22_code
def yX4_isClock : MethodName := ⟨RX4, "isClock", "(I)Z"⟩
def dkwX4_isClock_0 : List UInt8 := [26, 3, 5, 184, 0, 92, 172]
abbrev dktX4_isClock_0 : List UInt8 := dkwX4_isClock_0 ++ []
theorem dksX4_isClock_0 : cX4_isClock.data.toList.drop 0 = dktX4_isClock_0 := by decide +kernel
theorem dX4_isClock_0 : decode cX4_isClock 0 = .ok (.iload_n 0, 1) := dk_26 (dk_at dksX4_isClock_0 0 rfl rfl)
theorem dX4_isClock_1 : decode cX4_isClock 1 = .ok (.iconst 0, 1) := dk_3 (dk_at dksX4_isClock_0 1 rfl rfl)
theorem dX4_isClock_2 : decode cX4_isClock 2 = .ok (.iconst 2, 1) := dk_5 (dk_at dksX4_isClock_0 2 rfl rfl)
theorem dX4_isClock_3 : decode cX4_isClock 3 = .ok (.invokestatic 92, 3) := dk_184 0 92 (dk_at dksX4_isClock_0 3 rfl rfl)
theorem dX4_isClock_6 : decode cX4_isClock 6 = .ok (.ireturn, 1) := dk_172 (dk_at dksX4_isClock_0 6 rfl rfl)
abbrev cX4_most : ByteArray := prog_9_method_24_code
def yX4_most : MethodName := ⟨RX4, "most", "(I)I"⟩
def dkwX4_most_0 : List UInt8 := [42, 180, 0, 25, 7, 27, 104, 6, 96, 46, 172]
abbrev dktX4_most_0 : List UInt8 := dkwX4_most_0 ++ []
theorem dksX4_most_0 : cX4_most.data.toList.drop 0 = dktX4_most_0 := by decide +kernel
theorem dX4_most_0 : decode cX4_most 0 = .ok (.aload_n 0, 1) := dk_42 (dk_at dksX4_most_0 0 rfl rfl)
theorem dX4_most_1 : decode cX4_most 1 = .ok (.getfield 25, 3) := dk_180 0 25 (dk_at dksX4_most_0 1 rfl rfl)
theorem dX4_most_4 : decode cX4_most 4 = .ok (.iconst 4, 1) := dk_7 (dk_at dksX4_most_0 4 rfl rfl)
theorem dX4_most_5 : decode cX4_most 5 = .ok (.iload_n 1, 1) := dk_27 (dk_at dksX4_most_0 5 rfl rfl)
theorem dX4_most_6 : decode cX4_most 6 = .ok (.imul, 1) := dk_104 (dk_at dksX4_most_0 6 rfl rfl)
theorem dX4_most_7 : decode cX4_most 7 = .ok (.iconst 3, 1) := dk_6 (dk_at dksX4_most_0 7 rfl rfl)
theorem dX4_most_8 : decode cX4_most 8 = .ok (.iadd, 1) := dk_96 (dk_at dksX4_most_0 8 rfl rfl)
theorem dX4_most_9 : decode cX4_most 9 = .ok (.iaload, 1) := dk_46 (dk_at dksX4_most_0 9 rfl rfl)
theorem dX4_most_10 : decode cX4_most 10 = .ok (.ireturn, 1) := dk_172 (dk_at dksX4_most_0 10 rfl rfl)
abbrev cX4_resets : ByteArray := prog_9_method_30_code
def yX4_resets : MethodName := ⟨RX4, "resets", "(II)V"⟩
def dkwX4_resets_3 : List UInt8 := [6, 96, 28, 79, 42, 180, 0, 25, 16, 12, 27, 96, 28, 116, 79, 177]
abbrev dktX4_resets_3 : List UInt8 := dkwX4_resets_3 ++ []
def dkwX4_resets_2 : List UInt8 := [29, 104, 6, 96, 46, 28, 116, 184, 0, 68, 79, 132, 3, 1, 167, 255, 197, 42, 180, 0, 25, 7, 27, 104]
abbrev dktX4_resets_2 : List UInt8 := dkwX4_resets_2 ++ dktX4_resets_3
def dkwX4_resets_1 : List UInt8 := [180, 0, 25, 16, 12, 29, 96, 46, 96, 79, 42, 180, 0, 25, 7, 29, 104, 27, 96, 42, 180, 0, 25, 7]
abbrev dktX4_resets_1 : List UInt8 := dkwX4_resets_1 ++ dktX4_resets_2
def dkwX4_resets_0 : List UInt8 := [3, 62, 29, 7, 162, 0, 60, 29, 27, 159, 0, 49, 42, 180, 0, 25, 7, 27, 104, 29, 96, 28, 42]
abbrev dktX4_resets_0 : List UInt8 := dkwX4_resets_0 ++ dktX4_resets_1
theorem dksX4_resets_0 : cX4_resets.data.toList.drop 0 = dktX4_resets_0 := by decide +kernel
theorem dksX4_resets_1 : cX4_resets.data.toList.drop 23 = dktX4_resets_1 := dk_seg dksX4_resets_0 23 rfl rfl
theorem dksX4_resets_2 : cX4_resets.data.toList.drop 47 = dktX4_resets_2 := dk_seg dksX4_resets_1 24 rfl rfl
theorem dksX4_resets_3 : cX4_resets.data.toList.drop 71 = dktX4_resets_3 := dk_seg dksX4_resets_2 24 rfl rfl
theorem dX4_resets_0 : decode cX4_resets 0 = .ok (.iconst 0, 1) := dk_3 (dk_at dksX4_resets_0 0 rfl rfl)
theorem dX4_resets_1 : decode cX4_resets 1 = .ok (.istore_n 3, 1) := dk_62 (dk_at dksX4_resets_0 1 rfl rfl)
theorem dX4_resets_2 : decode cX4_resets 2 = .ok (.iload_n 3, 1) := dk_29 (dk_at dksX4_resets_0 2 rfl rfl)
theorem dX4_resets_3 : decode cX4_resets 3 = .ok (.iconst 4, 1) := dk_7 (dk_at dksX4_resets_0 3 rfl rfl)
theorem dX4_resets_4 : decode cX4_resets 4 = .ok (.if_icmp .ge 60, 3) := dk_162 0 60 (dk_at dksX4_resets_0 4 rfl rfl)
theorem dX4_resets_7 : decode cX4_resets 7 = .ok (.iload_n 3, 1) := dk_29 (dk_at dksX4_resets_0 7 rfl rfl)
theorem dX4_resets_8 : decode cX4_resets 8 = .ok (.iload_n 1, 1) := dk_27 (dk_at dksX4_resets_0 8 rfl rfl)
theorem dX4_resets_9 : decode cX4_resets 9 = .ok (.if_icmp .eq 49, 3) := dk_159 0 49 (dk_at dksX4_resets_0 9 rfl rfl)
theorem dX4_resets_12 : decode cX4_resets 12 = .ok (.aload_n 0, 1) := dk_42 (dk_at dksX4_resets_0 12 rfl rfl)
theorem dX4_resets_13 : decode cX4_resets 13 = .ok (.getfield 25, 3) := dk_180 0 25 (dk_at dksX4_resets_0 13 rfl rfl)
theorem dX4_resets_16 : decode cX4_resets 16 = .ok (.iconst 4, 1) := dk_7 (dk_at dksX4_resets_0 16 rfl rfl)
theorem dX4_resets_17 : decode cX4_resets 17 = .ok (.iload_n 1, 1) := dk_27 (dk_at dksX4_resets_0 17 rfl rfl)
theorem dX4_resets_18 : decode cX4_resets 18 = .ok (.imul, 1) := dk_104 (dk_at dksX4_resets_0 18 rfl rfl)
theorem dX4_resets_19 : decode cX4_resets 19 = .ok (.iload_n 3, 1) := dk_29 (dk_at dksX4_resets_0 19 rfl rfl)
theorem dX4_resets_20 : decode cX4_resets 20 = .ok (.iadd, 1) := dk_96 (dk_at dksX4_resets_0 20 rfl rfl)
theorem dX4_resets_21 : decode cX4_resets 21 = .ok (.iload_n 2, 1) := dk_28 (dk_at dksX4_resets_0 21 rfl rfl)
theorem dX4_resets_22 : decode cX4_resets 22 = .ok (.aload_n 0, 1) := dk_42 (dk_at dksX4_resets_0 22 rfl rfl)
theorem dX4_resets_23 : decode cX4_resets 23 = .ok (.getfield 25, 3) := dk_180 0 25 (dk_at dksX4_resets_1 0 rfl rfl)
theorem dX4_resets_26 : decode cX4_resets 26 = .ok (.bipush 12, 2) := dk_16 12 (dk_at dksX4_resets_1 3 rfl rfl)
theorem dX4_resets_28 : decode cX4_resets 28 = .ok (.iload_n 3, 1) := dk_29 (dk_at dksX4_resets_1 5 rfl rfl)
theorem dX4_resets_29 : decode cX4_resets 29 = .ok (.iadd, 1) := dk_96 (dk_at dksX4_resets_1 6 rfl rfl)
theorem dX4_resets_30 : decode cX4_resets 30 = .ok (.iaload, 1) := dk_46 (dk_at dksX4_resets_1 7 rfl rfl)
theorem dX4_resets_31 : decode cX4_resets 31 = .ok (.iadd, 1) := dk_96 (dk_at dksX4_resets_1 8 rfl rfl)
theorem dX4_resets_32 : decode cX4_resets 32 = .ok (.iastore, 1) := dk_79 (dk_at dksX4_resets_1 9 rfl rfl)
theorem dX4_resets_33 : decode cX4_resets 33 = .ok (.aload_n 0, 1) := dk_42 (dk_at dksX4_resets_1 10 rfl rfl)
theorem dX4_resets_34 : decode cX4_resets 34 = .ok (.getfield 25, 3) := dk_180 0 25 (dk_at dksX4_resets_1 11 rfl rfl)
theorem dX4_resets_37 : decode cX4_resets 37 = .ok (.iconst 4, 1) := dk_7 (dk_at dksX4_resets_1 14 rfl rfl)
theorem dX4_resets_38 : decode cX4_resets 38 = .ok (.iload_n 3, 1) := dk_29 (dk_at dksX4_resets_1 15 rfl rfl)
theorem dX4_resets_39 : decode cX4_resets 39 = .ok (.imul, 1) := dk_104 (dk_at dksX4_resets_1 16 rfl rfl)
theorem dX4_resets_40 : decode cX4_resets 40 = .ok (.iload_n 1, 1) := dk_27 (dk_at dksX4_resets_1 17 rfl rfl)
theorem dX4_resets_41 : decode cX4_resets 41 = .ok (.iadd, 1) := dk_96 (dk_at dksX4_resets_1 18 rfl rfl)
theorem dX4_resets_42 : decode cX4_resets 42 = .ok (.aload_n 0, 1) := dk_42 (dk_at dksX4_resets_1 19 rfl rfl)
theorem dX4_resets_43 : decode cX4_resets 43 = .ok (.getfield 25, 3) := dk_180 0 25 (dk_at dksX4_resets_1 20 rfl rfl)
theorem dX4_resets_46 : decode cX4_resets 46 = .ok (.iconst 4, 1) := dk_7 (dk_at dksX4_resets_1 23 rfl rfl)
theorem dX4_resets_47 : decode cX4_resets 47 = .ok (.iload_n 3, 1) := dk_29 (dk_at dksX4_resets_2 0 rfl rfl)
theorem dX4_resets_48 : decode cX4_resets 48 = .ok (.imul, 1) := dk_104 (dk_at dksX4_resets_2 1 rfl rfl)
theorem dX4_resets_49 : decode cX4_resets 49 = .ok (.iconst 3, 1) := dk_6 (dk_at dksX4_resets_2 2 rfl rfl)
theorem dX4_resets_50 : decode cX4_resets 50 = .ok (.iadd, 1) := dk_96 (dk_at dksX4_resets_2 3 rfl rfl)
theorem dX4_resets_51 : decode cX4_resets 51 = .ok (.iaload, 1) := dk_46 (dk_at dksX4_resets_2 4 rfl rfl)
theorem dX4_resets_52 : decode cX4_resets 52 = .ok (.iload_n 2, 1) := dk_28 (dk_at dksX4_resets_2 5 rfl rfl)
theorem dX4_resets_53 : decode cX4_resets 53 = .ok (.ineg, 1) := dk_116 (dk_at dksX4_resets_2 6 rfl rfl)
theorem dX4_resets_54 : decode cX4_resets 54 = .ok (.invokestatic 68, 3) := dk_184 0 68 (dk_at dksX4_resets_2 7 rfl rfl)
theorem dX4_resets_57 : decode cX4_resets 57 = .ok (.iastore, 1) := dk_79 (dk_at dksX4_resets_2 10 rfl rfl)
theorem dX4_resets_58 : decode cX4_resets 58 = .ok (.iinc 3 1, 3) := dk_132 3 1 (dk_at dksX4_resets_2 11 rfl rfl)
theorem dX4_resets_61 : decode cX4_resets 61 = .ok (.goto (-59), 3) := dk_167 255 197 (dk_at dksX4_resets_2 14 rfl rfl)
theorem dX4_resets_64 : decode cX4_resets 64 = .ok (.aload_n 0, 1) := dk_42 (dk_at dksX4_resets_2 17 rfl rfl)
theorem dX4_resets_65 : decode cX4_resets 65 = .ok (.getfield 25, 3) := dk_180 0 25 (dk_at dksX4_resets_2 18 rfl rfl)
theorem dX4_resets_68 : decode cX4_resets 68 = .ok (.iconst 4, 1) := dk_7 (dk_at dksX4_resets_2 21 rfl rfl)
theorem dX4_resets_69 : decode cX4_resets 69 = .ok (.iload_n 1, 1) := dk_27 (dk_at dksX4_resets_2 22 rfl rfl)
theorem dX4_resets_70 : decode cX4_resets 70 = .ok (.imul, 1) := dk_104 (dk_at dksX4_resets_2 23 rfl rfl)
theorem dX4_resets_71 : decode cX4_resets 71 = .ok (.iconst 3, 1) := dk_6 (dk_at dksX4_resets_3 0 rfl rfl)
theorem dX4_resets_72 : decode cX4_resets 72 = .ok (.iadd, 1) := dk_96 (dk_at dksX4_resets_3 1 rfl rfl)
theorem dX4_resets_73 : decode cX4_resets 73 = .ok (.iload_n 2, 1) := dk_28 (dk_at dksX4_resets_3 2 rfl rfl)
theorem dX4_resets_74 : decode cX4_resets 74 = .ok (.iastore, 1) := dk_79 (dk_at dksX4_resets_3 3 rfl rfl)
theorem dX4_resets_75 : decode cX4_resets 75 = .ok (.aload_n 0, 1) := dk_42 (dk_at dksX4_resets_3 4 rfl rfl)
theorem dX4_resets_76 : decode cX4_resets 76 = .ok (.getfield 25, 3) := dk_180 0 25 (dk_at dksX4_resets_3 5 rfl rfl)
theorem dX4_resets_79 : decode cX4_resets 79 = .ok (.bipush 12, 2) := dk_16 12 (dk_at dksX4_resets_3 8 rfl rfl)
theorem dX4_resets_81 : decode cX4_resets 81 = .ok (.iload_n 1, 1) := dk_27 (dk_at dksX4_resets_3 10 rfl rfl)
theorem dX4_resets_82 : decode cX4_resets 82 = .ok (.iadd, 1) := dk_96 (dk_at dksX4_resets_3 11 rfl rfl)
theorem dX4_resets_83 : decode cX4_resets 83 = .ok (.iload_n 2, 1) := dk_28 (dk_at dksX4_resets_3 12 rfl rfl)
theorem dX4_resets_84 : decode cX4_resets 84 = .ok (.ineg, 1) := dk_116 (dk_at dksX4_resets_3 13 rfl rfl)
theorem dX4_resets_85 : decode cX4_resets 85 = .ok (.iastore, 1) := dk_79 (dk_at dksX4_resets_3 14 rfl rfl)
theorem dX4_resets_86 : decode cX4_resets 86 = .ok (.return_, 1) := dk_177 (dk_at dksX4_resets_3 15 rfl rfl)
abbrev cX4_tells : ByteArray := prog_9_method_21_code
def yX4_tells : MethodName := ⟨RX4, "tells", "(I)I"⟩
def dkwX4_tells_2 : List UInt8 := [153, 0, 8, 16, 244, 167, 0, 4, 27, 172]
abbrev dktX4_tells_2 : List UInt8 := dkwX4_tells_2 ++ []
def dkwX4_tells_1 : List UInt8 := [180, 0, 7, 17, 0, 193, 92, 46, 4, 96, 79, 42, 182, 0, 86, 154, 0, 10, 42, 182, 0, 89]
abbrev dktX4_tells_1 : List UInt8 := dkwX4_tells_1 ++ dktX4_tells_2
def dkwX4_tells_0 : List UInt8 := [42, 180, 0, 25, 3, 184, 0, 78, 87, 42, 180, 0, 25, 3, 42, 180, 0, 7, 3, 184, 0, 75, 42]
abbrev dktX4_tells_0 : List UInt8 := dkwX4_tells_0 ++ dktX4_tells_1
theorem dksX4_tells_0 : cX4_tells.data.toList.drop 0 = dktX4_tells_0 := by decide +kernel
theorem dksX4_tells_1 : cX4_tells.data.toList.drop 23 = dktX4_tells_1 := dk_seg dksX4_tells_0 23 rfl rfl
theorem dksX4_tells_2 : cX4_tells.data.toList.drop 45 = dktX4_tells_2 := dk_seg dksX4_tells_1 22 rfl rfl
theorem dX4_tells_0 : decode cX4_tells 0 = .ok (.aload_n 0, 1) := dk_42 (dk_at dksX4_tells_0 0 rfl rfl)
theorem dX4_tells_1 : decode cX4_tells 1 = .ok (.getfield 25, 3) := dk_180 0 25 (dk_at dksX4_tells_0 1 rfl rfl)
theorem dX4_tells_4 : decode cX4_tells 4 = .ok (.iconst 0, 1) := dk_3 (dk_at dksX4_tells_0 4 rfl rfl)
theorem dX4_tells_5 : decode cX4_tells 5 = .ok (.invokestatic 78, 3) := dk_184 0 78 (dk_at dksX4_tells_0 5 rfl rfl)
theorem dX4_tells_8 : decode cX4_tells 8 = .ok (.pop, 1) := dk_87 (dk_at dksX4_tells_0 8 rfl rfl)
theorem dX4_tells_9 : decode cX4_tells 9 = .ok (.aload_n 0, 1) := dk_42 (dk_at dksX4_tells_0 9 rfl rfl)
theorem dX4_tells_10 : decode cX4_tells 10 = .ok (.getfield 25, 3) := dk_180 0 25 (dk_at dksX4_tells_0 10 rfl rfl)
theorem dX4_tells_13 : decode cX4_tells 13 = .ok (.iconst 0, 1) := dk_3 (dk_at dksX4_tells_0 13 rfl rfl)
theorem dX4_tells_14 : decode cX4_tells 14 = .ok (.aload_n 0, 1) := dk_42 (dk_at dksX4_tells_0 14 rfl rfl)
theorem dX4_tells_15 : decode cX4_tells 15 = .ok (.getfield 7, 3) := dk_180 0 7 (dk_at dksX4_tells_0 15 rfl rfl)
theorem dX4_tells_18 : decode cX4_tells 18 = .ok (.iconst 0, 1) := dk_3 (dk_at dksX4_tells_0 18 rfl rfl)
theorem dX4_tells_19 : decode cX4_tells 19 = .ok (.invokestatic 75, 3) := dk_184 0 75 (dk_at dksX4_tells_0 19 rfl rfl)
theorem dX4_tells_22 : decode cX4_tells 22 = .ok (.aload_n 0, 1) := dk_42 (dk_at dksX4_tells_0 22 rfl rfl)
theorem dX4_tells_23 : decode cX4_tells 23 = .ok (.getfield 7, 3) := dk_180 0 7 (dk_at dksX4_tells_1 0 rfl rfl)
theorem dX4_tells_26 : decode cX4_tells 26 = .ok (.sipush 193, 3) := dk_17 0 193 (dk_at dksX4_tells_1 3 rfl rfl)
theorem dX4_tells_29 : decode cX4_tells 29 = .ok (.dup2, 1) := dk_92 (dk_at dksX4_tells_1 6 rfl rfl)
theorem dX4_tells_30 : decode cX4_tells 30 = .ok (.iaload, 1) := dk_46 (dk_at dksX4_tells_1 7 rfl rfl)
theorem dX4_tells_31 : decode cX4_tells 31 = .ok (.iconst 1, 1) := dk_4 (dk_at dksX4_tells_1 8 rfl rfl)
theorem dX4_tells_32 : decode cX4_tells 32 = .ok (.iadd, 1) := dk_96 (dk_at dksX4_tells_1 9 rfl rfl)
theorem dX4_tells_33 : decode cX4_tells 33 = .ok (.iastore, 1) := dk_79 (dk_at dksX4_tells_1 10 rfl rfl)
theorem dX4_tells_34 : decode cX4_tells 34 = .ok (.aload_n 0, 1) := dk_42 (dk_at dksX4_tells_1 11 rfl rfl)
theorem dX4_tells_35 : decode cX4_tells 35 = .ok (.invokevirtual 86, 3) := dk_182 0 86 (dk_at dksX4_tells_1 12 rfl rfl)
theorem dX4_tells_38 : decode cX4_tells 38 = .ok (.ifCond .ne 10, 3) := dk_154 0 10 (dk_at dksX4_tells_1 15 rfl rfl)
theorem dX4_tells_41 : decode cX4_tells 41 = .ok (.aload_n 0, 1) := dk_42 (dk_at dksX4_tells_1 18 rfl rfl)
theorem dX4_tells_42 : decode cX4_tells 42 = .ok (.invokevirtual 89, 3) := dk_182 0 89 (dk_at dksX4_tells_1 19 rfl rfl)
theorem dX4_tells_45 : decode cX4_tells 45 = .ok (.ifCond .eq 8, 3) := dk_153 0 8 (dk_at dksX4_tells_2 0 rfl rfl)
theorem dX4_tells_48 : decode cX4_tells 48 = .ok (.bipush (-12), 2) := dk_16 244 (dk_at dksX4_tells_2 3 rfl rfl)
theorem dX4_tells_50 : decode cX4_tells 50 = .ok (.goto 4, 3) := dk_167 0 4 (dk_at dksX4_tells_2 5 rfl rfl)
theorem dX4_tells_53 : decode cX4_tells 53 = .ok (.iload_n 1, 1) := dk_27 (dk_at dksX4_tells_2 8 rfl rfl)
theorem dX4_tells_54 : decode cX4_tells 54 = .ok (.ireturn, 1) := dk_172 (dk_at dksX4_tells_2 9 rfl rfl)
abbrev cX4_delay : ByteArray := prog_9_method_46_code
def yX4_delay : MethodName := ⟨RX4, "delay", "()I"⟩
def dkwX4_delay_0 : List UInt8 := [42, 182, 0, 127, 42, 42, 182, 0, 149, 182, 0, 143, 172]
abbrev dktX4_delay_0 : List UInt8 := dkwX4_delay_0 ++ []
theorem dksX4_delay_0 : cX4_delay.data.toList.drop 0 = dktX4_delay_0 := by decide +kernel
theorem dX4_delay_0 : decode cX4_delay 0 = .ok (.aload_n 0, 1) := dk_42 (dk_at dksX4_delay_0 0 rfl rfl)
theorem dX4_delay_1 : decode cX4_delay 1 = .ok (.invokevirtual 127, 3) := dk_182 0 127 (dk_at dksX4_delay_0 1 rfl rfl)
theorem dX4_delay_4 : decode cX4_delay 4 = .ok (.aload_n 0, 1) := dk_42 (dk_at dksX4_delay_0 4 rfl rfl)
theorem dX4_delay_5 : decode cX4_delay 5 = .ok (.aload_n 0, 1) := dk_42 (dk_at dksX4_delay_0 5 rfl rfl)
theorem dX4_delay_6 : decode cX4_delay 6 = .ok (.invokevirtual 149, 3) := dk_182 0 149 (dk_at dksX4_delay_0 6 rfl rfl)
theorem dX4_delay_9 : decode cX4_delay 9 = .ok (.invokevirtual 143, 3) := dk_182 0 143 (dk_at dksX4_delay_0 9 rfl rfl)
theorem dX4_delay_12 : decode cX4_delay 12 = .ok (.ireturn, 1) := dk_172 (dk_at dksX4_delay_0 12 rfl rfl)
abbrev cX4_goDelay : ByteArray := prog_9_method_32_code
def yX4_goDelay : MethodName := ⟨RX4, "goDelay", "()I"⟩
def dkwX4_goDelay_0 : List UInt8 := [42, 182, 0, 82, 154, 0, 6, 16, 244, 172, 42, 42, 182, 0, 118, 182, 0, 115, 172]
abbrev dktX4_goDelay_0 : List UInt8 := dkwX4_goDelay_0 ++ []
theorem dksX4_goDelay_0 : cX4_goDelay.data.toList.drop 0 = dktX4_goDelay_0 := by decide +kernel
theorem dX4_goDelay_0 : decode cX4_goDelay 0 = .ok (.aload_n 0, 1) := dk_42 (dk_at dksX4_goDelay_0 0 rfl rfl)
theorem dX4_goDelay_1 : decode cX4_goDelay 1 = .ok (.invokevirtual 82, 3) := dk_182 0 82 (dk_at dksX4_goDelay_0 1 rfl rfl)
theorem dX4_goDelay_4 : decode cX4_goDelay 4 = .ok (.ifCond .ne 6, 3) := dk_154 0 6 (dk_at dksX4_goDelay_0 4 rfl rfl)
theorem dX4_goDelay_7 : decode cX4_goDelay 7 = .ok (.bipush (-12), 2) := dk_16 244 (dk_at dksX4_goDelay_0 7 rfl rfl)
theorem dX4_goDelay_9 : decode cX4_goDelay 9 = .ok (.ireturn, 1) := dk_172 (dk_at dksX4_goDelay_0 9 rfl rfl)
theorem dX4_goDelay_10 : decode cX4_goDelay 10 = .ok (.aload_n 0, 1) := dk_42 (dk_at dksX4_goDelay_0 10 rfl rfl)
theorem dX4_goDelay_11 : decode cX4_goDelay 11 = .ok (.aload_n 0, 1) := dk_42 (dk_at dksX4_goDelay_0 11 rfl rfl)
theorem dX4_goDelay_12 : decode cX4_goDelay 12 = .ok (.invokevirtual 118, 3) := dk_182 0 118 (dk_at dksX4_goDelay_0 12 rfl rfl)
theorem dX4_goDelay_15 : decode cX4_goDelay 15 = .ok (.invokevirtual 115, 3) := dk_182 0 115 (dk_at dksX4_goDelay_0 15 rfl rfl)
theorem dX4_goDelay_18 : decode cX4_goDelay 18 = .ok (.ireturn, 1) := dk_172 (dk_at dksX4_goDelay_0 18 rfl rfl)
abbrev cX4_delays : ByteArray := prog_9_method_31_code
def yX4_delays : MethodName := ⟨RX4, "delays", "()I"⟩
def dkwX4_delays_1 : List UInt8 := [3, 96, 60, 42, 180, 0, 25, 7, 28, 104, 6, 96, 18, 67, 79, 132, 2, 1, 167, 255, 218, 27, 172]
abbrev dktX4_delays_1 : List UInt8 := dkwX4_delays_1 ++ []
def dkwX4_delays_0 : List UInt8 := [3, 60, 3, 61, 28, 6, 162, 0, 39, 27, 42, 28, 182, 0, 108, 18, 67, 159, 0, 7, 4, 167, 0, 4]
abbrev dktX4_delays_0 : List UInt8 := dkwX4_delays_0 ++ dktX4_delays_1
theorem dksX4_delays_0 : cX4_delays.data.toList.drop 0 = dktX4_delays_0 := by decide +kernel
theorem dksX4_delays_1 : cX4_delays.data.toList.drop 24 = dktX4_delays_1 := dk_seg dksX4_delays_0 24 rfl rfl
theorem dX4_delays_0 : decode cX4_delays 0 = .ok (.iconst 0, 1) := dk_3 (dk_at dksX4_delays_0 0 rfl rfl)
theorem dX4_delays_1 : decode cX4_delays 1 = .ok (.istore_n 1, 1) := dk_60 (dk_at dksX4_delays_0 1 rfl rfl)
theorem dX4_delays_2 : decode cX4_delays 2 = .ok (.iconst 0, 1) := dk_3 (dk_at dksX4_delays_0 2 rfl rfl)
theorem dX4_delays_3 : decode cX4_delays 3 = .ok (.istore_n 2, 1) := dk_61 (dk_at dksX4_delays_0 3 rfl rfl)
theorem dX4_delays_4 : decode cX4_delays 4 = .ok (.iload_n 2, 1) := dk_28 (dk_at dksX4_delays_0 4 rfl rfl)
theorem dX4_delays_5 : decode cX4_delays 5 = .ok (.iconst 3, 1) := dk_6 (dk_at dksX4_delays_0 5 rfl rfl)
theorem dX4_delays_6 : decode cX4_delays 6 = .ok (.if_icmp .ge 39, 3) := dk_162 0 39 (dk_at dksX4_delays_0 6 rfl rfl)
theorem dX4_delays_9 : decode cX4_delays 9 = .ok (.iload_n 1, 1) := dk_27 (dk_at dksX4_delays_0 9 rfl rfl)
theorem dX4_delays_10 : decode cX4_delays 10 = .ok (.aload_n 0, 1) := dk_42 (dk_at dksX4_delays_0 10 rfl rfl)
theorem dX4_delays_11 : decode cX4_delays 11 = .ok (.iload_n 2, 1) := dk_28 (dk_at dksX4_delays_0 11 rfl rfl)
theorem dX4_delays_12 : decode cX4_delays 12 = .ok (.invokevirtual 108, 3) := dk_182 0 108 (dk_at dksX4_delays_0 12 rfl rfl)
theorem dX4_delays_15 : decode cX4_delays 15 = .ok (.ldc 67, 2) := dk_18 67 (dk_at dksX4_delays_0 15 rfl rfl)
theorem dX4_delays_17 : decode cX4_delays 17 = .ok (.if_icmp .eq 7, 3) := dk_159 0 7 (dk_at dksX4_delays_0 17 rfl rfl)
theorem dX4_delays_20 : decode cX4_delays 20 = .ok (.iconst 1, 1) := dk_4 (dk_at dksX4_delays_0 20 rfl rfl)
theorem dX4_delays_21 : decode cX4_delays 21 = .ok (.goto 4, 3) := dk_167 0 4 (dk_at dksX4_delays_0 21 rfl rfl)
theorem dX4_delays_24 : decode cX4_delays 24 = .ok (.iconst 0, 1) := dk_3 (dk_at dksX4_delays_1 0 rfl rfl)
theorem dX4_delays_25 : decode cX4_delays 25 = .ok (.iadd, 1) := dk_96 (dk_at dksX4_delays_1 1 rfl rfl)
theorem dX4_delays_26 : decode cX4_delays 26 = .ok (.istore_n 1, 1) := dk_60 (dk_at dksX4_delays_1 2 rfl rfl)
theorem dX4_delays_27 : decode cX4_delays 27 = .ok (.aload_n 0, 1) := dk_42 (dk_at dksX4_delays_1 3 rfl rfl)
theorem dX4_delays_28 : decode cX4_delays 28 = .ok (.getfield 25, 3) := dk_180 0 25 (dk_at dksX4_delays_1 4 rfl rfl)
theorem dX4_delays_31 : decode cX4_delays 31 = .ok (.iconst 4, 1) := dk_7 (dk_at dksX4_delays_1 7 rfl rfl)
theorem dX4_delays_32 : decode cX4_delays 32 = .ok (.iload_n 2, 1) := dk_28 (dk_at dksX4_delays_1 8 rfl rfl)
theorem dX4_delays_33 : decode cX4_delays 33 = .ok (.imul, 1) := dk_104 (dk_at dksX4_delays_1 9 rfl rfl)
theorem dX4_delays_34 : decode cX4_delays 34 = .ok (.iconst 3, 1) := dk_6 (dk_at dksX4_delays_1 10 rfl rfl)
theorem dX4_delays_35 : decode cX4_delays 35 = .ok (.iadd, 1) := dk_96 (dk_at dksX4_delays_1 11 rfl rfl)
theorem dX4_delays_36 : decode cX4_delays 36 = .ok (.ldc 67, 2) := dk_18 67 (dk_at dksX4_delays_1 12 rfl rfl)
theorem dX4_delays_38 : decode cX4_delays 38 = .ok (.iastore, 1) := dk_79 (dk_at dksX4_delays_1 14 rfl rfl)
theorem dX4_delays_39 : decode cX4_delays 39 = .ok (.iinc 2 1, 3) := dk_132 2 1 (dk_at dksX4_delays_1 15 rfl rfl)
theorem dX4_delays_42 : decode cX4_delays 42 = .ok (.goto (-38), 3) := dk_167 255 218 (dk_at dksX4_delays_1 18 rfl rfl)
theorem dX4_delays_45 : decode cX4_delays 45 = .ok (.iload_n 1, 1) := dk_27 (dk_at dksX4_delays_1 21 rfl rfl)
theorem dX4_delays_46 : decode cX4_delays 46 = .ok (.ireturn, 1) := dk_172 (dk_at dksX4_delays_1 22 rfl rfl)
abbrev cX4_goBackInTime : ByteArray := prog_9_method_47_code
def yX4_goBackInTime : MethodName := ⟨RX4, "goBackInTime", "()I"⟩
def dkwX4_goBackInTime_0 : List UInt8 := [42, 182, 0, 127, 42, 42, 182, 0, 152, 182, 0, 143, 172]
abbrev dktX4_goBackInTime_0 : List UInt8 := dkwX4_goBackInTime_0 ++ []
theorem dksX4_goBackInTime_0 : cX4_goBackInTime.data.toList.drop 0 = dktX4_goBackInTime_0 := by decide +kernel
theorem dX4_goBackInTime_0 : decode cX4_goBackInTime 0 = .ok (.aload_n 0, 1) := dk_42 (dk_at dksX4_goBackInTime_0 0 rfl rfl)
theorem dX4_goBackInTime_1 : decode cX4_goBackInTime 1 = .ok (.invokevirtual 127, 3) := dk_182 0 127 (dk_at dksX4_goBackInTime_0 1 rfl rfl)
theorem dX4_goBackInTime_4 : decode cX4_goBackInTime 4 = .ok (.aload_n 0, 1) := dk_42 (dk_at dksX4_goBackInTime_0 4 rfl rfl)
theorem dX4_goBackInTime_5 : decode cX4_goBackInTime 5 = .ok (.aload_n 0, 1) := dk_42 (dk_at dksX4_goBackInTime_0 5 rfl rfl)
theorem dX4_goBackInTime_6 : decode cX4_goBackInTime 6 = .ok (.invokevirtual 152, 3) := dk_182 0 152 (dk_at dksX4_goBackInTime_0 6 rfl rfl)
theorem dX4_goBackInTime_9 : decode cX4_goBackInTime 9 = .ok (.invokevirtual 143, 3) := dk_182 0 143 (dk_at dksX4_goBackInTime_0 9 rfl rfl)
theorem dX4_goBackInTime_12 : decode cX4_goBackInTime 12 = .ok (.ireturn, 1) := dk_172 (dk_at dksX4_goBackInTime_0 12 rfl rfl)
abbrev cX4_goWayBack : ByteArray := prog_9_method_33_code
def yX4_goWayBack : MethodName := ⟨RX4, "goWayBack", "()I"⟩
def dkwX4_goWayBack_3 : List UInt8 := [167, 255, 199, 42, 182, 0, 121, 172]
abbrev dktX4_goWayBack_3 : List UInt8 := dkwX4_goWayBack_3 ++ []
def dkwX4_goWayBack_2 : List UInt8 := [184, 0, 72, 61, 132, 3, 1, 167, 255, 224, 42, 180, 0, 25, 16, 12, 27, 96, 28, 79, 132, 1, 1]
abbrev dktX4_goWayBack_2 : List UInt8 := dkwX4_goWayBack_2 ++ dktX4_goWayBack_3
def dkwX4_goWayBack_1 : List UInt8 := [162, 0, 33, 29, 27, 160, 0, 7, 28, 167, 0, 17, 28, 42, 180, 0, 25, 7, 29, 104, 27, 96, 46]
abbrev dktX4_goWayBack_1 : List UInt8 := dkwX4_goWayBack_1 ++ dktX4_goWayBack_2
def dkwX4_goWayBack_0 : List UInt8 := [42, 182, 0, 82, 154, 0, 6, 16, 244, 172, 3, 60, 27, 6, 162, 0, 58, 3, 61, 3, 62, 29, 6]
abbrev dktX4_goWayBack_0 : List UInt8 := dkwX4_goWayBack_0 ++ dktX4_goWayBack_1
theorem dksX4_goWayBack_0 : cX4_goWayBack.data.toList.drop 0 = dktX4_goWayBack_0 := by decide +kernel
theorem dksX4_goWayBack_1 : cX4_goWayBack.data.toList.drop 23 = dktX4_goWayBack_1 := dk_seg dksX4_goWayBack_0 23 rfl rfl
theorem dksX4_goWayBack_2 : cX4_goWayBack.data.toList.drop 46 = dktX4_goWayBack_2 := dk_seg dksX4_goWayBack_1 23 rfl rfl
theorem dksX4_goWayBack_3 : cX4_goWayBack.data.toList.drop 69 = dktX4_goWayBack_3 := dk_seg dksX4_goWayBack_2 23 rfl rfl
theorem dX4_goWayBack_0 : decode cX4_goWayBack 0 = .ok (.aload_n 0, 1) := dk_42 (dk_at dksX4_goWayBack_0 0 rfl rfl)
theorem dX4_goWayBack_1 : decode cX4_goWayBack 1 = .ok (.invokevirtual 82, 3) := dk_182 0 82 (dk_at dksX4_goWayBack_0 1 rfl rfl)
theorem dX4_goWayBack_4 : decode cX4_goWayBack 4 = .ok (.ifCond .ne 6, 3) := dk_154 0 6 (dk_at dksX4_goWayBack_0 4 rfl rfl)
theorem dX4_goWayBack_7 : decode cX4_goWayBack 7 = .ok (.bipush (-12), 2) := dk_16 244 (dk_at dksX4_goWayBack_0 7 rfl rfl)
theorem dX4_goWayBack_9 : decode cX4_goWayBack 9 = .ok (.ireturn, 1) := dk_172 (dk_at dksX4_goWayBack_0 9 rfl rfl)
theorem dX4_goWayBack_10 : decode cX4_goWayBack 10 = .ok (.iconst 0, 1) := dk_3 (dk_at dksX4_goWayBack_0 10 rfl rfl)
theorem dX4_goWayBack_11 : decode cX4_goWayBack 11 = .ok (.istore_n 1, 1) := dk_60 (dk_at dksX4_goWayBack_0 11 rfl rfl)
theorem dX4_goWayBack_12 : decode cX4_goWayBack 12 = .ok (.iload_n 1, 1) := dk_27 (dk_at dksX4_goWayBack_0 12 rfl rfl)
theorem dX4_goWayBack_13 : decode cX4_goWayBack 13 = .ok (.iconst 3, 1) := dk_6 (dk_at dksX4_goWayBack_0 13 rfl rfl)
theorem dX4_goWayBack_14 : decode cX4_goWayBack 14 = .ok (.if_icmp .ge 58, 3) := dk_162 0 58 (dk_at dksX4_goWayBack_0 14 rfl rfl)
theorem dX4_goWayBack_17 : decode cX4_goWayBack 17 = .ok (.iconst 0, 1) := dk_3 (dk_at dksX4_goWayBack_0 17 rfl rfl)
theorem dX4_goWayBack_18 : decode cX4_goWayBack 18 = .ok (.istore_n 2, 1) := dk_61 (dk_at dksX4_goWayBack_0 18 rfl rfl)
theorem dX4_goWayBack_19 : decode cX4_goWayBack 19 = .ok (.iconst 0, 1) := dk_3 (dk_at dksX4_goWayBack_0 19 rfl rfl)
theorem dX4_goWayBack_20 : decode cX4_goWayBack 20 = .ok (.istore_n 3, 1) := dk_62 (dk_at dksX4_goWayBack_0 20 rfl rfl)
theorem dX4_goWayBack_21 : decode cX4_goWayBack 21 = .ok (.iload_n 3, 1) := dk_29 (dk_at dksX4_goWayBack_0 21 rfl rfl)
theorem dX4_goWayBack_22 : decode cX4_goWayBack 22 = .ok (.iconst 3, 1) := dk_6 (dk_at dksX4_goWayBack_0 22 rfl rfl)
theorem dX4_goWayBack_23 : decode cX4_goWayBack 23 = .ok (.if_icmp .ge 33, 3) := dk_162 0 33 (dk_at dksX4_goWayBack_1 0 rfl rfl)
theorem dX4_goWayBack_26 : decode cX4_goWayBack 26 = .ok (.iload_n 3, 1) := dk_29 (dk_at dksX4_goWayBack_1 3 rfl rfl)
theorem dX4_goWayBack_27 : decode cX4_goWayBack 27 = .ok (.iload_n 1, 1) := dk_27 (dk_at dksX4_goWayBack_1 4 rfl rfl)
theorem dX4_goWayBack_28 : decode cX4_goWayBack 28 = .ok (.if_icmp .ne 7, 3) := dk_160 0 7 (dk_at dksX4_goWayBack_1 5 rfl rfl)
theorem dX4_goWayBack_31 : decode cX4_goWayBack 31 = .ok (.iload_n 2, 1) := dk_28 (dk_at dksX4_goWayBack_1 8 rfl rfl)
theorem dX4_goWayBack_32 : decode cX4_goWayBack 32 = .ok (.goto 17, 3) := dk_167 0 17 (dk_at dksX4_goWayBack_1 9 rfl rfl)
theorem dX4_goWayBack_35 : decode cX4_goWayBack 35 = .ok (.iload_n 2, 1) := dk_28 (dk_at dksX4_goWayBack_1 12 rfl rfl)
theorem dX4_goWayBack_36 : decode cX4_goWayBack 36 = .ok (.aload_n 0, 1) := dk_42 (dk_at dksX4_goWayBack_1 13 rfl rfl)
theorem dX4_goWayBack_37 : decode cX4_goWayBack 37 = .ok (.getfield 25, 3) := dk_180 0 25 (dk_at dksX4_goWayBack_1 14 rfl rfl)
theorem dX4_goWayBack_40 : decode cX4_goWayBack 40 = .ok (.iconst 4, 1) := dk_7 (dk_at dksX4_goWayBack_1 17 rfl rfl)
theorem dX4_goWayBack_41 : decode cX4_goWayBack 41 = .ok (.iload_n 3, 1) := dk_29 (dk_at dksX4_goWayBack_1 18 rfl rfl)
theorem dX4_goWayBack_42 : decode cX4_goWayBack 42 = .ok (.imul, 1) := dk_104 (dk_at dksX4_goWayBack_1 19 rfl rfl)
theorem dX4_goWayBack_43 : decode cX4_goWayBack 43 = .ok (.iload_n 1, 1) := dk_27 (dk_at dksX4_goWayBack_1 20 rfl rfl)
theorem dX4_goWayBack_44 : decode cX4_goWayBack 44 = .ok (.iadd, 1) := dk_96 (dk_at dksX4_goWayBack_1 21 rfl rfl)
theorem dX4_goWayBack_45 : decode cX4_goWayBack 45 = .ok (.iaload, 1) := dk_46 (dk_at dksX4_goWayBack_1 22 rfl rfl)
theorem dX4_goWayBack_46 : decode cX4_goWayBack 46 = .ok (.invokestatic 72, 3) := dk_184 0 72 (dk_at dksX4_goWayBack_2 0 rfl rfl)
theorem dX4_goWayBack_49 : decode cX4_goWayBack 49 = .ok (.istore_n 2, 1) := dk_61 (dk_at dksX4_goWayBack_2 3 rfl rfl)
theorem dX4_goWayBack_50 : decode cX4_goWayBack 50 = .ok (.iinc 3 1, 3) := dk_132 3 1 (dk_at dksX4_goWayBack_2 4 rfl rfl)
theorem dX4_goWayBack_53 : decode cX4_goWayBack 53 = .ok (.goto (-32), 3) := dk_167 255 224 (dk_at dksX4_goWayBack_2 7 rfl rfl)
theorem dX4_goWayBack_56 : decode cX4_goWayBack 56 = .ok (.aload_n 0, 1) := dk_42 (dk_at dksX4_goWayBack_2 10 rfl rfl)
theorem dX4_goWayBack_57 : decode cX4_goWayBack 57 = .ok (.getfield 25, 3) := dk_180 0 25 (dk_at dksX4_goWayBack_2 11 rfl rfl)
theorem dX4_goWayBack_60 : decode cX4_goWayBack 60 = .ok (.bipush 12, 2) := dk_16 12 (dk_at dksX4_goWayBack_2 14 rfl rfl)
theorem dX4_goWayBack_62 : decode cX4_goWayBack 62 = .ok (.iload_n 1, 1) := dk_27 (dk_at dksX4_goWayBack_2 16 rfl rfl)
theorem dX4_goWayBack_63 : decode cX4_goWayBack 63 = .ok (.iadd, 1) := dk_96 (dk_at dksX4_goWayBack_2 17 rfl rfl)
theorem dX4_goWayBack_64 : decode cX4_goWayBack 64 = .ok (.iload_n 2, 1) := dk_28 (dk_at dksX4_goWayBack_2 18 rfl rfl)
theorem dX4_goWayBack_65 : decode cX4_goWayBack 65 = .ok (.iastore, 1) := dk_79 (dk_at dksX4_goWayBack_2 19 rfl rfl)
theorem dX4_goWayBack_66 : decode cX4_goWayBack 66 = .ok (.iinc 1 1, 3) := dk_132 1 1 (dk_at dksX4_goWayBack_2 20 rfl rfl)
theorem dX4_goWayBack_69 : decode cX4_goWayBack 69 = .ok (.goto (-57), 3) := dk_167 255 199 (dk_at dksX4_goWayBack_3 0 rfl rfl)
theorem dX4_goWayBack_72 : decode cX4_goWayBack 72 = .ok (.aload_n 0, 1) := dk_42 (dk_at dksX4_goWayBack_3 3 rfl rfl)
theorem dX4_goWayBack_73 : decode cX4_goWayBack 73 = .ok (.invokevirtual 121, 3) := dk_182 0 121 (dk_at dksX4_goWayBack_3 4 rfl rfl)
theorem dX4_goWayBack_76 : decode cX4_goWayBack 76 = .ok (.ireturn, 1) := dk_172 (dk_at dksX4_goWayBack_3 7 rfl rfl)
abbrev cX4_toldBounds : ByteArray := prog_9_method_34_code
def yX4_toldBounds : MethodName := ⟨RX4, "toldBounds", "()I"⟩
def dkwX4_toldBounds_0 : List UInt8 := [42, 3, 182, 0, 115, 60, 27, 16, 244, 160, 0, 8, 16, 244, 167, 0, 7, 42, 182, 0, 100, 172]
abbrev dktX4_toldBounds_0 : List UInt8 := dkwX4_toldBounds_0 ++ []
theorem dksX4_toldBounds_0 : cX4_toldBounds.data.toList.drop 0 = dktX4_toldBounds_0 := by decide +kernel
theorem dX4_toldBounds_0 : decode cX4_toldBounds 0 = .ok (.aload_n 0, 1) := dk_42 (dk_at dksX4_toldBounds_0 0 rfl rfl)
theorem dX4_toldBounds_1 : decode cX4_toldBounds 1 = .ok (.iconst 0, 1) := dk_3 (dk_at dksX4_toldBounds_0 1 rfl rfl)
theorem dX4_toldBounds_2 : decode cX4_toldBounds 2 = .ok (.invokevirtual 115, 3) := dk_182 0 115 (dk_at dksX4_toldBounds_0 2 rfl rfl)
theorem dX4_toldBounds_5 : decode cX4_toldBounds 5 = .ok (.istore_n 1, 1) := dk_60 (dk_at dksX4_toldBounds_0 5 rfl rfl)
theorem dX4_toldBounds_6 : decode cX4_toldBounds 6 = .ok (.iload_n 1, 1) := dk_27 (dk_at dksX4_toldBounds_0 6 rfl rfl)
theorem dX4_toldBounds_7 : decode cX4_toldBounds 7 = .ok (.bipush (-12), 2) := dk_16 244 (dk_at dksX4_toldBounds_0 7 rfl rfl)
theorem dX4_toldBounds_9 : decode cX4_toldBounds 9 = .ok (.if_icmp .ne 8, 3) := dk_160 0 8 (dk_at dksX4_toldBounds_0 9 rfl rfl)
theorem dX4_toldBounds_12 : decode cX4_toldBounds 12 = .ok (.bipush (-12), 2) := dk_16 244 (dk_at dksX4_toldBounds_0 12 rfl rfl)
theorem dX4_toldBounds_14 : decode cX4_toldBounds 14 = .ok (.goto 7, 3) := dk_167 0 7 (dk_at dksX4_toldBounds_0 14 rfl rfl)
theorem dX4_toldBounds_17 : decode cX4_toldBounds 17 = .ok (.aload_n 0, 1) := dk_42 (dk_at dksX4_toldBounds_0 17 rfl rfl)
theorem dX4_toldBounds_18 : decode cX4_toldBounds 18 = .ok (.invokevirtual 100, 3) := dk_182 0 100 (dk_at dksX4_toldBounds_0 18 rfl rfl)
theorem dX4_toldBounds_21 : decode cX4_toldBounds 21 = .ok (.ireturn, 1) := dk_172 (dk_at dksX4_toldBounds_0 21 rfl rfl)
abbrev cX4_setFree : ByteArray := prog_9_method_48_code
def yX4_setFree : MethodName := ⟨RX4, "setFree", "(I)I"⟩
def dkwX4_setFree_0 : List UInt8 := [42, 182, 0, 127, 42, 42, 27, 182, 0, 155, 182, 0, 134, 172]
abbrev dktX4_setFree_0 : List UInt8 := dkwX4_setFree_0 ++ []
theorem dksX4_setFree_0 : cX4_setFree.data.toList.drop 0 = dktX4_setFree_0 := by decide +kernel
theorem dX4_setFree_0 : decode cX4_setFree 0 = .ok (.aload_n 0, 1) := dk_42 (dk_at dksX4_setFree_0 0 rfl rfl)
theorem dX4_setFree_1 : decode cX4_setFree 1 = .ok (.invokevirtual 127, 3) := dk_182 0 127 (dk_at dksX4_setFree_0 1 rfl rfl)
theorem dX4_setFree_4 : decode cX4_setFree 4 = .ok (.aload_n 0, 1) := dk_42 (dk_at dksX4_setFree_0 4 rfl rfl)
theorem dX4_setFree_5 : decode cX4_setFree 5 = .ok (.aload_n 0, 1) := dk_42 (dk_at dksX4_setFree_0 5 rfl rfl)
theorem dX4_setFree_6 : decode cX4_setFree 6 = .ok (.iload_n 1, 1) := dk_27 (dk_at dksX4_setFree_0 6 rfl rfl)
theorem dX4_setFree_7 : decode cX4_setFree 7 = .ok (.invokevirtual 155, 3) := dk_182 0 155 (dk_at dksX4_setFree_0 7 rfl rfl)
theorem dX4_setFree_10 : decode cX4_setFree 10 = .ok (.invokevirtual 134, 3) := dk_182 0 134 (dk_at dksX4_setFree_0 10 rfl rfl)
theorem dX4_setFree_13 : decode cX4_setFree 13 = .ok (.ireturn, 1) := dk_172 (dk_at dksX4_setFree_0 13 rfl rfl)
abbrev cX4_goFree : ByteArray := prog_9_method_35_code
def yX4_goFree : MethodName := ⟨RX4, "goFree", "(I)I"⟩
def dkwX4_goFree_3 : List UInt8 := [180, 0, 25, 16, 12, 27, 96, 3, 79, 42, 182, 0, 121, 172]
abbrev dktX4_goFree_3 : List UInt8 := dkwX4_goFree_3 ++ []
def dkwX4_goFree_2 : List UInt8 := [7, 28, 104, 27, 96, 42, 180, 0, 25, 7, 28, 104, 6, 96, 46, 79, 132, 2, 1, 167, 255, 211, 42]
abbrev dktX4_goFree_2 : List UInt8 := dkwX4_goFree_2 ++ dktX4_goFree_3
def dkwX4_goFree_1 : List UInt8 := [162, 0, 46, 28, 27, 159, 0, 35, 42, 180, 0, 25, 7, 27, 104, 28, 96, 18, 67, 79, 42, 180, 0, 25]
abbrev dktX4_goFree_1 : List UInt8 := dkwX4_goFree_1 ++ dktX4_goFree_2
def dkwX4_goFree_0 : List UInt8 := [27, 184, 0, 104, 154, 0, 6, 16, 245, 172, 42, 182, 0, 82, 154, 0, 6, 16, 244, 172, 3, 61, 28, 7]
abbrev dktX4_goFree_0 : List UInt8 := dkwX4_goFree_0 ++ dktX4_goFree_1
theorem dksX4_goFree_0 : cX4_goFree.data.toList.drop 0 = dktX4_goFree_0 := by decide +kernel
theorem dksX4_goFree_1 : cX4_goFree.data.toList.drop 24 = dktX4_goFree_1 := dk_seg dksX4_goFree_0 24 rfl rfl
theorem dksX4_goFree_2 : cX4_goFree.data.toList.drop 48 = dktX4_goFree_2 := dk_seg dksX4_goFree_1 24 rfl rfl
theorem dksX4_goFree_3 : cX4_goFree.data.toList.drop 71 = dktX4_goFree_3 := dk_seg dksX4_goFree_2 23 rfl rfl
theorem dX4_goFree_0 : decode cX4_goFree 0 = .ok (.iload_n 1, 1) := dk_27 (dk_at dksX4_goFree_0 0 rfl rfl)
theorem dX4_goFree_1 : decode cX4_goFree 1 = .ok (.invokestatic 104, 3) := dk_184 0 104 (dk_at dksX4_goFree_0 1 rfl rfl)
theorem dX4_goFree_4 : decode cX4_goFree 4 = .ok (.ifCond .ne 6, 3) := dk_154 0 6 (dk_at dksX4_goFree_0 4 rfl rfl)
theorem dX4_goFree_7 : decode cX4_goFree 7 = .ok (.bipush (-11), 2) := dk_16 245 (dk_at dksX4_goFree_0 7 rfl rfl)
theorem dX4_goFree_9 : decode cX4_goFree 9 = .ok (.ireturn, 1) := dk_172 (dk_at dksX4_goFree_0 9 rfl rfl)
theorem dX4_goFree_10 : decode cX4_goFree 10 = .ok (.aload_n 0, 1) := dk_42 (dk_at dksX4_goFree_0 10 rfl rfl)
theorem dX4_goFree_11 : decode cX4_goFree 11 = .ok (.invokevirtual 82, 3) := dk_182 0 82 (dk_at dksX4_goFree_0 11 rfl rfl)
theorem dX4_goFree_14 : decode cX4_goFree 14 = .ok (.ifCond .ne 6, 3) := dk_154 0 6 (dk_at dksX4_goFree_0 14 rfl rfl)
theorem dX4_goFree_17 : decode cX4_goFree 17 = .ok (.bipush (-12), 2) := dk_16 244 (dk_at dksX4_goFree_0 17 rfl rfl)
theorem dX4_goFree_19 : decode cX4_goFree 19 = .ok (.ireturn, 1) := dk_172 (dk_at dksX4_goFree_0 19 rfl rfl)
theorem dX4_goFree_20 : decode cX4_goFree 20 = .ok (.iconst 0, 1) := dk_3 (dk_at dksX4_goFree_0 20 rfl rfl)
theorem dX4_goFree_21 : decode cX4_goFree 21 = .ok (.istore_n 2, 1) := dk_61 (dk_at dksX4_goFree_0 21 rfl rfl)
theorem dX4_goFree_22 : decode cX4_goFree 22 = .ok (.iload_n 2, 1) := dk_28 (dk_at dksX4_goFree_0 22 rfl rfl)
theorem dX4_goFree_23 : decode cX4_goFree 23 = .ok (.iconst 4, 1) := dk_7 (dk_at dksX4_goFree_0 23 rfl rfl)
theorem dX4_goFree_24 : decode cX4_goFree 24 = .ok (.if_icmp .ge 46, 3) := dk_162 0 46 (dk_at dksX4_goFree_1 0 rfl rfl)
theorem dX4_goFree_27 : decode cX4_goFree 27 = .ok (.iload_n 2, 1) := dk_28 (dk_at dksX4_goFree_1 3 rfl rfl)
theorem dX4_goFree_28 : decode cX4_goFree 28 = .ok (.iload_n 1, 1) := dk_27 (dk_at dksX4_goFree_1 4 rfl rfl)
theorem dX4_goFree_29 : decode cX4_goFree 29 = .ok (.if_icmp .eq 35, 3) := dk_159 0 35 (dk_at dksX4_goFree_1 5 rfl rfl)
theorem dX4_goFree_32 : decode cX4_goFree 32 = .ok (.aload_n 0, 1) := dk_42 (dk_at dksX4_goFree_1 8 rfl rfl)
theorem dX4_goFree_33 : decode cX4_goFree 33 = .ok (.getfield 25, 3) := dk_180 0 25 (dk_at dksX4_goFree_1 9 rfl rfl)
theorem dX4_goFree_36 : decode cX4_goFree 36 = .ok (.iconst 4, 1) := dk_7 (dk_at dksX4_goFree_1 12 rfl rfl)
theorem dX4_goFree_37 : decode cX4_goFree 37 = .ok (.iload_n 1, 1) := dk_27 (dk_at dksX4_goFree_1 13 rfl rfl)
theorem dX4_goFree_38 : decode cX4_goFree 38 = .ok (.imul, 1) := dk_104 (dk_at dksX4_goFree_1 14 rfl rfl)
theorem dX4_goFree_39 : decode cX4_goFree 39 = .ok (.iload_n 2, 1) := dk_28 (dk_at dksX4_goFree_1 15 rfl rfl)
theorem dX4_goFree_40 : decode cX4_goFree 40 = .ok (.iadd, 1) := dk_96 (dk_at dksX4_goFree_1 16 rfl rfl)
theorem dX4_goFree_41 : decode cX4_goFree 41 = .ok (.ldc 67, 2) := dk_18 67 (dk_at dksX4_goFree_1 17 rfl rfl)
theorem dX4_goFree_43 : decode cX4_goFree 43 = .ok (.iastore, 1) := dk_79 (dk_at dksX4_goFree_1 19 rfl rfl)
theorem dX4_goFree_44 : decode cX4_goFree 44 = .ok (.aload_n 0, 1) := dk_42 (dk_at dksX4_goFree_1 20 rfl rfl)
theorem dX4_goFree_45 : decode cX4_goFree 45 = .ok (.getfield 25, 3) := dk_180 0 25 (dk_at dksX4_goFree_1 21 rfl rfl)
theorem dX4_goFree_48 : decode cX4_goFree 48 = .ok (.iconst 4, 1) := dk_7 (dk_at dksX4_goFree_2 0 rfl rfl)
theorem dX4_goFree_49 : decode cX4_goFree 49 = .ok (.iload_n 2, 1) := dk_28 (dk_at dksX4_goFree_2 1 rfl rfl)
theorem dX4_goFree_50 : decode cX4_goFree 50 = .ok (.imul, 1) := dk_104 (dk_at dksX4_goFree_2 2 rfl rfl)
theorem dX4_goFree_51 : decode cX4_goFree 51 = .ok (.iload_n 1, 1) := dk_27 (dk_at dksX4_goFree_2 3 rfl rfl)
theorem dX4_goFree_52 : decode cX4_goFree 52 = .ok (.iadd, 1) := dk_96 (dk_at dksX4_goFree_2 4 rfl rfl)
theorem dX4_goFree_53 : decode cX4_goFree 53 = .ok (.aload_n 0, 1) := dk_42 (dk_at dksX4_goFree_2 5 rfl rfl)
theorem dX4_goFree_54 : decode cX4_goFree 54 = .ok (.getfield 25, 3) := dk_180 0 25 (dk_at dksX4_goFree_2 6 rfl rfl)
theorem dX4_goFree_57 : decode cX4_goFree 57 = .ok (.iconst 4, 1) := dk_7 (dk_at dksX4_goFree_2 9 rfl rfl)
theorem dX4_goFree_58 : decode cX4_goFree 58 = .ok (.iload_n 2, 1) := dk_28 (dk_at dksX4_goFree_2 10 rfl rfl)
theorem dX4_goFree_59 : decode cX4_goFree 59 = .ok (.imul, 1) := dk_104 (dk_at dksX4_goFree_2 11 rfl rfl)
theorem dX4_goFree_60 : decode cX4_goFree 60 = .ok (.iconst 3, 1) := dk_6 (dk_at dksX4_goFree_2 12 rfl rfl)
theorem dX4_goFree_61 : decode cX4_goFree 61 = .ok (.iadd, 1) := dk_96 (dk_at dksX4_goFree_2 13 rfl rfl)
theorem dX4_goFree_62 : decode cX4_goFree 62 = .ok (.iaload, 1) := dk_46 (dk_at dksX4_goFree_2 14 rfl rfl)
theorem dX4_goFree_63 : decode cX4_goFree 63 = .ok (.iastore, 1) := dk_79 (dk_at dksX4_goFree_2 15 rfl rfl)
theorem dX4_goFree_64 : decode cX4_goFree 64 = .ok (.iinc 2 1, 3) := dk_132 2 1 (dk_at dksX4_goFree_2 16 rfl rfl)
theorem dX4_goFree_67 : decode cX4_goFree 67 = .ok (.goto (-45), 3) := dk_167 255 211 (dk_at dksX4_goFree_2 19 rfl rfl)
theorem dX4_goFree_70 : decode cX4_goFree 70 = .ok (.aload_n 0, 1) := dk_42 (dk_at dksX4_goFree_2 22 rfl rfl)
theorem dX4_goFree_71 : decode cX4_goFree 71 = .ok (.getfield 25, 3) := dk_180 0 25 (dk_at dksX4_goFree_3 0 rfl rfl)
theorem dX4_goFree_74 : decode cX4_goFree 74 = .ok (.bipush 12, 2) := dk_16 12 (dk_at dksX4_goFree_3 3 rfl rfl)
theorem dX4_goFree_76 : decode cX4_goFree 76 = .ok (.iload_n 1, 1) := dk_27 (dk_at dksX4_goFree_3 5 rfl rfl)
theorem dX4_goFree_77 : decode cX4_goFree 77 = .ok (.iadd, 1) := dk_96 (dk_at dksX4_goFree_3 6 rfl rfl)
theorem dX4_goFree_78 : decode cX4_goFree 78 = .ok (.iconst 0, 1) := dk_3 (dk_at dksX4_goFree_3 7 rfl rfl)
theorem dX4_goFree_79 : decode cX4_goFree 79 = .ok (.iastore, 1) := dk_79 (dk_at dksX4_goFree_3 8 rfl rfl)
theorem dX4_goFree_80 : decode cX4_goFree 80 = .ok (.aload_n 0, 1) := dk_42 (dk_at dksX4_goFree_3 9 rfl rfl)
theorem dX4_goFree_81 : decode cX4_goFree 81 = .ok (.invokevirtual 121, 3) := dk_182 0 121 (dk_at dksX4_goFree_3 10 rfl rfl)
theorem dX4_goFree_84 : decode cX4_goFree 84 = .ok (.ireturn, 1) := dk_172 (dk_at dksX4_goFree_3 13 rfl rfl)
abbrev cX4_copyClock : ByteArray := prog_9_method_49_code
def yX4_copyClock : MethodName := ⟨RX4, "copyClock", "(II)I"⟩
def dkwX4_copyClock_0 : List UInt8 := [42, 182, 0, 127, 42, 42, 27, 28, 182, 0, 158, 182, 0, 134, 172]
abbrev dktX4_copyClock_0 : List UInt8 := dkwX4_copyClock_0 ++ []
theorem dksX4_copyClock_0 : cX4_copyClock.data.toList.drop 0 = dktX4_copyClock_0 := by decide +kernel
theorem dX4_copyClock_0 : decode cX4_copyClock 0 = .ok (.aload_n 0, 1) := dk_42 (dk_at dksX4_copyClock_0 0 rfl rfl)
theorem dX4_copyClock_1 : decode cX4_copyClock 1 = .ok (.invokevirtual 127, 3) := dk_182 0 127 (dk_at dksX4_copyClock_0 1 rfl rfl)
theorem dX4_copyClock_4 : decode cX4_copyClock 4 = .ok (.aload_n 0, 1) := dk_42 (dk_at dksX4_copyClock_0 4 rfl rfl)
theorem dX4_copyClock_5 : decode cX4_copyClock 5 = .ok (.aload_n 0, 1) := dk_42 (dk_at dksX4_copyClock_0 5 rfl rfl)
theorem dX4_copyClock_6 : decode cX4_copyClock 6 = .ok (.iload_n 1, 1) := dk_27 (dk_at dksX4_copyClock_0 6 rfl rfl)
theorem dX4_copyClock_7 : decode cX4_copyClock 7 = .ok (.iload_n 2, 1) := dk_28 (dk_at dksX4_copyClock_0 7 rfl rfl)
theorem dX4_copyClock_8 : decode cX4_copyClock 8 = .ok (.invokevirtual 158, 3) := dk_182 0 158 (dk_at dksX4_copyClock_0 8 rfl rfl)
theorem dX4_copyClock_11 : decode cX4_copyClock 11 = .ok (.invokevirtual 134, 3) := dk_182 0 134 (dk_at dksX4_copyClock_0 11 rfl rfl)
theorem dX4_copyClock_14 : decode cX4_copyClock 14 = .ok (.ireturn, 1) := dk_172 (dk_at dksX4_copyClock_0 14 rfl rfl)
abbrev cX4_goCopy : ByteArray := prog_9_method_36_code
def yX4_goCopy : MethodName := ⟨RX4, "goCopy", "(II)I"⟩
def dkwX4_goCopy_4 : List UInt8 := [182, 0, 124, 182, 0, 115, 172]
abbrev dktX4_goCopy_4 : List UInt8 := dkwX4_goCopy_4 ++ []
def dkwX4_goCopy_3 : List UInt8 := [29, 104, 27, 96, 42, 180, 0, 25, 7, 29, 104, 28, 96, 46, 79, 132, 3, 1, 167, 255, 203, 42, 42, 28]
abbrev dktX4_goCopy_3 : List UInt8 := dkwX4_goCopy_3 ++ dktX4_goCopy_4
def dkwX4_goCopy_2 : List UInt8 := [180, 0, 25, 7, 27, 104, 29, 96, 42, 180, 0, 25, 7, 28, 104, 29, 96, 46, 79, 42, 180, 0, 25, 7]
abbrev dktX4_goCopy_2 : List UInt8 := dkwX4_goCopy_2 ++ dktX4_goCopy_3
def dkwX4_goCopy_1 : List UInt8 := [182, 0, 82, 154, 0, 6, 16, 244, 172, 3, 62, 29, 7, 162, 0, 54, 29, 27, 159, 0, 43, 42]
abbrev dktX4_goCopy_1 : List UInt8 := dkwX4_goCopy_1 ++ dktX4_goCopy_2
def dkwX4_goCopy_0 : List UInt8 := [27, 184, 0, 104, 153, 0, 15, 28, 184, 0, 104, 153, 0, 8, 27, 28, 160, 0, 6, 16, 245, 172, 42]
abbrev dktX4_goCopy_0 : List UInt8 := dkwX4_goCopy_0 ++ dktX4_goCopy_1
theorem dksX4_goCopy_0 : cX4_goCopy.data.toList.drop 0 = dktX4_goCopy_0 := by decide +kernel
theorem dksX4_goCopy_1 : cX4_goCopy.data.toList.drop 23 = dktX4_goCopy_1 := dk_seg dksX4_goCopy_0 23 rfl rfl
theorem dksX4_goCopy_2 : cX4_goCopy.data.toList.drop 45 = dktX4_goCopy_2 := dk_seg dksX4_goCopy_1 22 rfl rfl
theorem dksX4_goCopy_3 : cX4_goCopy.data.toList.drop 69 = dktX4_goCopy_3 := dk_seg dksX4_goCopy_2 24 rfl rfl
theorem dksX4_goCopy_4 : cX4_goCopy.data.toList.drop 93 = dktX4_goCopy_4 := dk_seg dksX4_goCopy_3 24 rfl rfl
theorem dX4_goCopy_0 : decode cX4_goCopy 0 = .ok (.iload_n 1, 1) := dk_27 (dk_at dksX4_goCopy_0 0 rfl rfl)
theorem dX4_goCopy_1 : decode cX4_goCopy 1 = .ok (.invokestatic 104, 3) := dk_184 0 104 (dk_at dksX4_goCopy_0 1 rfl rfl)
theorem dX4_goCopy_4 : decode cX4_goCopy 4 = .ok (.ifCond .eq 15, 3) := dk_153 0 15 (dk_at dksX4_goCopy_0 4 rfl rfl)
theorem dX4_goCopy_7 : decode cX4_goCopy 7 = .ok (.iload_n 2, 1) := dk_28 (dk_at dksX4_goCopy_0 7 rfl rfl)
theorem dX4_goCopy_8 : decode cX4_goCopy 8 = .ok (.invokestatic 104, 3) := dk_184 0 104 (dk_at dksX4_goCopy_0 8 rfl rfl)
theorem dX4_goCopy_11 : decode cX4_goCopy 11 = .ok (.ifCond .eq 8, 3) := dk_153 0 8 (dk_at dksX4_goCopy_0 11 rfl rfl)
theorem dX4_goCopy_14 : decode cX4_goCopy 14 = .ok (.iload_n 1, 1) := dk_27 (dk_at dksX4_goCopy_0 14 rfl rfl)
theorem dX4_goCopy_15 : decode cX4_goCopy 15 = .ok (.iload_n 2, 1) := dk_28 (dk_at dksX4_goCopy_0 15 rfl rfl)
theorem dX4_goCopy_16 : decode cX4_goCopy 16 = .ok (.if_icmp .ne 6, 3) := dk_160 0 6 (dk_at dksX4_goCopy_0 16 rfl rfl)
theorem dX4_goCopy_19 : decode cX4_goCopy 19 = .ok (.bipush (-11), 2) := dk_16 245 (dk_at dksX4_goCopy_0 19 rfl rfl)
theorem dX4_goCopy_21 : decode cX4_goCopy 21 = .ok (.ireturn, 1) := dk_172 (dk_at dksX4_goCopy_0 21 rfl rfl)
theorem dX4_goCopy_22 : decode cX4_goCopy 22 = .ok (.aload_n 0, 1) := dk_42 (dk_at dksX4_goCopy_0 22 rfl rfl)
theorem dX4_goCopy_23 : decode cX4_goCopy 23 = .ok (.invokevirtual 82, 3) := dk_182 0 82 (dk_at dksX4_goCopy_1 0 rfl rfl)
theorem dX4_goCopy_26 : decode cX4_goCopy 26 = .ok (.ifCond .ne 6, 3) := dk_154 0 6 (dk_at dksX4_goCopy_1 3 rfl rfl)
theorem dX4_goCopy_29 : decode cX4_goCopy 29 = .ok (.bipush (-12), 2) := dk_16 244 (dk_at dksX4_goCopy_1 6 rfl rfl)
theorem dX4_goCopy_31 : decode cX4_goCopy 31 = .ok (.ireturn, 1) := dk_172 (dk_at dksX4_goCopy_1 8 rfl rfl)
theorem dX4_goCopy_32 : decode cX4_goCopy 32 = .ok (.iconst 0, 1) := dk_3 (dk_at dksX4_goCopy_1 9 rfl rfl)
theorem dX4_goCopy_33 : decode cX4_goCopy 33 = .ok (.istore_n 3, 1) := dk_62 (dk_at dksX4_goCopy_1 10 rfl rfl)
theorem dX4_goCopy_34 : decode cX4_goCopy 34 = .ok (.iload_n 3, 1) := dk_29 (dk_at dksX4_goCopy_1 11 rfl rfl)
theorem dX4_goCopy_35 : decode cX4_goCopy 35 = .ok (.iconst 4, 1) := dk_7 (dk_at dksX4_goCopy_1 12 rfl rfl)
theorem dX4_goCopy_36 : decode cX4_goCopy 36 = .ok (.if_icmp .ge 54, 3) := dk_162 0 54 (dk_at dksX4_goCopy_1 13 rfl rfl)
theorem dX4_goCopy_39 : decode cX4_goCopy 39 = .ok (.iload_n 3, 1) := dk_29 (dk_at dksX4_goCopy_1 16 rfl rfl)
theorem dX4_goCopy_40 : decode cX4_goCopy 40 = .ok (.iload_n 1, 1) := dk_27 (dk_at dksX4_goCopy_1 17 rfl rfl)
theorem dX4_goCopy_41 : decode cX4_goCopy 41 = .ok (.if_icmp .eq 43, 3) := dk_159 0 43 (dk_at dksX4_goCopy_1 18 rfl rfl)
theorem dX4_goCopy_44 : decode cX4_goCopy 44 = .ok (.aload_n 0, 1) := dk_42 (dk_at dksX4_goCopy_1 21 rfl rfl)
theorem dX4_goCopy_45 : decode cX4_goCopy 45 = .ok (.getfield 25, 3) := dk_180 0 25 (dk_at dksX4_goCopy_2 0 rfl rfl)
theorem dX4_goCopy_48 : decode cX4_goCopy 48 = .ok (.iconst 4, 1) := dk_7 (dk_at dksX4_goCopy_2 3 rfl rfl)
theorem dX4_goCopy_49 : decode cX4_goCopy 49 = .ok (.iload_n 1, 1) := dk_27 (dk_at dksX4_goCopy_2 4 rfl rfl)
theorem dX4_goCopy_50 : decode cX4_goCopy 50 = .ok (.imul, 1) := dk_104 (dk_at dksX4_goCopy_2 5 rfl rfl)
theorem dX4_goCopy_51 : decode cX4_goCopy 51 = .ok (.iload_n 3, 1) := dk_29 (dk_at dksX4_goCopy_2 6 rfl rfl)
theorem dX4_goCopy_52 : decode cX4_goCopy 52 = .ok (.iadd, 1) := dk_96 (dk_at dksX4_goCopy_2 7 rfl rfl)
theorem dX4_goCopy_53 : decode cX4_goCopy 53 = .ok (.aload_n 0, 1) := dk_42 (dk_at dksX4_goCopy_2 8 rfl rfl)
theorem dX4_goCopy_54 : decode cX4_goCopy 54 = .ok (.getfield 25, 3) := dk_180 0 25 (dk_at dksX4_goCopy_2 9 rfl rfl)
theorem dX4_goCopy_57 : decode cX4_goCopy 57 = .ok (.iconst 4, 1) := dk_7 (dk_at dksX4_goCopy_2 12 rfl rfl)
theorem dX4_goCopy_58 : decode cX4_goCopy 58 = .ok (.iload_n 2, 1) := dk_28 (dk_at dksX4_goCopy_2 13 rfl rfl)
theorem dX4_goCopy_59 : decode cX4_goCopy 59 = .ok (.imul, 1) := dk_104 (dk_at dksX4_goCopy_2 14 rfl rfl)
theorem dX4_goCopy_60 : decode cX4_goCopy 60 = .ok (.iload_n 3, 1) := dk_29 (dk_at dksX4_goCopy_2 15 rfl rfl)
theorem dX4_goCopy_61 : decode cX4_goCopy 61 = .ok (.iadd, 1) := dk_96 (dk_at dksX4_goCopy_2 16 rfl rfl)
theorem dX4_goCopy_62 : decode cX4_goCopy 62 = .ok (.iaload, 1) := dk_46 (dk_at dksX4_goCopy_2 17 rfl rfl)
theorem dX4_goCopy_63 : decode cX4_goCopy 63 = .ok (.iastore, 1) := dk_79 (dk_at dksX4_goCopy_2 18 rfl rfl)
theorem dX4_goCopy_64 : decode cX4_goCopy 64 = .ok (.aload_n 0, 1) := dk_42 (dk_at dksX4_goCopy_2 19 rfl rfl)
theorem dX4_goCopy_65 : decode cX4_goCopy 65 = .ok (.getfield 25, 3) := dk_180 0 25 (dk_at dksX4_goCopy_2 20 rfl rfl)
theorem dX4_goCopy_68 : decode cX4_goCopy 68 = .ok (.iconst 4, 1) := dk_7 (dk_at dksX4_goCopy_2 23 rfl rfl)
theorem dX4_goCopy_69 : decode cX4_goCopy 69 = .ok (.iload_n 3, 1) := dk_29 (dk_at dksX4_goCopy_3 0 rfl rfl)
theorem dX4_goCopy_70 : decode cX4_goCopy 70 = .ok (.imul, 1) := dk_104 (dk_at dksX4_goCopy_3 1 rfl rfl)
theorem dX4_goCopy_71 : decode cX4_goCopy 71 = .ok (.iload_n 1, 1) := dk_27 (dk_at dksX4_goCopy_3 2 rfl rfl)
theorem dX4_goCopy_72 : decode cX4_goCopy 72 = .ok (.iadd, 1) := dk_96 (dk_at dksX4_goCopy_3 3 rfl rfl)
theorem dX4_goCopy_73 : decode cX4_goCopy 73 = .ok (.aload_n 0, 1) := dk_42 (dk_at dksX4_goCopy_3 4 rfl rfl)
theorem dX4_goCopy_74 : decode cX4_goCopy 74 = .ok (.getfield 25, 3) := dk_180 0 25 (dk_at dksX4_goCopy_3 5 rfl rfl)
theorem dX4_goCopy_77 : decode cX4_goCopy 77 = .ok (.iconst 4, 1) := dk_7 (dk_at dksX4_goCopy_3 8 rfl rfl)
theorem dX4_goCopy_78 : decode cX4_goCopy 78 = .ok (.iload_n 3, 1) := dk_29 (dk_at dksX4_goCopy_3 9 rfl rfl)
theorem dX4_goCopy_79 : decode cX4_goCopy 79 = .ok (.imul, 1) := dk_104 (dk_at dksX4_goCopy_3 10 rfl rfl)
theorem dX4_goCopy_80 : decode cX4_goCopy 80 = .ok (.iload_n 2, 1) := dk_28 (dk_at dksX4_goCopy_3 11 rfl rfl)
theorem dX4_goCopy_81 : decode cX4_goCopy 81 = .ok (.iadd, 1) := dk_96 (dk_at dksX4_goCopy_3 12 rfl rfl)
theorem dX4_goCopy_82 : decode cX4_goCopy 82 = .ok (.iaload, 1) := dk_46 (dk_at dksX4_goCopy_3 13 rfl rfl)
theorem dX4_goCopy_83 : decode cX4_goCopy 83 = .ok (.iastore, 1) := dk_79 (dk_at dksX4_goCopy_3 14 rfl rfl)
theorem dX4_goCopy_84 : decode cX4_goCopy 84 = .ok (.iinc 3 1, 3) := dk_132 3 1 (dk_at dksX4_goCopy_3 15 rfl rfl)
theorem dX4_goCopy_87 : decode cX4_goCopy 87 = .ok (.goto (-53), 3) := dk_167 255 203 (dk_at dksX4_goCopy_3 18 rfl rfl)
theorem dX4_goCopy_90 : decode cX4_goCopy 90 = .ok (.aload_n 0, 1) := dk_42 (dk_at dksX4_goCopy_3 21 rfl rfl)
theorem dX4_goCopy_91 : decode cX4_goCopy 91 = .ok (.aload_n 0, 1) := dk_42 (dk_at dksX4_goCopy_3 22 rfl rfl)
theorem dX4_goCopy_92 : decode cX4_goCopy 92 = .ok (.iload_n 2, 1) := dk_28 (dk_at dksX4_goCopy_3 23 rfl rfl)
theorem dX4_goCopy_93 : decode cX4_goCopy 93 = .ok (.invokevirtual 124, 3) := dk_182 0 124 (dk_at dksX4_goCopy_4 0 rfl rfl)
theorem dX4_goCopy_96 : decode cX4_goCopy 96 = .ok (.invokevirtual 115, 3) := dk_182 0 115 (dk_at dksX4_goCopy_4 3 rfl rfl)
theorem dX4_goCopy_99 : decode cX4_goCopy 99 = .ok (.ireturn, 1) := dk_172 (dk_at dksX4_goCopy_4 6 rfl rfl)
abbrev cX4_least : ByteArray := prog_9_method_25_code
def yX4_least : MethodName := ⟨RX4, "least", "(I)I"⟩
def dkwX4_least_0 : List UInt8 := [42, 180, 0, 25, 16, 12, 27, 96, 46, 116, 172]
abbrev dktX4_least_0 : List UInt8 := dkwX4_least_0 ++ []
theorem dksX4_least_0 : cX4_least.data.toList.drop 0 = dktX4_least_0 := by decide +kernel
theorem dX4_least_0 : decode cX4_least 0 = .ok (.aload_n 0, 1) := dk_42 (dk_at dksX4_least_0 0 rfl rfl)
theorem dX4_least_1 : decode cX4_least 1 = .ok (.getfield 25, 3) := dk_180 0 25 (dk_at dksX4_least_0 1 rfl rfl)
theorem dX4_least_4 : decode cX4_least 4 = .ok (.bipush 12, 2) := dk_16 12 (dk_at dksX4_least_0 4 rfl rfl)
theorem dX4_least_6 : decode cX4_least 6 = .ok (.iload_n 1, 1) := dk_27 (dk_at dksX4_least_0 6 rfl rfl)
theorem dX4_least_7 : decode cX4_least 7 = .ok (.iadd, 1) := dk_96 (dk_at dksX4_least_0 7 rfl rfl)
theorem dX4_least_8 : decode cX4_least 8 = .ok (.iaload, 1) := dk_46 (dk_at dksX4_least_0 8 rfl rfl)
theorem dX4_least_9 : decode cX4_least 9 = .ok (.ineg, 1) := dk_116 (dk_at dksX4_least_0 9 rfl rfl)
theorem dX4_least_10 : decode cX4_least 10 = .ok (.ireturn, 1) := dk_172 (dk_at dksX4_least_0 10 rfl rfl)
abbrev cX4_shift : ByteArray := prog_9_method_50_code
def yX4_shift : MethodName := ⟨RX4, "shift", "(II)I"⟩
def dkwX4_shift_0 : List UInt8 := [42, 182, 0, 127, 42, 42, 27, 28, 182, 0, 161, 182, 0, 134, 172]
abbrev dktX4_shift_0 : List UInt8 := dkwX4_shift_0 ++ []
theorem dksX4_shift_0 : cX4_shift.data.toList.drop 0 = dktX4_shift_0 := by decide +kernel
theorem dX4_shift_0 : decode cX4_shift 0 = .ok (.aload_n 0, 1) := dk_42 (dk_at dksX4_shift_0 0 rfl rfl)
theorem dX4_shift_1 : decode cX4_shift 1 = .ok (.invokevirtual 127, 3) := dk_182 0 127 (dk_at dksX4_shift_0 1 rfl rfl)
theorem dX4_shift_4 : decode cX4_shift 4 = .ok (.aload_n 0, 1) := dk_42 (dk_at dksX4_shift_0 4 rfl rfl)
theorem dX4_shift_5 : decode cX4_shift 5 = .ok (.aload_n 0, 1) := dk_42 (dk_at dksX4_shift_0 5 rfl rfl)
theorem dX4_shift_6 : decode cX4_shift 6 = .ok (.iload_n 1, 1) := dk_27 (dk_at dksX4_shift_0 6 rfl rfl)
theorem dX4_shift_7 : decode cX4_shift 7 = .ok (.iload_n 2, 1) := dk_28 (dk_at dksX4_shift_0 7 rfl rfl)
theorem dX4_shift_8 : decode cX4_shift 8 = .ok (.invokevirtual 161, 3) := dk_182 0 161 (dk_at dksX4_shift_0 8 rfl rfl)
theorem dX4_shift_11 : decode cX4_shift 11 = .ok (.invokevirtual 134, 3) := dk_182 0 134 (dk_at dksX4_shift_0 11 rfl rfl)
theorem dX4_shift_14 : decode cX4_shift 14 = .ok (.ireturn, 1) := dk_172 (dk_at dksX4_shift_0 14 rfl rfl)
abbrev cX4_goShift : ByteArray := prog_9_method_37_code
def yX4_goShift : MethodName := ⟨RX4, "goShift", "(II)I"⟩
def dkwX4_goShift_4 : List UInt8 := [167, 255, 194, 42, 42, 27, 182, 0, 124, 182, 0, 115, 172]
abbrev dktX4_goShift_4 : List UInt8 := dkwX4_goShift_4 ++ []
def dkwX4_goShift_3 : List UInt8 := [104, 27, 96, 42, 180, 0, 25, 7, 29, 104, 27, 96, 46, 28, 116, 184, 0, 68, 79, 132, 3, 1]
abbrev dktX4_goShift_3 : List UInt8 := dkwX4_goShift_3 ++ dktX4_goShift_4
def dkwX4_goShift_2 : List UInt8 := [104, 29, 96, 42, 180, 0, 25, 7, 27, 104, 29, 96, 46, 28, 184, 0, 68, 79, 42, 180, 0, 25, 7, 29]
abbrev dktX4_goShift_2 : List UInt8 := dkwX4_goShift_2 ++ dktX4_goShift_3
def dkwX4_goShift_1 : List UInt8 := [154, 0, 6, 16, 244, 172, 3, 62, 29, 7, 162, 0, 63, 29, 27, 159, 0, 52, 42, 180, 0, 25, 7, 27]
abbrev dktX4_goShift_1 : List UInt8 := dkwX4_goShift_1 ++ dktX4_goShift_2
def dkwX4_goShift_0 : List UInt8 := [27, 184, 0, 104, 153, 0, 13, 28, 4, 16, 9, 184, 0, 92, 154, 0, 6, 16, 245, 172, 42, 182, 0, 82]
abbrev dktX4_goShift_0 : List UInt8 := dkwX4_goShift_0 ++ dktX4_goShift_1
theorem dksX4_goShift_0 : cX4_goShift.data.toList.drop 0 = dktX4_goShift_0 := by decide +kernel
theorem dksX4_goShift_1 : cX4_goShift.data.toList.drop 24 = dktX4_goShift_1 := dk_seg dksX4_goShift_0 24 rfl rfl
theorem dksX4_goShift_2 : cX4_goShift.data.toList.drop 48 = dktX4_goShift_2 := dk_seg dksX4_goShift_1 24 rfl rfl
theorem dksX4_goShift_3 : cX4_goShift.data.toList.drop 72 = dktX4_goShift_3 := dk_seg dksX4_goShift_2 24 rfl rfl
theorem dksX4_goShift_4 : cX4_goShift.data.toList.drop 94 = dktX4_goShift_4 := dk_seg dksX4_goShift_3 22 rfl rfl
theorem dX4_goShift_0 : decode cX4_goShift 0 = .ok (.iload_n 1, 1) := dk_27 (dk_at dksX4_goShift_0 0 rfl rfl)
theorem dX4_goShift_1 : decode cX4_goShift 1 = .ok (.invokestatic 104, 3) := dk_184 0 104 (dk_at dksX4_goShift_0 1 rfl rfl)
theorem dX4_goShift_4 : decode cX4_goShift 4 = .ok (.ifCond .eq 13, 3) := dk_153 0 13 (dk_at dksX4_goShift_0 4 rfl rfl)
theorem dX4_goShift_7 : decode cX4_goShift 7 = .ok (.iload_n 2, 1) := dk_28 (dk_at dksX4_goShift_0 7 rfl rfl)
theorem dX4_goShift_8 : decode cX4_goShift 8 = .ok (.iconst 1, 1) := dk_4 (dk_at dksX4_goShift_0 8 rfl rfl)
theorem dX4_goShift_9 : decode cX4_goShift 9 = .ok (.bipush 9, 2) := dk_16 9 (dk_at dksX4_goShift_0 9 rfl rfl)
theorem dX4_goShift_11 : decode cX4_goShift 11 = .ok (.invokestatic 92, 3) := dk_184 0 92 (dk_at dksX4_goShift_0 11 rfl rfl)
theorem dX4_goShift_14 : decode cX4_goShift 14 = .ok (.ifCond .ne 6, 3) := dk_154 0 6 (dk_at dksX4_goShift_0 14 rfl rfl)
theorem dX4_goShift_17 : decode cX4_goShift 17 = .ok (.bipush (-11), 2) := dk_16 245 (dk_at dksX4_goShift_0 17 rfl rfl)
theorem dX4_goShift_19 : decode cX4_goShift 19 = .ok (.ireturn, 1) := dk_172 (dk_at dksX4_goShift_0 19 rfl rfl)
theorem dX4_goShift_20 : decode cX4_goShift 20 = .ok (.aload_n 0, 1) := dk_42 (dk_at dksX4_goShift_0 20 rfl rfl)
theorem dX4_goShift_21 : decode cX4_goShift 21 = .ok (.invokevirtual 82, 3) := dk_182 0 82 (dk_at dksX4_goShift_0 21 rfl rfl)
theorem dX4_goShift_24 : decode cX4_goShift 24 = .ok (.ifCond .ne 6, 3) := dk_154 0 6 (dk_at dksX4_goShift_1 0 rfl rfl)
theorem dX4_goShift_27 : decode cX4_goShift 27 = .ok (.bipush (-12), 2) := dk_16 244 (dk_at dksX4_goShift_1 3 rfl rfl)
theorem dX4_goShift_29 : decode cX4_goShift 29 = .ok (.ireturn, 1) := dk_172 (dk_at dksX4_goShift_1 5 rfl rfl)
theorem dX4_goShift_30 : decode cX4_goShift 30 = .ok (.iconst 0, 1) := dk_3 (dk_at dksX4_goShift_1 6 rfl rfl)
theorem dX4_goShift_31 : decode cX4_goShift 31 = .ok (.istore_n 3, 1) := dk_62 (dk_at dksX4_goShift_1 7 rfl rfl)
theorem dX4_goShift_32 : decode cX4_goShift 32 = .ok (.iload_n 3, 1) := dk_29 (dk_at dksX4_goShift_1 8 rfl rfl)
theorem dX4_goShift_33 : decode cX4_goShift 33 = .ok (.iconst 4, 1) := dk_7 (dk_at dksX4_goShift_1 9 rfl rfl)
theorem dX4_goShift_34 : decode cX4_goShift 34 = .ok (.if_icmp .ge 63, 3) := dk_162 0 63 (dk_at dksX4_goShift_1 10 rfl rfl)
theorem dX4_goShift_37 : decode cX4_goShift 37 = .ok (.iload_n 3, 1) := dk_29 (dk_at dksX4_goShift_1 13 rfl rfl)
theorem dX4_goShift_38 : decode cX4_goShift 38 = .ok (.iload_n 1, 1) := dk_27 (dk_at dksX4_goShift_1 14 rfl rfl)
theorem dX4_goShift_39 : decode cX4_goShift 39 = .ok (.if_icmp .eq 52, 3) := dk_159 0 52 (dk_at dksX4_goShift_1 15 rfl rfl)
theorem dX4_goShift_42 : decode cX4_goShift 42 = .ok (.aload_n 0, 1) := dk_42 (dk_at dksX4_goShift_1 18 rfl rfl)
theorem dX4_goShift_43 : decode cX4_goShift 43 = .ok (.getfield 25, 3) := dk_180 0 25 (dk_at dksX4_goShift_1 19 rfl rfl)
theorem dX4_goShift_46 : decode cX4_goShift 46 = .ok (.iconst 4, 1) := dk_7 (dk_at dksX4_goShift_1 22 rfl rfl)
theorem dX4_goShift_47 : decode cX4_goShift 47 = .ok (.iload_n 1, 1) := dk_27 (dk_at dksX4_goShift_1 23 rfl rfl)
theorem dX4_goShift_48 : decode cX4_goShift 48 = .ok (.imul, 1) := dk_104 (dk_at dksX4_goShift_2 0 rfl rfl)
theorem dX4_goShift_49 : decode cX4_goShift 49 = .ok (.iload_n 3, 1) := dk_29 (dk_at dksX4_goShift_2 1 rfl rfl)
theorem dX4_goShift_50 : decode cX4_goShift 50 = .ok (.iadd, 1) := dk_96 (dk_at dksX4_goShift_2 2 rfl rfl)
theorem dX4_goShift_51 : decode cX4_goShift 51 = .ok (.aload_n 0, 1) := dk_42 (dk_at dksX4_goShift_2 3 rfl rfl)
theorem dX4_goShift_52 : decode cX4_goShift 52 = .ok (.getfield 25, 3) := dk_180 0 25 (dk_at dksX4_goShift_2 4 rfl rfl)
theorem dX4_goShift_55 : decode cX4_goShift 55 = .ok (.iconst 4, 1) := dk_7 (dk_at dksX4_goShift_2 7 rfl rfl)
theorem dX4_goShift_56 : decode cX4_goShift 56 = .ok (.iload_n 1, 1) := dk_27 (dk_at dksX4_goShift_2 8 rfl rfl)
theorem dX4_goShift_57 : decode cX4_goShift 57 = .ok (.imul, 1) := dk_104 (dk_at dksX4_goShift_2 9 rfl rfl)
theorem dX4_goShift_58 : decode cX4_goShift 58 = .ok (.iload_n 3, 1) := dk_29 (dk_at dksX4_goShift_2 10 rfl rfl)
theorem dX4_goShift_59 : decode cX4_goShift 59 = .ok (.iadd, 1) := dk_96 (dk_at dksX4_goShift_2 11 rfl rfl)
theorem dX4_goShift_60 : decode cX4_goShift 60 = .ok (.iaload, 1) := dk_46 (dk_at dksX4_goShift_2 12 rfl rfl)
theorem dX4_goShift_61 : decode cX4_goShift 61 = .ok (.iload_n 2, 1) := dk_28 (dk_at dksX4_goShift_2 13 rfl rfl)
theorem dX4_goShift_62 : decode cX4_goShift 62 = .ok (.invokestatic 68, 3) := dk_184 0 68 (dk_at dksX4_goShift_2 14 rfl rfl)
theorem dX4_goShift_65 : decode cX4_goShift 65 = .ok (.iastore, 1) := dk_79 (dk_at dksX4_goShift_2 17 rfl rfl)
theorem dX4_goShift_66 : decode cX4_goShift 66 = .ok (.aload_n 0, 1) := dk_42 (dk_at dksX4_goShift_2 18 rfl rfl)
theorem dX4_goShift_67 : decode cX4_goShift 67 = .ok (.getfield 25, 3) := dk_180 0 25 (dk_at dksX4_goShift_2 19 rfl rfl)
theorem dX4_goShift_70 : decode cX4_goShift 70 = .ok (.iconst 4, 1) := dk_7 (dk_at dksX4_goShift_2 22 rfl rfl)
theorem dX4_goShift_71 : decode cX4_goShift 71 = .ok (.iload_n 3, 1) := dk_29 (dk_at dksX4_goShift_2 23 rfl rfl)
theorem dX4_goShift_72 : decode cX4_goShift 72 = .ok (.imul, 1) := dk_104 (dk_at dksX4_goShift_3 0 rfl rfl)
theorem dX4_goShift_73 : decode cX4_goShift 73 = .ok (.iload_n 1, 1) := dk_27 (dk_at dksX4_goShift_3 1 rfl rfl)
theorem dX4_goShift_74 : decode cX4_goShift 74 = .ok (.iadd, 1) := dk_96 (dk_at dksX4_goShift_3 2 rfl rfl)
theorem dX4_goShift_75 : decode cX4_goShift 75 = .ok (.aload_n 0, 1) := dk_42 (dk_at dksX4_goShift_3 3 rfl rfl)
theorem dX4_goShift_76 : decode cX4_goShift 76 = .ok (.getfield 25, 3) := dk_180 0 25 (dk_at dksX4_goShift_3 4 rfl rfl)
theorem dX4_goShift_79 : decode cX4_goShift 79 = .ok (.iconst 4, 1) := dk_7 (dk_at dksX4_goShift_3 7 rfl rfl)
theorem dX4_goShift_80 : decode cX4_goShift 80 = .ok (.iload_n 3, 1) := dk_29 (dk_at dksX4_goShift_3 8 rfl rfl)
theorem dX4_goShift_81 : decode cX4_goShift 81 = .ok (.imul, 1) := dk_104 (dk_at dksX4_goShift_3 9 rfl rfl)
theorem dX4_goShift_82 : decode cX4_goShift 82 = .ok (.iload_n 1, 1) := dk_27 (dk_at dksX4_goShift_3 10 rfl rfl)
theorem dX4_goShift_83 : decode cX4_goShift 83 = .ok (.iadd, 1) := dk_96 (dk_at dksX4_goShift_3 11 rfl rfl)
theorem dX4_goShift_84 : decode cX4_goShift 84 = .ok (.iaload, 1) := dk_46 (dk_at dksX4_goShift_3 12 rfl rfl)
theorem dX4_goShift_85 : decode cX4_goShift 85 = .ok (.iload_n 2, 1) := dk_28 (dk_at dksX4_goShift_3 13 rfl rfl)
theorem dX4_goShift_86 : decode cX4_goShift 86 = .ok (.ineg, 1) := dk_116 (dk_at dksX4_goShift_3 14 rfl rfl)
theorem dX4_goShift_87 : decode cX4_goShift 87 = .ok (.invokestatic 68, 3) := dk_184 0 68 (dk_at dksX4_goShift_3 15 rfl rfl)
theorem dX4_goShift_90 : decode cX4_goShift 90 = .ok (.iastore, 1) := dk_79 (dk_at dksX4_goShift_3 18 rfl rfl)
theorem dX4_goShift_91 : decode cX4_goShift 91 = .ok (.iinc 3 1, 3) := dk_132 3 1 (dk_at dksX4_goShift_3 19 rfl rfl)
theorem dX4_goShift_94 : decode cX4_goShift 94 = .ok (.goto (-62), 3) := dk_167 255 194 (dk_at dksX4_goShift_4 0 rfl rfl)
theorem dX4_goShift_97 : decode cX4_goShift 97 = .ok (.aload_n 0, 1) := dk_42 (dk_at dksX4_goShift_4 3 rfl rfl)
theorem dX4_goShift_98 : decode cX4_goShift 98 = .ok (.aload_n 0, 1) := dk_42 (dk_at dksX4_goShift_4 4 rfl rfl)
theorem dX4_goShift_99 : decode cX4_goShift 99 = .ok (.iload_n 1, 1) := dk_27 (dk_at dksX4_goShift_4 5 rfl rfl)
theorem dX4_goShift_100 : decode cX4_goShift 100 = .ok (.invokevirtual 124, 3) := dk_182 0 124 (dk_at dksX4_goShift_4 6 rfl rfl)
theorem dX4_goShift_103 : decode cX4_goShift 103 = .ok (.invokevirtual 115, 3) := dk_182 0 115 (dk_at dksX4_goShift_4 9 rfl rfl)
theorem dX4_goShift_106 : decode cX4_goShift 106 = .ok (.ireturn, 1) := dk_172 (dk_at dksX4_goShift_4 12 rfl rfl)
abbrev cX4_store : ByteArray := prog_9_method_51_code
def yX4_store : MethodName := ⟨RX4, "store", "(I)Z"⟩
def dkwX4_store_3 : List UInt8 := [160, 0, 7, 4, 167, 0, 4, 3, 172]
abbrev dktX4_store_3 : List UInt8 := dkwX4_store_3 ++ []
def dkwX4_store_2 : List UInt8 := [180, 0, 7, 3, 42, 180, 0, 7, 16, 16, 16, 16, 27, 104, 96, 184, 0, 75, 42, 28, 182, 0, 134, 4]
abbrev dktX4_store_2 : List UInt8 := dkwX4_store_2 ++ dktX4_store_3
def dkwX4_store_1 : List UInt8 := [3, 172, 42, 180, 0, 7, 16, 80, 27, 96, 46, 61, 42, 180, 0, 7, 16, 80, 27, 96, 4, 79, 42]
abbrev dktX4_store_1 : List UInt8 := dkwX4_store_1 ++ dktX4_store_2
def dkwX4_store_0 : List UInt8 := [42, 182, 0, 127, 27, 184, 0, 164, 154, 0, 18, 42, 4, 182, 0, 60, 4, 160, 0, 7, 4, 167, 0, 4]
abbrev dktX4_store_0 : List UInt8 := dkwX4_store_0 ++ dktX4_store_1
theorem dksX4_store_0 : cX4_store.data.toList.drop 0 = dktX4_store_0 := by decide +kernel
theorem dksX4_store_1 : cX4_store.data.toList.drop 24 = dktX4_store_1 := dk_seg dksX4_store_0 24 rfl rfl
theorem dksX4_store_2 : cX4_store.data.toList.drop 47 = dktX4_store_2 := dk_seg dksX4_store_1 23 rfl rfl
theorem dksX4_store_3 : cX4_store.data.toList.drop 71 = dktX4_store_3 := dk_seg dksX4_store_2 24 rfl rfl
theorem dX4_store_0 : decode cX4_store 0 = .ok (.aload_n 0, 1) := dk_42 (dk_at dksX4_store_0 0 rfl rfl)
theorem dX4_store_1 : decode cX4_store 1 = .ok (.invokevirtual 127, 3) := dk_182 0 127 (dk_at dksX4_store_0 1 rfl rfl)
theorem dX4_store_4 : decode cX4_store 4 = .ok (.iload_n 1, 1) := dk_27 (dk_at dksX4_store_0 4 rfl rfl)
theorem dX4_store_5 : decode cX4_store 5 = .ok (.invokestatic 164, 3) := dk_184 0 164 (dk_at dksX4_store_0 5 rfl rfl)
theorem dX4_store_8 : decode cX4_store 8 = .ok (.ifCond .ne 18, 3) := dk_154 0 18 (dk_at dksX4_store_0 8 rfl rfl)
theorem dX4_store_11 : decode cX4_store 11 = .ok (.aload_n 0, 1) := dk_42 (dk_at dksX4_store_0 11 rfl rfl)
theorem dX4_store_12 : decode cX4_store 12 = .ok (.iconst 1, 1) := dk_4 (dk_at dksX4_store_0 12 rfl rfl)
theorem dX4_store_13 : decode cX4_store 13 = .ok (.invokevirtual 60, 3) := dk_182 0 60 (dk_at dksX4_store_0 13 rfl rfl)
theorem dX4_store_16 : decode cX4_store 16 = .ok (.iconst 1, 1) := dk_4 (dk_at dksX4_store_0 16 rfl rfl)
theorem dX4_store_17 : decode cX4_store 17 = .ok (.if_icmp .ne 7, 3) := dk_160 0 7 (dk_at dksX4_store_0 17 rfl rfl)
theorem dX4_store_20 : decode cX4_store 20 = .ok (.iconst 1, 1) := dk_4 (dk_at dksX4_store_0 20 rfl rfl)
theorem dX4_store_21 : decode cX4_store 21 = .ok (.goto 4, 3) := dk_167 0 4 (dk_at dksX4_store_0 21 rfl rfl)
theorem dX4_store_24 : decode cX4_store 24 = .ok (.iconst 0, 1) := dk_3 (dk_at dksX4_store_1 0 rfl rfl)
theorem dX4_store_25 : decode cX4_store 25 = .ok (.ireturn, 1) := dk_172 (dk_at dksX4_store_1 1 rfl rfl)
theorem dX4_store_26 : decode cX4_store 26 = .ok (.aload_n 0, 1) := dk_42 (dk_at dksX4_store_1 2 rfl rfl)
theorem dX4_store_27 : decode cX4_store 27 = .ok (.getfield 7, 3) := dk_180 0 7 (dk_at dksX4_store_1 3 rfl rfl)
theorem dX4_store_30 : decode cX4_store 30 = .ok (.bipush 80, 2) := dk_16 80 (dk_at dksX4_store_1 6 rfl rfl)
theorem dX4_store_32 : decode cX4_store 32 = .ok (.iload_n 1, 1) := dk_27 (dk_at dksX4_store_1 8 rfl rfl)
theorem dX4_store_33 : decode cX4_store 33 = .ok (.iadd, 1) := dk_96 (dk_at dksX4_store_1 9 rfl rfl)
theorem dX4_store_34 : decode cX4_store 34 = .ok (.iaload, 1) := dk_46 (dk_at dksX4_store_1 10 rfl rfl)
theorem dX4_store_35 : decode cX4_store 35 = .ok (.istore_n 2, 1) := dk_61 (dk_at dksX4_store_1 11 rfl rfl)
theorem dX4_store_36 : decode cX4_store 36 = .ok (.aload_n 0, 1) := dk_42 (dk_at dksX4_store_1 12 rfl rfl)
theorem dX4_store_37 : decode cX4_store 37 = .ok (.getfield 7, 3) := dk_180 0 7 (dk_at dksX4_store_1 13 rfl rfl)
theorem dX4_store_40 : decode cX4_store 40 = .ok (.bipush 80, 2) := dk_16 80 (dk_at dksX4_store_1 16 rfl rfl)
theorem dX4_store_42 : decode cX4_store 42 = .ok (.iload_n 1, 1) := dk_27 (dk_at dksX4_store_1 18 rfl rfl)
theorem dX4_store_43 : decode cX4_store 43 = .ok (.iadd, 1) := dk_96 (dk_at dksX4_store_1 19 rfl rfl)
theorem dX4_store_44 : decode cX4_store 44 = .ok (.iconst 1, 1) := dk_4 (dk_at dksX4_store_1 20 rfl rfl)
theorem dX4_store_45 : decode cX4_store 45 = .ok (.iastore, 1) := dk_79 (dk_at dksX4_store_1 21 rfl rfl)
theorem dX4_store_46 : decode cX4_store 46 = .ok (.aload_n 0, 1) := dk_42 (dk_at dksX4_store_1 22 rfl rfl)
theorem dX4_store_47 : decode cX4_store 47 = .ok (.getfield 7, 3) := dk_180 0 7 (dk_at dksX4_store_2 0 rfl rfl)
theorem dX4_store_50 : decode cX4_store 50 = .ok (.iconst 0, 1) := dk_3 (dk_at dksX4_store_2 3 rfl rfl)
theorem dX4_store_51 : decode cX4_store 51 = .ok (.aload_n 0, 1) := dk_42 (dk_at dksX4_store_2 4 rfl rfl)
theorem dX4_store_52 : decode cX4_store 52 = .ok (.getfield 7, 3) := dk_180 0 7 (dk_at dksX4_store_2 5 rfl rfl)
theorem dX4_store_55 : decode cX4_store 55 = .ok (.bipush 16, 2) := dk_16 16 (dk_at dksX4_store_2 8 rfl rfl)
theorem dX4_store_57 : decode cX4_store 57 = .ok (.bipush 16, 2) := dk_16 16 (dk_at dksX4_store_2 10 rfl rfl)
theorem dX4_store_59 : decode cX4_store 59 = .ok (.iload_n 1, 1) := dk_27 (dk_at dksX4_store_2 12 rfl rfl)
theorem dX4_store_60 : decode cX4_store 60 = .ok (.imul, 1) := dk_104 (dk_at dksX4_store_2 13 rfl rfl)
theorem dX4_store_61 : decode cX4_store 61 = .ok (.iadd, 1) := dk_96 (dk_at dksX4_store_2 14 rfl rfl)
theorem dX4_store_62 : decode cX4_store 62 = .ok (.invokestatic 75, 3) := dk_184 0 75 (dk_at dksX4_store_2 15 rfl rfl)
theorem dX4_store_65 : decode cX4_store 65 = .ok (.aload_n 0, 1) := dk_42 (dk_at dksX4_store_2 18 rfl rfl)
theorem dX4_store_66 : decode cX4_store 66 = .ok (.iload_n 2, 1) := dk_28 (dk_at dksX4_store_2 19 rfl rfl)
theorem dX4_store_67 : decode cX4_store 67 = .ok (.invokevirtual 134, 3) := dk_182 0 134 (dk_at dksX4_store_2 20 rfl rfl)
theorem dX4_store_70 : decode cX4_store 70 = .ok (.iconst 1, 1) := dk_4 (dk_at dksX4_store_2 23 rfl rfl)
theorem dX4_store_71 : decode cX4_store 71 = .ok (.if_icmp .ne 7, 3) := dk_160 0 7 (dk_at dksX4_store_3 0 rfl rfl)
theorem dX4_store_74 : decode cX4_store 74 = .ok (.iconst 1, 1) := dk_4 (dk_at dksX4_store_3 3 rfl rfl)
theorem dX4_store_75 : decode cX4_store 75 = .ok (.goto 4, 3) := dk_167 0 4 (dk_at dksX4_store_3 4 rfl rfl)
theorem dX4_store_78 : decode cX4_store 78 = .ok (.iconst 0, 1) := dk_3 (dk_at dksX4_store_3 7 rfl rfl)
theorem dX4_store_79 : decode cX4_store 79 = .ok (.ireturn, 1) := dk_172 (dk_at dksX4_store_3 8 rfl rfl)
abbrev cX4_isSlot : ByteArray := prog_9_method_38_code
def yX4_isSlot : MethodName := ⟨RX4, "isSlot", "(I)Z"⟩
def dkwX4_isSlot_0 : List UInt8 := [26, 3, 6, 184, 0, 92, 172]
abbrev dktX4_isSlot_0 : List UInt8 := dkwX4_isSlot_0 ++ []
theorem dksX4_isSlot_0 : cX4_isSlot.data.toList.drop 0 = dktX4_isSlot_0 := by decide +kernel
theorem dX4_isSlot_0 : decode cX4_isSlot 0 = .ok (.iload_n 0, 1) := dk_26 (dk_at dksX4_isSlot_0 0 rfl rfl)
theorem dX4_isSlot_1 : decode cX4_isSlot 1 = .ok (.iconst 0, 1) := dk_3 (dk_at dksX4_isSlot_0 1 rfl rfl)
theorem dX4_isSlot_2 : decode cX4_isSlot 2 = .ok (.iconst 3, 1) := dk_6 (dk_at dksX4_isSlot_0 2 rfl rfl)
theorem dX4_isSlot_3 : decode cX4_isSlot 3 = .ok (.invokestatic 92, 3) := dk_184 0 92 (dk_at dksX4_isSlot_0 3 rfl rfl)
theorem dX4_isSlot_6 : decode cX4_isSlot 6 = .ok (.ireturn, 1) := dk_172 (dk_at dksX4_isSlot_0 6 rfl rfl)
abbrev cX4_meet : ByteArray := prog_9_method_52_code
def yX4_meet : MethodName := ⟨RX4, "meet", "(I)I"⟩
def dkwX4_meet_4 : List UInt8 := [182, 0, 100, 182, 0, 134, 172]
abbrev dktX4_meet_4 : List UInt8 := dkwX4_meet_4 ++ []
def dkwX4_meet_3 : List UInt8 := [184, 0, 72, 79, 132, 2, 1, 167, 255, 214, 42, 42, 182, 0, 86, 153, 0, 8, 16, 244, 167, 0, 7, 42]
abbrev dktX4_meet_3 : List UInt8 := dkwX4_meet_3 ++ dktX4_meet_4
def dkwX4_meet_2 : List UInt8 := [42, 180, 0, 7, 3, 28, 96, 46, 42, 180, 0, 7, 16, 16, 16, 16, 27, 104, 96, 28, 96, 46]
abbrev dktX4_meet_2 : List UInt8 := dkwX4_meet_2 ++ dktX4_meet_3
def dkwX4_meet_1 : List UInt8 := [154, 0, 9, 42, 5, 182, 0, 60, 172, 3, 61, 28, 16, 16, 162, 0, 42, 42, 180, 0, 7, 3, 28, 96]
abbrev dktX4_meet_1 : List UInt8 := dkwX4_meet_1 ++ dktX4_meet_2
def dkwX4_meet_0 : List UInt8 := [42, 182, 0, 127, 27, 184, 0, 164, 154, 0, 9, 42, 4, 182, 0, 60, 172, 42, 27, 182, 0, 167]
abbrev dktX4_meet_0 : List UInt8 := dkwX4_meet_0 ++ dktX4_meet_1
theorem dksX4_meet_0 : cX4_meet.data.toList.drop 0 = dktX4_meet_0 := by decide +kernel
theorem dksX4_meet_1 : cX4_meet.data.toList.drop 22 = dktX4_meet_1 := dk_seg dksX4_meet_0 22 rfl rfl
theorem dksX4_meet_2 : cX4_meet.data.toList.drop 46 = dktX4_meet_2 := dk_seg dksX4_meet_1 24 rfl rfl
theorem dksX4_meet_3 : cX4_meet.data.toList.drop 68 = dktX4_meet_3 := dk_seg dksX4_meet_2 22 rfl rfl
theorem dksX4_meet_4 : cX4_meet.data.toList.drop 92 = dktX4_meet_4 := dk_seg dksX4_meet_3 24 rfl rfl
theorem dX4_meet_0 : decode cX4_meet 0 = .ok (.aload_n 0, 1) := dk_42 (dk_at dksX4_meet_0 0 rfl rfl)
theorem dX4_meet_1 : decode cX4_meet 1 = .ok (.invokevirtual 127, 3) := dk_182 0 127 (dk_at dksX4_meet_0 1 rfl rfl)
theorem dX4_meet_4 : decode cX4_meet 4 = .ok (.iload_n 1, 1) := dk_27 (dk_at dksX4_meet_0 4 rfl rfl)
theorem dX4_meet_5 : decode cX4_meet 5 = .ok (.invokestatic 164, 3) := dk_184 0 164 (dk_at dksX4_meet_0 5 rfl rfl)
theorem dX4_meet_8 : decode cX4_meet 8 = .ok (.ifCond .ne 9, 3) := dk_154 0 9 (dk_at dksX4_meet_0 8 rfl rfl)
theorem dX4_meet_11 : decode cX4_meet 11 = .ok (.aload_n 0, 1) := dk_42 (dk_at dksX4_meet_0 11 rfl rfl)
theorem dX4_meet_12 : decode cX4_meet 12 = .ok (.iconst 1, 1) := dk_4 (dk_at dksX4_meet_0 12 rfl rfl)
theorem dX4_meet_13 : decode cX4_meet 13 = .ok (.invokevirtual 60, 3) := dk_182 0 60 (dk_at dksX4_meet_0 13 rfl rfl)
theorem dX4_meet_16 : decode cX4_meet 16 = .ok (.ireturn, 1) := dk_172 (dk_at dksX4_meet_0 16 rfl rfl)
theorem dX4_meet_17 : decode cX4_meet 17 = .ok (.aload_n 0, 1) := dk_42 (dk_at dksX4_meet_0 17 rfl rfl)
theorem dX4_meet_18 : decode cX4_meet 18 = .ok (.iload_n 1, 1) := dk_27 (dk_at dksX4_meet_0 18 rfl rfl)
theorem dX4_meet_19 : decode cX4_meet 19 = .ok (.invokevirtual 167, 3) := dk_182 0 167 (dk_at dksX4_meet_0 19 rfl rfl)
theorem dX4_meet_22 : decode cX4_meet 22 = .ok (.ifCond .ne 9, 3) := dk_154 0 9 (dk_at dksX4_meet_1 0 rfl rfl)
theorem dX4_meet_25 : decode cX4_meet 25 = .ok (.aload_n 0, 1) := dk_42 (dk_at dksX4_meet_1 3 rfl rfl)
theorem dX4_meet_26 : decode cX4_meet 26 = .ok (.iconst 2, 1) := dk_5 (dk_at dksX4_meet_1 4 rfl rfl)
theorem dX4_meet_27 : decode cX4_meet 27 = .ok (.invokevirtual 60, 3) := dk_182 0 60 (dk_at dksX4_meet_1 5 rfl rfl)
theorem dX4_meet_30 : decode cX4_meet 30 = .ok (.ireturn, 1) := dk_172 (dk_at dksX4_meet_1 8 rfl rfl)
theorem dX4_meet_31 : decode cX4_meet 31 = .ok (.iconst 0, 1) := dk_3 (dk_at dksX4_meet_1 9 rfl rfl)
theorem dX4_meet_32 : decode cX4_meet 32 = .ok (.istore_n 2, 1) := dk_61 (dk_at dksX4_meet_1 10 rfl rfl)
theorem dX4_meet_33 : decode cX4_meet 33 = .ok (.iload_n 2, 1) := dk_28 (dk_at dksX4_meet_1 11 rfl rfl)
theorem dX4_meet_34 : decode cX4_meet 34 = .ok (.bipush 16, 2) := dk_16 16 (dk_at dksX4_meet_1 12 rfl rfl)
theorem dX4_meet_36 : decode cX4_meet 36 = .ok (.if_icmp .ge 42, 3) := dk_162 0 42 (dk_at dksX4_meet_1 14 rfl rfl)
theorem dX4_meet_39 : decode cX4_meet 39 = .ok (.aload_n 0, 1) := dk_42 (dk_at dksX4_meet_1 17 rfl rfl)
theorem dX4_meet_40 : decode cX4_meet 40 = .ok (.getfield 7, 3) := dk_180 0 7 (dk_at dksX4_meet_1 18 rfl rfl)
theorem dX4_meet_43 : decode cX4_meet 43 = .ok (.iconst 0, 1) := dk_3 (dk_at dksX4_meet_1 21 rfl rfl)
theorem dX4_meet_44 : decode cX4_meet 44 = .ok (.iload_n 2, 1) := dk_28 (dk_at dksX4_meet_1 22 rfl rfl)
theorem dX4_meet_45 : decode cX4_meet 45 = .ok (.iadd, 1) := dk_96 (dk_at dksX4_meet_1 23 rfl rfl)
theorem dX4_meet_46 : decode cX4_meet 46 = .ok (.aload_n 0, 1) := dk_42 (dk_at dksX4_meet_2 0 rfl rfl)
theorem dX4_meet_47 : decode cX4_meet 47 = .ok (.getfield 7, 3) := dk_180 0 7 (dk_at dksX4_meet_2 1 rfl rfl)
theorem dX4_meet_50 : decode cX4_meet 50 = .ok (.iconst 0, 1) := dk_3 (dk_at dksX4_meet_2 4 rfl rfl)
theorem dX4_meet_51 : decode cX4_meet 51 = .ok (.iload_n 2, 1) := dk_28 (dk_at dksX4_meet_2 5 rfl rfl)
theorem dX4_meet_52 : decode cX4_meet 52 = .ok (.iadd, 1) := dk_96 (dk_at dksX4_meet_2 6 rfl rfl)
theorem dX4_meet_53 : decode cX4_meet 53 = .ok (.iaload, 1) := dk_46 (dk_at dksX4_meet_2 7 rfl rfl)
theorem dX4_meet_54 : decode cX4_meet 54 = .ok (.aload_n 0, 1) := dk_42 (dk_at dksX4_meet_2 8 rfl rfl)
theorem dX4_meet_55 : decode cX4_meet 55 = .ok (.getfield 7, 3) := dk_180 0 7 (dk_at dksX4_meet_2 9 rfl rfl)
theorem dX4_meet_58 : decode cX4_meet 58 = .ok (.bipush 16, 2) := dk_16 16 (dk_at dksX4_meet_2 12 rfl rfl)
theorem dX4_meet_60 : decode cX4_meet 60 = .ok (.bipush 16, 2) := dk_16 16 (dk_at dksX4_meet_2 14 rfl rfl)
theorem dX4_meet_62 : decode cX4_meet 62 = .ok (.iload_n 1, 1) := dk_27 (dk_at dksX4_meet_2 16 rfl rfl)
theorem dX4_meet_63 : decode cX4_meet 63 = .ok (.imul, 1) := dk_104 (dk_at dksX4_meet_2 17 rfl rfl)
theorem dX4_meet_64 : decode cX4_meet 64 = .ok (.iadd, 1) := dk_96 (dk_at dksX4_meet_2 18 rfl rfl)
theorem dX4_meet_65 : decode cX4_meet 65 = .ok (.iload_n 2, 1) := dk_28 (dk_at dksX4_meet_2 19 rfl rfl)
theorem dX4_meet_66 : decode cX4_meet 66 = .ok (.iadd, 1) := dk_96 (dk_at dksX4_meet_2 20 rfl rfl)
theorem dX4_meet_67 : decode cX4_meet 67 = .ok (.iaload, 1) := dk_46 (dk_at dksX4_meet_2 21 rfl rfl)
theorem dX4_meet_68 : decode cX4_meet 68 = .ok (.invokestatic 72, 3) := dk_184 0 72 (dk_at dksX4_meet_3 0 rfl rfl)
theorem dX4_meet_71 : decode cX4_meet 71 = .ok (.iastore, 1) := dk_79 (dk_at dksX4_meet_3 3 rfl rfl)
theorem dX4_meet_72 : decode cX4_meet 72 = .ok (.iinc 2 1, 3) := dk_132 2 1 (dk_at dksX4_meet_3 4 rfl rfl)
theorem dX4_meet_75 : decode cX4_meet 75 = .ok (.goto (-42), 3) := dk_167 255 214 (dk_at dksX4_meet_3 7 rfl rfl)
theorem dX4_meet_78 : decode cX4_meet 78 = .ok (.aload_n 0, 1) := dk_42 (dk_at dksX4_meet_3 10 rfl rfl)
theorem dX4_meet_79 : decode cX4_meet 79 = .ok (.aload_n 0, 1) := dk_42 (dk_at dksX4_meet_3 11 rfl rfl)
theorem dX4_meet_80 : decode cX4_meet 80 = .ok (.invokevirtual 86, 3) := dk_182 0 86 (dk_at dksX4_meet_3 12 rfl rfl)
theorem dX4_meet_83 : decode cX4_meet 83 = .ok (.ifCond .eq 8, 3) := dk_153 0 8 (dk_at dksX4_meet_3 15 rfl rfl)
theorem dX4_meet_86 : decode cX4_meet 86 = .ok (.bipush (-12), 2) := dk_16 244 (dk_at dksX4_meet_3 18 rfl rfl)
theorem dX4_meet_88 : decode cX4_meet 88 = .ok (.goto 7, 3) := dk_167 0 7 (dk_at dksX4_meet_3 20 rfl rfl)
theorem dX4_meet_91 : decode cX4_meet 91 = .ok (.aload_n 0, 1) := dk_42 (dk_at dksX4_meet_3 23 rfl rfl)
theorem dX4_meet_92 : decode cX4_meet 92 = .ok (.invokevirtual 100, 3) := dk_182 0 100 (dk_at dksX4_meet_4 0 rfl rfl)
theorem dX4_meet_95 : decode cX4_meet 95 = .ok (.invokevirtual 134, 3) := dk_182 0 134 (dk_at dksX4_meet_4 3 rfl rfl)
theorem dX4_meet_98 : decode cX4_meet 98 = .ok (.ireturn, 1) := dk_172 (dk_at dksX4_meet_4 6 rfl rfl)
abbrev cX4_hasZone : ByteArray := prog_9_method_39_code
def yX4_hasZone : MethodName := ⟨RX4, "hasZone", "(I)Z"⟩
def dkwX4_hasZone_0 : List UInt8 := [42, 180, 0, 7, 16, 80, 27, 96, 46, 4, 160, 0, 7, 4, 167, 0, 4, 3, 172]
abbrev dktX4_hasZone_0 : List UInt8 := dkwX4_hasZone_0 ++ []
theorem dksX4_hasZone_0 : cX4_hasZone.data.toList.drop 0 = dktX4_hasZone_0 := by decide +kernel
theorem dX4_hasZone_0 : decode cX4_hasZone 0 = .ok (.aload_n 0, 1) := dk_42 (dk_at dksX4_hasZone_0 0 rfl rfl)
theorem dX4_hasZone_1 : decode cX4_hasZone 1 = .ok (.getfield 7, 3) := dk_180 0 7 (dk_at dksX4_hasZone_0 1 rfl rfl)
theorem dX4_hasZone_4 : decode cX4_hasZone 4 = .ok (.bipush 80, 2) := dk_16 80 (dk_at dksX4_hasZone_0 4 rfl rfl)
theorem dX4_hasZone_6 : decode cX4_hasZone 6 = .ok (.iload_n 1, 1) := dk_27 (dk_at dksX4_hasZone_0 6 rfl rfl)
theorem dX4_hasZone_7 : decode cX4_hasZone 7 = .ok (.iadd, 1) := dk_96 (dk_at dksX4_hasZone_0 7 rfl rfl)
theorem dX4_hasZone_8 : decode cX4_hasZone 8 = .ok (.iaload, 1) := dk_46 (dk_at dksX4_hasZone_0 8 rfl rfl)
theorem dX4_hasZone_9 : decode cX4_hasZone 9 = .ok (.iconst 1, 1) := dk_4 (dk_at dksX4_hasZone_0 9 rfl rfl)
theorem dX4_hasZone_10 : decode cX4_hasZone 10 = .ok (.if_icmp .ne 7, 3) := dk_160 0 7 (dk_at dksX4_hasZone_0 10 rfl rfl)
theorem dX4_hasZone_13 : decode cX4_hasZone 13 = .ok (.iconst 1, 1) := dk_4 (dk_at dksX4_hasZone_0 13 rfl rfl)
theorem dX4_hasZone_14 : decode cX4_hasZone 14 = .ok (.goto 4, 3) := dk_167 0 4 (dk_at dksX4_hasZone_0 14 rfl rfl)
theorem dX4_hasZone_17 : decode cX4_hasZone 17 = .ok (.iconst 0, 1) := dk_3 (dk_at dksX4_hasZone_0 17 rfl rfl)
theorem dX4_hasZone_18 : decode cX4_hasZone 18 = .ok (.ireturn, 1) := dk_172 (dk_at dksX4_hasZone_0 18 rfl rfl)
abbrev cX4_wrap : ByteArray := prog_9_method_53_code
def yX4_wrap : MethodName := ⟨RX4, "wrap", "(I)I"⟩
def dkwX4_wrap_4 : List UInt8 := [42, 182, 0, 89, 153, 0, 8, 16, 244, 167, 0, 7, 42, 182, 0, 100, 182, 0, 134, 172]
abbrev dktX4_wrap_4 : List UInt8 := dkwX4_wrap_4 ++ []
def dkwX4_wrap_3 : List UInt8 := [96, 42, 180, 0, 25, 29, 46, 42, 180, 0, 28, 29, 46, 184, 0, 173, 79, 132, 3, 1, 167, 255, 224, 42]
abbrev dktX4_wrap_3 : List UInt8 := dkwX4_wrap_3 ++ dktX4_wrap_4
def dkwX4_wrap_2 : List UInt8 := [28, 154, 0, 9, 42, 5, 182, 0, 60, 172, 3, 62, 29, 16, 16, 162, 0, 32, 42, 180, 0, 7, 3, 29]
abbrev dktX4_wrap_2 : List UInt8 := dkwX4_wrap_2 ++ dktX4_wrap_3
def dkwX4_wrap_1 : List UInt8 := [153, 0, 22, 42, 182, 0, 82, 153, 0, 15, 42, 27, 182, 0, 170, 153, 0, 7, 4, 167, 0, 4, 3, 61]
abbrev dktX4_wrap_1 : List UInt8 := dkwX4_wrap_1 ++ dktX4_wrap_2
def dkwX4_wrap_0 : List UInt8 := [42, 182, 0, 127, 27, 184, 0, 164, 154, 0, 9, 42, 4, 182, 0, 60, 172, 42, 27, 182, 0, 167]
abbrev dktX4_wrap_0 : List UInt8 := dkwX4_wrap_0 ++ dktX4_wrap_1
theorem dksX4_wrap_0 : cX4_wrap.data.toList.drop 0 = dktX4_wrap_0 := by decide +kernel
theorem dksX4_wrap_1 : cX4_wrap.data.toList.drop 22 = dktX4_wrap_1 := dk_seg dksX4_wrap_0 22 rfl rfl
theorem dksX4_wrap_2 : cX4_wrap.data.toList.drop 46 = dktX4_wrap_2 := dk_seg dksX4_wrap_1 24 rfl rfl
theorem dksX4_wrap_3 : cX4_wrap.data.toList.drop 70 = dktX4_wrap_3 := dk_seg dksX4_wrap_2 24 rfl rfl
theorem dksX4_wrap_4 : cX4_wrap.data.toList.drop 94 = dktX4_wrap_4 := dk_seg dksX4_wrap_3 24 rfl rfl
theorem dX4_wrap_0 : decode cX4_wrap 0 = .ok (.aload_n 0, 1) := dk_42 (dk_at dksX4_wrap_0 0 rfl rfl)
theorem dX4_wrap_1 : decode cX4_wrap 1 = .ok (.invokevirtual 127, 3) := dk_182 0 127 (dk_at dksX4_wrap_0 1 rfl rfl)
theorem dX4_wrap_4 : decode cX4_wrap 4 = .ok (.iload_n 1, 1) := dk_27 (dk_at dksX4_wrap_0 4 rfl rfl)
theorem dX4_wrap_5 : decode cX4_wrap 5 = .ok (.invokestatic 164, 3) := dk_184 0 164 (dk_at dksX4_wrap_0 5 rfl rfl)
theorem dX4_wrap_8 : decode cX4_wrap 8 = .ok (.ifCond .ne 9, 3) := dk_154 0 9 (dk_at dksX4_wrap_0 8 rfl rfl)
theorem dX4_wrap_11 : decode cX4_wrap 11 = .ok (.aload_n 0, 1) := dk_42 (dk_at dksX4_wrap_0 11 rfl rfl)
theorem dX4_wrap_12 : decode cX4_wrap 12 = .ok (.iconst 1, 1) := dk_4 (dk_at dksX4_wrap_0 12 rfl rfl)
theorem dX4_wrap_13 : decode cX4_wrap 13 = .ok (.invokevirtual 60, 3) := dk_182 0 60 (dk_at dksX4_wrap_0 13 rfl rfl)
theorem dX4_wrap_16 : decode cX4_wrap 16 = .ok (.ireturn, 1) := dk_172 (dk_at dksX4_wrap_0 16 rfl rfl)
theorem dX4_wrap_17 : decode cX4_wrap 17 = .ok (.aload_n 0, 1) := dk_42 (dk_at dksX4_wrap_0 17 rfl rfl)
theorem dX4_wrap_18 : decode cX4_wrap 18 = .ok (.iload_n 1, 1) := dk_27 (dk_at dksX4_wrap_0 18 rfl rfl)
theorem dX4_wrap_19 : decode cX4_wrap 19 = .ok (.invokevirtual 167, 3) := dk_182 0 167 (dk_at dksX4_wrap_0 19 rfl rfl)
theorem dX4_wrap_22 : decode cX4_wrap 22 = .ok (.ifCond .eq 22, 3) := dk_153 0 22 (dk_at dksX4_wrap_1 0 rfl rfl)
theorem dX4_wrap_25 : decode cX4_wrap 25 = .ok (.aload_n 0, 1) := dk_42 (dk_at dksX4_wrap_1 3 rfl rfl)
theorem dX4_wrap_26 : decode cX4_wrap 26 = .ok (.invokevirtual 82, 3) := dk_182 0 82 (dk_at dksX4_wrap_1 4 rfl rfl)
theorem dX4_wrap_29 : decode cX4_wrap 29 = .ok (.ifCond .eq 15, 3) := dk_153 0 15 (dk_at dksX4_wrap_1 7 rfl rfl)
theorem dX4_wrap_32 : decode cX4_wrap 32 = .ok (.aload_n 0, 1) := dk_42 (dk_at dksX4_wrap_1 10 rfl rfl)
theorem dX4_wrap_33 : decode cX4_wrap 33 = .ok (.iload_n 1, 1) := dk_27 (dk_at dksX4_wrap_1 11 rfl rfl)
theorem dX4_wrap_34 : decode cX4_wrap 34 = .ok (.invokevirtual 170, 3) := dk_182 0 170 (dk_at dksX4_wrap_1 12 rfl rfl)
theorem dX4_wrap_37 : decode cX4_wrap 37 = .ok (.ifCond .eq 7, 3) := dk_153 0 7 (dk_at dksX4_wrap_1 15 rfl rfl)
theorem dX4_wrap_40 : decode cX4_wrap 40 = .ok (.iconst 1, 1) := dk_4 (dk_at dksX4_wrap_1 18 rfl rfl)
theorem dX4_wrap_41 : decode cX4_wrap 41 = .ok (.goto 4, 3) := dk_167 0 4 (dk_at dksX4_wrap_1 19 rfl rfl)
theorem dX4_wrap_44 : decode cX4_wrap 44 = .ok (.iconst 0, 1) := dk_3 (dk_at dksX4_wrap_1 22 rfl rfl)
theorem dX4_wrap_45 : decode cX4_wrap 45 = .ok (.istore_n 2, 1) := dk_61 (dk_at dksX4_wrap_1 23 rfl rfl)
theorem dX4_wrap_46 : decode cX4_wrap 46 = .ok (.iload_n 2, 1) := dk_28 (dk_at dksX4_wrap_2 0 rfl rfl)
theorem dX4_wrap_47 : decode cX4_wrap 47 = .ok (.ifCond .ne 9, 3) := dk_154 0 9 (dk_at dksX4_wrap_2 1 rfl rfl)
theorem dX4_wrap_50 : decode cX4_wrap 50 = .ok (.aload_n 0, 1) := dk_42 (dk_at dksX4_wrap_2 4 rfl rfl)
theorem dX4_wrap_51 : decode cX4_wrap 51 = .ok (.iconst 2, 1) := dk_5 (dk_at dksX4_wrap_2 5 rfl rfl)
theorem dX4_wrap_52 : decode cX4_wrap 52 = .ok (.invokevirtual 60, 3) := dk_182 0 60 (dk_at dksX4_wrap_2 6 rfl rfl)
theorem dX4_wrap_55 : decode cX4_wrap 55 = .ok (.ireturn, 1) := dk_172 (dk_at dksX4_wrap_2 9 rfl rfl)
theorem dX4_wrap_56 : decode cX4_wrap 56 = .ok (.iconst 0, 1) := dk_3 (dk_at dksX4_wrap_2 10 rfl rfl)
theorem dX4_wrap_57 : decode cX4_wrap 57 = .ok (.istore_n 3, 1) := dk_62 (dk_at dksX4_wrap_2 11 rfl rfl)
theorem dX4_wrap_58 : decode cX4_wrap 58 = .ok (.iload_n 3, 1) := dk_29 (dk_at dksX4_wrap_2 12 rfl rfl)
theorem dX4_wrap_59 : decode cX4_wrap 59 = .ok (.bipush 16, 2) := dk_16 16 (dk_at dksX4_wrap_2 13 rfl rfl)
theorem dX4_wrap_61 : decode cX4_wrap 61 = .ok (.if_icmp .ge 32, 3) := dk_162 0 32 (dk_at dksX4_wrap_2 15 rfl rfl)
theorem dX4_wrap_64 : decode cX4_wrap 64 = .ok (.aload_n 0, 1) := dk_42 (dk_at dksX4_wrap_2 18 rfl rfl)
theorem dX4_wrap_65 : decode cX4_wrap 65 = .ok (.getfield 7, 3) := dk_180 0 7 (dk_at dksX4_wrap_2 19 rfl rfl)
theorem dX4_wrap_68 : decode cX4_wrap 68 = .ok (.iconst 0, 1) := dk_3 (dk_at dksX4_wrap_2 22 rfl rfl)
theorem dX4_wrap_69 : decode cX4_wrap 69 = .ok (.iload_n 3, 1) := dk_29 (dk_at dksX4_wrap_2 23 rfl rfl)
theorem dX4_wrap_70 : decode cX4_wrap 70 = .ok (.iadd, 1) := dk_96 (dk_at dksX4_wrap_3 0 rfl rfl)
theorem dX4_wrap_71 : decode cX4_wrap 71 = .ok (.aload_n 0, 1) := dk_42 (dk_at dksX4_wrap_3 1 rfl rfl)
theorem dX4_wrap_72 : decode cX4_wrap 72 = .ok (.getfield 25, 3) := dk_180 0 25 (dk_at dksX4_wrap_3 2 rfl rfl)
theorem dX4_wrap_75 : decode cX4_wrap 75 = .ok (.iload_n 3, 1) := dk_29 (dk_at dksX4_wrap_3 5 rfl rfl)
theorem dX4_wrap_76 : decode cX4_wrap 76 = .ok (.iaload, 1) := dk_46 (dk_at dksX4_wrap_3 6 rfl rfl)
theorem dX4_wrap_77 : decode cX4_wrap 77 = .ok (.aload_n 0, 1) := dk_42 (dk_at dksX4_wrap_3 7 rfl rfl)
theorem dX4_wrap_78 : decode cX4_wrap 78 = .ok (.getfield 28, 3) := dk_180 0 28 (dk_at dksX4_wrap_3 8 rfl rfl)
theorem dX4_wrap_81 : decode cX4_wrap 81 = .ok (.iload_n 3, 1) := dk_29 (dk_at dksX4_wrap_3 11 rfl rfl)
theorem dX4_wrap_82 : decode cX4_wrap 82 = .ok (.iaload, 1) := dk_46 (dk_at dksX4_wrap_3 12 rfl rfl)
theorem dX4_wrap_83 : decode cX4_wrap 83 = .ok (.invokestatic 173, 3) := dk_184 0 173 (dk_at dksX4_wrap_3 13 rfl rfl)
theorem dX4_wrap_86 : decode cX4_wrap 86 = .ok (.iastore, 1) := dk_79 (dk_at dksX4_wrap_3 16 rfl rfl)
theorem dX4_wrap_87 : decode cX4_wrap 87 = .ok (.iinc 3 1, 3) := dk_132 3 1 (dk_at dksX4_wrap_3 17 rfl rfl)
theorem dX4_wrap_90 : decode cX4_wrap 90 = .ok (.goto (-32), 3) := dk_167 255 224 (dk_at dksX4_wrap_3 20 rfl rfl)
theorem dX4_wrap_93 : decode cX4_wrap 93 = .ok (.aload_n 0, 1) := dk_42 (dk_at dksX4_wrap_3 23 rfl rfl)
theorem dX4_wrap_94 : decode cX4_wrap 94 = .ok (.aload_n 0, 1) := dk_42 (dk_at dksX4_wrap_4 0 rfl rfl)
theorem dX4_wrap_95 : decode cX4_wrap 95 = .ok (.invokevirtual 89, 3) := dk_182 0 89 (dk_at dksX4_wrap_4 1 rfl rfl)
theorem dX4_wrap_98 : decode cX4_wrap 98 = .ok (.ifCond .eq 8, 3) := dk_153 0 8 (dk_at dksX4_wrap_4 4 rfl rfl)
theorem dX4_wrap_101 : decode cX4_wrap 101 = .ok (.bipush (-12), 2) := dk_16 244 (dk_at dksX4_wrap_4 7 rfl rfl)
theorem dX4_wrap_103 : decode cX4_wrap 103 = .ok (.goto 7, 3) := dk_167 0 7 (dk_at dksX4_wrap_4 9 rfl rfl)
theorem dX4_wrap_106 : decode cX4_wrap 106 = .ok (.aload_n 0, 1) := dk_42 (dk_at dksX4_wrap_4 12 rfl rfl)
theorem dX4_wrap_107 : decode cX4_wrap 107 = .ok (.invokevirtual 100, 3) := dk_182 0 100 (dk_at dksX4_wrap_4 13 rfl rfl)
theorem dX4_wrap_110 : decode cX4_wrap 110 = .ok (.invokevirtual 134, 3) := dk_182 0 134 (dk_at dksX4_wrap_4 16 rfl rfl)
theorem dX4_wrap_113 : decode cX4_wrap 113 = .ok (.ireturn, 1) := dk_172 (dk_at dksX4_wrap_4 19 rfl rfl)
abbrev cX4_looksAt : ByteArray := prog_9_method_17_code
def yX4_looksAt : MethodName := ⟨RX4, "looksAt", "(I)Z"⟩
def dkwX4_looksAt_1 : List UInt8 := [184, 0, 78, 172]
abbrev dktX4_looksAt_1 : List UInt8 := dkwX4_looksAt_1 ++ []
def dkwX4_looksAt_0 : List UInt8 := [42, 180, 0, 7, 16, 16, 16, 16, 27, 104, 96, 42, 180, 0, 28, 3, 184, 0, 75, 42, 180, 0, 28, 3]
abbrev dktX4_looksAt_0 : List UInt8 := dkwX4_looksAt_0 ++ dktX4_looksAt_1
theorem dksX4_looksAt_0 : cX4_looksAt.data.toList.drop 0 = dktX4_looksAt_0 := by decide +kernel
theorem dksX4_looksAt_1 : cX4_looksAt.data.toList.drop 24 = dktX4_looksAt_1 := dk_seg dksX4_looksAt_0 24 rfl rfl
theorem dX4_looksAt_0 : decode cX4_looksAt 0 = .ok (.aload_n 0, 1) := dk_42 (dk_at dksX4_looksAt_0 0 rfl rfl)
theorem dX4_looksAt_1 : decode cX4_looksAt 1 = .ok (.getfield 7, 3) := dk_180 0 7 (dk_at dksX4_looksAt_0 1 rfl rfl)
theorem dX4_looksAt_4 : decode cX4_looksAt 4 = .ok (.bipush 16, 2) := dk_16 16 (dk_at dksX4_looksAt_0 4 rfl rfl)
theorem dX4_looksAt_6 : decode cX4_looksAt 6 = .ok (.bipush 16, 2) := dk_16 16 (dk_at dksX4_looksAt_0 6 rfl rfl)
theorem dX4_looksAt_8 : decode cX4_looksAt 8 = .ok (.iload_n 1, 1) := dk_27 (dk_at dksX4_looksAt_0 8 rfl rfl)
theorem dX4_looksAt_9 : decode cX4_looksAt 9 = .ok (.imul, 1) := dk_104 (dk_at dksX4_looksAt_0 9 rfl rfl)
theorem dX4_looksAt_10 : decode cX4_looksAt 10 = .ok (.iadd, 1) := dk_96 (dk_at dksX4_looksAt_0 10 rfl rfl)
theorem dX4_looksAt_11 : decode cX4_looksAt 11 = .ok (.aload_n 0, 1) := dk_42 (dk_at dksX4_looksAt_0 11 rfl rfl)
theorem dX4_looksAt_12 : decode cX4_looksAt 12 = .ok (.getfield 28, 3) := dk_180 0 28 (dk_at dksX4_looksAt_0 12 rfl rfl)
theorem dX4_looksAt_15 : decode cX4_looksAt 15 = .ok (.iconst 0, 1) := dk_3 (dk_at dksX4_looksAt_0 15 rfl rfl)
theorem dX4_looksAt_16 : decode cX4_looksAt 16 = .ok (.invokestatic 75, 3) := dk_184 0 75 (dk_at dksX4_looksAt_0 16 rfl rfl)
theorem dX4_looksAt_19 : decode cX4_looksAt 19 = .ok (.aload_n 0, 1) := dk_42 (dk_at dksX4_looksAt_0 19 rfl rfl)
theorem dX4_looksAt_20 : decode cX4_looksAt 20 = .ok (.getfield 28, 3) := dk_180 0 28 (dk_at dksX4_looksAt_0 20 rfl rfl)
theorem dX4_looksAt_23 : decode cX4_looksAt 23 = .ok (.iconst 0, 1) := dk_3 (dk_at dksX4_looksAt_0 23 rfl rfl)
theorem dX4_looksAt_24 : decode cX4_looksAt 24 = .ok (.invokestatic 78, 3) := dk_184 0 78 (dk_at dksX4_looksAt_1 0 rfl rfl)
theorem dX4_looksAt_27 : decode cX4_looksAt 27 = .ok (.ireturn, 1) := dk_172 (dk_at dksX4_looksAt_1 3 rfl rfl)
abbrev cX4_more : ByteArray := prog_9_method_7_code
def yX4_more : MethodName := ⟨RX4, "more", "(II)I"⟩
def dkwX4_more_0 : List UInt8 := [26, 27, 162, 0, 7, 27, 167, 0, 4, 26, 172]
abbrev dktX4_more_0 : List UInt8 := dkwX4_more_0 ++ []
theorem dksX4_more_0 : cX4_more.data.toList.drop 0 = dktX4_more_0 := by decide +kernel
theorem dX4_more_0 : decode cX4_more 0 = .ok (.iload_n 0, 1) := dk_26 (dk_at dksX4_more_0 0 rfl rfl)
theorem dX4_more_1 : decode cX4_more 1 = .ok (.iload_n 1, 1) := dk_27 (dk_at dksX4_more_0 1 rfl rfl)
theorem dX4_more_2 : decode cX4_more 2 = .ok (.if_icmp .ge 7, 3) := dk_162 0 7 (dk_at dksX4_more_0 2 rfl rfl)
theorem dX4_more_5 : decode cX4_more 5 = .ok (.iload_n 1, 1) := dk_27 (dk_at dksX4_more_0 5 rfl rfl)
theorem dX4_more_6 : decode cX4_more 6 = .ok (.goto 4, 3) := dk_167 0 4 (dk_at dksX4_more_0 6 rfl rfl)
theorem dX4_more_9 : decode cX4_more 9 = .ok (.iload_n 0, 1) := dk_26 (dk_at dksX4_more_0 9 rfl rfl)
theorem dX4_more_10 : decode cX4_more 10 = .ok (.ireturn, 1) := dk_172 (dk_at dksX4_more_0 10 rfl rfl)
abbrev cX4_setStay : ByteArray := prog_9_method_58_code
def yX4_setStay : MethodName := ⟨RX4, "setStay", "(III)I"⟩
def dkwX4_setStay_2 : List UInt8 := [46, 54, 4, 42, 180, 0, 7, 16, 84, 6, 27, 104, 96, 28, 96, 29, 79, 42, 21, 4, 182, 0, 134, 172]
abbrev dktX4_setStay_2 : List UInt8 := dkwX4_setStay_2 ++ []
def dkwX4_setStay_1 : List UInt8 := [184, 0, 92, 154, 0, 9, 42, 4, 182, 0, 60, 172, 42, 180, 0, 7, 16, 84, 6, 27, 104, 96, 28, 96]
abbrev dktX4_setStay_1 : List UInt8 := dkwX4_setStay_1 ++ dktX4_setStay_2
def dkwX4_setStay_0 : List UInt8 := [42, 182, 0, 127, 27, 184, 0, 176, 153, 0, 20, 28, 184, 0, 104, 153, 0, 13, 29, 3, 16, 10]
abbrev dktX4_setStay_0 : List UInt8 := dkwX4_setStay_0 ++ dktX4_setStay_1
theorem dksX4_setStay_0 : cX4_setStay.data.toList.drop 0 = dktX4_setStay_0 := by decide +kernel
theorem dksX4_setStay_1 : cX4_setStay.data.toList.drop 22 = dktX4_setStay_1 := dk_seg dksX4_setStay_0 22 rfl rfl
theorem dksX4_setStay_2 : cX4_setStay.data.toList.drop 46 = dktX4_setStay_2 := dk_seg dksX4_setStay_1 24 rfl rfl
theorem dX4_setStay_0 : decode cX4_setStay 0 = .ok (.aload_n 0, 1) := dk_42 (dk_at dksX4_setStay_0 0 rfl rfl)
theorem dX4_setStay_1 : decode cX4_setStay 1 = .ok (.invokevirtual 127, 3) := dk_182 0 127 (dk_at dksX4_setStay_0 1 rfl rfl)
theorem dX4_setStay_4 : decode cX4_setStay 4 = .ok (.iload_n 1, 1) := dk_27 (dk_at dksX4_setStay_0 4 rfl rfl)
theorem dX4_setStay_5 : decode cX4_setStay 5 = .ok (.invokestatic 176, 3) := dk_184 0 176 (dk_at dksX4_setStay_0 5 rfl rfl)
theorem dX4_setStay_8 : decode cX4_setStay 8 = .ok (.ifCond .eq 20, 3) := dk_153 0 20 (dk_at dksX4_setStay_0 8 rfl rfl)
theorem dX4_setStay_11 : decode cX4_setStay 11 = .ok (.iload_n 2, 1) := dk_28 (dk_at dksX4_setStay_0 11 rfl rfl)
theorem dX4_setStay_12 : decode cX4_setStay 12 = .ok (.invokestatic 104, 3) := dk_184 0 104 (dk_at dksX4_setStay_0 12 rfl rfl)
theorem dX4_setStay_15 : decode cX4_setStay 15 = .ok (.ifCond .eq 13, 3) := dk_153 0 13 (dk_at dksX4_setStay_0 15 rfl rfl)
theorem dX4_setStay_18 : decode cX4_setStay 18 = .ok (.iload_n 3, 1) := dk_29 (dk_at dksX4_setStay_0 18 rfl rfl)
theorem dX4_setStay_19 : decode cX4_setStay 19 = .ok (.iconst 0, 1) := dk_3 (dk_at dksX4_setStay_0 19 rfl rfl)
theorem dX4_setStay_20 : decode cX4_setStay 20 = .ok (.bipush 10, 2) := dk_16 10 (dk_at dksX4_setStay_0 20 rfl rfl)
theorem dX4_setStay_22 : decode cX4_setStay 22 = .ok (.invokestatic 92, 3) := dk_184 0 92 (dk_at dksX4_setStay_1 0 rfl rfl)
theorem dX4_setStay_25 : decode cX4_setStay 25 = .ok (.ifCond .ne 9, 3) := dk_154 0 9 (dk_at dksX4_setStay_1 3 rfl rfl)
theorem dX4_setStay_28 : decode cX4_setStay 28 = .ok (.aload_n 0, 1) := dk_42 (dk_at dksX4_setStay_1 6 rfl rfl)
theorem dX4_setStay_29 : decode cX4_setStay 29 = .ok (.iconst 1, 1) := dk_4 (dk_at dksX4_setStay_1 7 rfl rfl)
theorem dX4_setStay_30 : decode cX4_setStay 30 = .ok (.invokevirtual 60, 3) := dk_182 0 60 (dk_at dksX4_setStay_1 8 rfl rfl)
theorem dX4_setStay_33 : decode cX4_setStay 33 = .ok (.ireturn, 1) := dk_172 (dk_at dksX4_setStay_1 11 rfl rfl)
theorem dX4_setStay_34 : decode cX4_setStay 34 = .ok (.aload_n 0, 1) := dk_42 (dk_at dksX4_setStay_1 12 rfl rfl)
theorem dX4_setStay_35 : decode cX4_setStay 35 = .ok (.getfield 7, 3) := dk_180 0 7 (dk_at dksX4_setStay_1 13 rfl rfl)
theorem dX4_setStay_38 : decode cX4_setStay 38 = .ok (.bipush 84, 2) := dk_16 84 (dk_at dksX4_setStay_1 16 rfl rfl)
theorem dX4_setStay_40 : decode cX4_setStay 40 = .ok (.iconst 3, 1) := dk_6 (dk_at dksX4_setStay_1 18 rfl rfl)
theorem dX4_setStay_41 : decode cX4_setStay 41 = .ok (.iload_n 1, 1) := dk_27 (dk_at dksX4_setStay_1 19 rfl rfl)
theorem dX4_setStay_42 : decode cX4_setStay 42 = .ok (.imul, 1) := dk_104 (dk_at dksX4_setStay_1 20 rfl rfl)
theorem dX4_setStay_43 : decode cX4_setStay 43 = .ok (.iadd, 1) := dk_96 (dk_at dksX4_setStay_1 21 rfl rfl)
theorem dX4_setStay_44 : decode cX4_setStay 44 = .ok (.iload_n 2, 1) := dk_28 (dk_at dksX4_setStay_1 22 rfl rfl)
theorem dX4_setStay_45 : decode cX4_setStay 45 = .ok (.iadd, 1) := dk_96 (dk_at dksX4_setStay_1 23 rfl rfl)
theorem dX4_setStay_46 : decode cX4_setStay 46 = .ok (.iaload, 1) := dk_46 (dk_at dksX4_setStay_2 0 rfl rfl)
theorem dX4_setStay_47 : decode cX4_setStay 47 = .ok (.istore 4, 2) := dk_54 4 (dk_at dksX4_setStay_2 1 rfl rfl)
theorem dX4_setStay_49 : decode cX4_setStay 49 = .ok (.aload_n 0, 1) := dk_42 (dk_at dksX4_setStay_2 3 rfl rfl)
theorem dX4_setStay_50 : decode cX4_setStay 50 = .ok (.getfield 7, 3) := dk_180 0 7 (dk_at dksX4_setStay_2 4 rfl rfl)
theorem dX4_setStay_53 : decode cX4_setStay 53 = .ok (.bipush 84, 2) := dk_16 84 (dk_at dksX4_setStay_2 7 rfl rfl)
theorem dX4_setStay_55 : decode cX4_setStay 55 = .ok (.iconst 3, 1) := dk_6 (dk_at dksX4_setStay_2 9 rfl rfl)
theorem dX4_setStay_56 : decode cX4_setStay 56 = .ok (.iload_n 1, 1) := dk_27 (dk_at dksX4_setStay_2 10 rfl rfl)
theorem dX4_setStay_57 : decode cX4_setStay 57 = .ok (.imul, 1) := dk_104 (dk_at dksX4_setStay_2 11 rfl rfl)
theorem dX4_setStay_58 : decode cX4_setStay 58 = .ok (.iadd, 1) := dk_96 (dk_at dksX4_setStay_2 12 rfl rfl)
theorem dX4_setStay_59 : decode cX4_setStay 59 = .ok (.iload_n 2, 1) := dk_28 (dk_at dksX4_setStay_2 13 rfl rfl)
theorem dX4_setStay_60 : decode cX4_setStay 60 = .ok (.iadd, 1) := dk_96 (dk_at dksX4_setStay_2 14 rfl rfl)
theorem dX4_setStay_61 : decode cX4_setStay 61 = .ok (.iload_n 3, 1) := dk_29 (dk_at dksX4_setStay_2 15 rfl rfl)
theorem dX4_setStay_62 : decode cX4_setStay 62 = .ok (.iastore, 1) := dk_79 (dk_at dksX4_setStay_2 16 rfl rfl)
theorem dX4_setStay_63 : decode cX4_setStay 63 = .ok (.aload_n 0, 1) := dk_42 (dk_at dksX4_setStay_2 17 rfl rfl)
theorem dX4_setStay_64 : decode cX4_setStay 64 = .ok (.iload 4, 2) := dk_21 4 (dk_at dksX4_setStay_2 18 rfl rfl)
theorem dX4_setStay_66 : decode cX4_setStay 66 = .ok (.invokevirtual 134, 3) := dk_182 0 134 (dk_at dksX4_setStay_2 20 rfl rfl)
theorem dX4_setStay_69 : decode cX4_setStay 69 = .ok (.ireturn, 1) := dk_172 (dk_at dksX4_setStay_2 23 rfl rfl)
abbrev cX4_isHarbour : ByteArray := prog_9_method_54_code
def yX4_isHarbour : MethodName := ⟨RX4, "isHarbour", "(I)Z"⟩
def dkwX4_isHarbour_0 : List UInt8 := [26, 3, 8, 184, 0, 92, 172]
abbrev dktX4_isHarbour_0 : List UInt8 := dkwX4_isHarbour_0 ++ []
theorem dksX4_isHarbour_0 : cX4_isHarbour.data.toList.drop 0 = dktX4_isHarbour_0 := by decide +kernel
theorem dX4_isHarbour_0 : decode cX4_isHarbour 0 = .ok (.iload_n 0, 1) := dk_26 (dk_at dksX4_isHarbour_0 0 rfl rfl)
theorem dX4_isHarbour_1 : decode cX4_isHarbour 1 = .ok (.iconst 0, 1) := dk_3 (dk_at dksX4_isHarbour_0 1 rfl rfl)
theorem dX4_isHarbour_2 : decode cX4_isHarbour 2 = .ok (.iconst 5, 1) := dk_8 (dk_at dksX4_isHarbour_0 2 rfl rfl)
theorem dX4_isHarbour_3 : decode cX4_isHarbour 3 = .ok (.invokestatic 92, 3) := dk_184 0 92 (dk_at dksX4_isHarbour_0 3 rfl rfl)
theorem dX4_isHarbour_6 : decode cX4_isHarbour 6 = .ok (.ireturn, 1) := dk_172 (dk_at dksX4_isHarbour_0 6 rfl rfl)
abbrev cX4_addLine : ByteArray := prog_9_method_59_code
def yX4_addLine : MethodName := ⟨RX4, "addLine", "(II)I"⟩
def dkwX4_addLine_4 : List UInt8 := [29, 182, 0, 134, 172]
abbrev dktX4_addLine_4 : List UInt8 := dkwX4_addLine_4 ++ []
def dkwX4_addLine_3 : List UInt8 := [96, 16, 10, 182, 0, 179, 132, 4, 1, 167, 255, 236, 42, 180, 0, 7, 16, 102, 92, 46, 4, 96, 79, 42]
abbrev dktX4_addLine_3 : List UInt8 := dkwX4_addLine_3 ++ dktX4_addLine_4
def dkwX4_addLine_2 : List UInt8 := [182, 0, 179, 42, 29, 4, 28, 182, 0, 179, 3, 54, 4, 21, 4, 6, 162, 0, 20, 42, 29, 8, 21, 4]
abbrev dktX4_addLine_2 : List UInt8 := dkwX4_addLine_2 ++ dktX4_addLine_3
def dkwX4_addLine_1 : List UInt8 := [42, 180, 0, 7, 16, 102, 46, 62, 29, 16, 10, 160, 0, 9, 42, 5, 182, 0, 60, 172, 42, 29, 3, 27]
abbrev dktX4_addLine_1 : List UInt8 := dkwX4_addLine_1 ++ dktX4_addLine_2
def dkwX4_addLine_0 : List UInt8 := [42, 182, 0, 127, 27, 184, 0, 176, 153, 0, 10, 28, 184, 0, 176, 154, 0, 9, 42, 4, 182, 0, 60, 172]
abbrev dktX4_addLine_0 : List UInt8 := dkwX4_addLine_0 ++ dktX4_addLine_1
theorem dksX4_addLine_0 : cX4_addLine.data.toList.drop 0 = dktX4_addLine_0 := by decide +kernel
theorem dksX4_addLine_1 : cX4_addLine.data.toList.drop 24 = dktX4_addLine_1 := dk_seg dksX4_addLine_0 24 rfl rfl
theorem dksX4_addLine_2 : cX4_addLine.data.toList.drop 48 = dktX4_addLine_2 := dk_seg dksX4_addLine_1 24 rfl rfl
theorem dksX4_addLine_3 : cX4_addLine.data.toList.drop 72 = dktX4_addLine_3 := dk_seg dksX4_addLine_2 24 rfl rfl
theorem dksX4_addLine_4 : cX4_addLine.data.toList.drop 96 = dktX4_addLine_4 := dk_seg dksX4_addLine_3 24 rfl rfl
theorem dX4_addLine_0 : decode cX4_addLine 0 = .ok (.aload_n 0, 1) := dk_42 (dk_at dksX4_addLine_0 0 rfl rfl)
theorem dX4_addLine_1 : decode cX4_addLine 1 = .ok (.invokevirtual 127, 3) := dk_182 0 127 (dk_at dksX4_addLine_0 1 rfl rfl)
theorem dX4_addLine_4 : decode cX4_addLine 4 = .ok (.iload_n 1, 1) := dk_27 (dk_at dksX4_addLine_0 4 rfl rfl)
theorem dX4_addLine_5 : decode cX4_addLine 5 = .ok (.invokestatic 176, 3) := dk_184 0 176 (dk_at dksX4_addLine_0 5 rfl rfl)
theorem dX4_addLine_8 : decode cX4_addLine 8 = .ok (.ifCond .eq 10, 3) := dk_153 0 10 (dk_at dksX4_addLine_0 8 rfl rfl)
theorem dX4_addLine_11 : decode cX4_addLine 11 = .ok (.iload_n 2, 1) := dk_28 (dk_at dksX4_addLine_0 11 rfl rfl)
theorem dX4_addLine_12 : decode cX4_addLine 12 = .ok (.invokestatic 176, 3) := dk_184 0 176 (dk_at dksX4_addLine_0 12 rfl rfl)
theorem dX4_addLine_15 : decode cX4_addLine 15 = .ok (.ifCond .ne 9, 3) := dk_154 0 9 (dk_at dksX4_addLine_0 15 rfl rfl)
theorem dX4_addLine_18 : decode cX4_addLine 18 = .ok (.aload_n 0, 1) := dk_42 (dk_at dksX4_addLine_0 18 rfl rfl)
theorem dX4_addLine_19 : decode cX4_addLine 19 = .ok (.iconst 1, 1) := dk_4 (dk_at dksX4_addLine_0 19 rfl rfl)
theorem dX4_addLine_20 : decode cX4_addLine 20 = .ok (.invokevirtual 60, 3) := dk_182 0 60 (dk_at dksX4_addLine_0 20 rfl rfl)
theorem dX4_addLine_23 : decode cX4_addLine 23 = .ok (.ireturn, 1) := dk_172 (dk_at dksX4_addLine_0 23 rfl rfl)
theorem dX4_addLine_24 : decode cX4_addLine 24 = .ok (.aload_n 0, 1) := dk_42 (dk_at dksX4_addLine_1 0 rfl rfl)
theorem dX4_addLine_25 : decode cX4_addLine 25 = .ok (.getfield 7, 3) := dk_180 0 7 (dk_at dksX4_addLine_1 1 rfl rfl)
theorem dX4_addLine_28 : decode cX4_addLine 28 = .ok (.bipush 102, 2) := dk_16 102 (dk_at dksX4_addLine_1 4 rfl rfl)
theorem dX4_addLine_30 : decode cX4_addLine 30 = .ok (.iaload, 1) := dk_46 (dk_at dksX4_addLine_1 6 rfl rfl)
theorem dX4_addLine_31 : decode cX4_addLine 31 = .ok (.istore_n 3, 1) := dk_62 (dk_at dksX4_addLine_1 7 rfl rfl)
theorem dX4_addLine_32 : decode cX4_addLine 32 = .ok (.iload_n 3, 1) := dk_29 (dk_at dksX4_addLine_1 8 rfl rfl)
theorem dX4_addLine_33 : decode cX4_addLine 33 = .ok (.bipush 10, 2) := dk_16 10 (dk_at dksX4_addLine_1 9 rfl rfl)
theorem dX4_addLine_35 : decode cX4_addLine 35 = .ok (.if_icmp .ne 9, 3) := dk_160 0 9 (dk_at dksX4_addLine_1 11 rfl rfl)
theorem dX4_addLine_38 : decode cX4_addLine 38 = .ok (.aload_n 0, 1) := dk_42 (dk_at dksX4_addLine_1 14 rfl rfl)
theorem dX4_addLine_39 : decode cX4_addLine 39 = .ok (.iconst 2, 1) := dk_5 (dk_at dksX4_addLine_1 15 rfl rfl)
theorem dX4_addLine_40 : decode cX4_addLine 40 = .ok (.invokevirtual 60, 3) := dk_182 0 60 (dk_at dksX4_addLine_1 16 rfl rfl)
theorem dX4_addLine_43 : decode cX4_addLine 43 = .ok (.ireturn, 1) := dk_172 (dk_at dksX4_addLine_1 19 rfl rfl)
theorem dX4_addLine_44 : decode cX4_addLine 44 = .ok (.aload_n 0, 1) := dk_42 (dk_at dksX4_addLine_1 20 rfl rfl)
theorem dX4_addLine_45 : decode cX4_addLine 45 = .ok (.iload_n 3, 1) := dk_29 (dk_at dksX4_addLine_1 21 rfl rfl)
theorem dX4_addLine_46 : decode cX4_addLine 46 = .ok (.iconst 0, 1) := dk_3 (dk_at dksX4_addLine_1 22 rfl rfl)
theorem dX4_addLine_47 : decode cX4_addLine 47 = .ok (.iload_n 1, 1) := dk_27 (dk_at dksX4_addLine_1 23 rfl rfl)
theorem dX4_addLine_48 : decode cX4_addLine 48 = .ok (.invokevirtual 179, 3) := dk_182 0 179 (dk_at dksX4_addLine_2 0 rfl rfl)
theorem dX4_addLine_51 : decode cX4_addLine 51 = .ok (.aload_n 0, 1) := dk_42 (dk_at dksX4_addLine_2 3 rfl rfl)
theorem dX4_addLine_52 : decode cX4_addLine 52 = .ok (.iload_n 3, 1) := dk_29 (dk_at dksX4_addLine_2 4 rfl rfl)
theorem dX4_addLine_53 : decode cX4_addLine 53 = .ok (.iconst 1, 1) := dk_4 (dk_at dksX4_addLine_2 5 rfl rfl)
theorem dX4_addLine_54 : decode cX4_addLine 54 = .ok (.iload_n 2, 1) := dk_28 (dk_at dksX4_addLine_2 6 rfl rfl)
theorem dX4_addLine_55 : decode cX4_addLine 55 = .ok (.invokevirtual 179, 3) := dk_182 0 179 (dk_at dksX4_addLine_2 7 rfl rfl)
theorem dX4_addLine_58 : decode cX4_addLine 58 = .ok (.iconst 0, 1) := dk_3 (dk_at dksX4_addLine_2 10 rfl rfl)
theorem dX4_addLine_59 : decode cX4_addLine 59 = .ok (.istore 4, 2) := dk_54 4 (dk_at dksX4_addLine_2 11 rfl rfl)
theorem dX4_addLine_61 : decode cX4_addLine 61 = .ok (.iload 4, 2) := dk_21 4 (dk_at dksX4_addLine_2 13 rfl rfl)
theorem dX4_addLine_63 : decode cX4_addLine 63 = .ok (.iconst 3, 1) := dk_6 (dk_at dksX4_addLine_2 15 rfl rfl)
theorem dX4_addLine_64 : decode cX4_addLine 64 = .ok (.if_icmp .ge 20, 3) := dk_162 0 20 (dk_at dksX4_addLine_2 16 rfl rfl)
theorem dX4_addLine_67 : decode cX4_addLine 67 = .ok (.aload_n 0, 1) := dk_42 (dk_at dksX4_addLine_2 19 rfl rfl)
theorem dX4_addLine_68 : decode cX4_addLine 68 = .ok (.iload_n 3, 1) := dk_29 (dk_at dksX4_addLine_2 20 rfl rfl)
theorem dX4_addLine_69 : decode cX4_addLine 69 = .ok (.iconst 5, 1) := dk_8 (dk_at dksX4_addLine_2 21 rfl rfl)
theorem dX4_addLine_70 : decode cX4_addLine 70 = .ok (.iload 4, 2) := dk_21 4 (dk_at dksX4_addLine_2 22 rfl rfl)
theorem dX4_addLine_72 : decode cX4_addLine 72 = .ok (.iadd, 1) := dk_96 (dk_at dksX4_addLine_3 0 rfl rfl)
theorem dX4_addLine_73 : decode cX4_addLine 73 = .ok (.bipush 10, 2) := dk_16 10 (dk_at dksX4_addLine_3 1 rfl rfl)
theorem dX4_addLine_75 : decode cX4_addLine 75 = .ok (.invokevirtual 179, 3) := dk_182 0 179 (dk_at dksX4_addLine_3 3 rfl rfl)
theorem dX4_addLine_78 : decode cX4_addLine 78 = .ok (.iinc 4 1, 3) := dk_132 4 1 (dk_at dksX4_addLine_3 6 rfl rfl)
theorem dX4_addLine_81 : decode cX4_addLine 81 = .ok (.goto (-20), 3) := dk_167 255 236 (dk_at dksX4_addLine_3 9 rfl rfl)
theorem dX4_addLine_84 : decode cX4_addLine 84 = .ok (.aload_n 0, 1) := dk_42 (dk_at dksX4_addLine_3 12 rfl rfl)
theorem dX4_addLine_85 : decode cX4_addLine 85 = .ok (.getfield 7, 3) := dk_180 0 7 (dk_at dksX4_addLine_3 13 rfl rfl)
theorem dX4_addLine_88 : decode cX4_addLine 88 = .ok (.bipush 102, 2) := dk_16 102 (dk_at dksX4_addLine_3 16 rfl rfl)
theorem dX4_addLine_90 : decode cX4_addLine 90 = .ok (.dup2, 1) := dk_92 (dk_at dksX4_addLine_3 18 rfl rfl)
theorem dX4_addLine_91 : decode cX4_addLine 91 = .ok (.iaload, 1) := dk_46 (dk_at dksX4_addLine_3 19 rfl rfl)
theorem dX4_addLine_92 : decode cX4_addLine 92 = .ok (.iconst 1, 1) := dk_4 (dk_at dksX4_addLine_3 20 rfl rfl)
theorem dX4_addLine_93 : decode cX4_addLine 93 = .ok (.iadd, 1) := dk_96 (dk_at dksX4_addLine_3 21 rfl rfl)
theorem dX4_addLine_94 : decode cX4_addLine 94 = .ok (.iastore, 1) := dk_79 (dk_at dksX4_addLine_3 22 rfl rfl)
theorem dX4_addLine_95 : decode cX4_addLine 95 = .ok (.aload_n 0, 1) := dk_42 (dk_at dksX4_addLine_3 23 rfl rfl)
theorem dX4_addLine_96 : decode cX4_addLine 96 = .ok (.iload_n 3, 1) := dk_29 (dk_at dksX4_addLine_4 0 rfl rfl)
theorem dX4_addLine_97 : decode cX4_addLine 97 = .ok (.invokevirtual 134, 3) := dk_182 0 134 (dk_at dksX4_addLine_4 1 rfl rfl)
theorem dX4_addLine_100 : decode cX4_addLine 100 = .ok (.ireturn, 1) := dk_172 (dk_at dksX4_addLine_4 4 rfl rfl)
abbrev cX4_lays : ByteArray := prog_9_method_57_code
def yX4_lays : MethodName := ⟨RX4, "lays", "(III)V"⟩
def dkwX4_lays_0 : List UInt8 := [42, 180, 0, 7, 16, 103, 16, 9, 27, 104, 96, 28, 96, 29, 79, 177]
abbrev dktX4_lays_0 : List UInt8 := dkwX4_lays_0 ++ []
theorem dksX4_lays_0 : cX4_lays.data.toList.drop 0 = dktX4_lays_0 := by decide +kernel
theorem dX4_lays_0 : decode cX4_lays 0 = .ok (.aload_n 0, 1) := dk_42 (dk_at dksX4_lays_0 0 rfl rfl)
theorem dX4_lays_1 : decode cX4_lays 1 = .ok (.getfield 7, 3) := dk_180 0 7 (dk_at dksX4_lays_0 1 rfl rfl)
theorem dX4_lays_4 : decode cX4_lays 4 = .ok (.bipush 103, 2) := dk_16 103 (dk_at dksX4_lays_0 4 rfl rfl)
theorem dX4_lays_6 : decode cX4_lays 6 = .ok (.bipush 9, 2) := dk_16 9 (dk_at dksX4_lays_0 6 rfl rfl)
theorem dX4_lays_8 : decode cX4_lays 8 = .ok (.iload_n 1, 1) := dk_27 (dk_at dksX4_lays_0 8 rfl rfl)
theorem dX4_lays_9 : decode cX4_lays 9 = .ok (.imul, 1) := dk_104 (dk_at dksX4_lays_0 9 rfl rfl)
theorem dX4_lays_10 : decode cX4_lays 10 = .ok (.iadd, 1) := dk_96 (dk_at dksX4_lays_0 10 rfl rfl)
theorem dX4_lays_11 : decode cX4_lays 11 = .ok (.iload_n 2, 1) := dk_28 (dk_at dksX4_lays_0 11 rfl rfl)
theorem dX4_lays_12 : decode cX4_lays 12 = .ok (.iadd, 1) := dk_96 (dk_at dksX4_lays_0 12 rfl rfl)
theorem dX4_lays_13 : decode cX4_lays 13 = .ok (.iload_n 3, 1) := dk_29 (dk_at dksX4_lays_0 13 rfl rfl)
theorem dX4_lays_14 : decode cX4_lays 14 = .ok (.iastore, 1) := dk_79 (dk_at dksX4_lays_0 14 rfl rfl)
theorem dX4_lays_15 : decode cX4_lays 15 = .ok (.return_, 1) := dk_177 (dk_at dksX4_lays_0 15 rfl rfl)
abbrev cX4_setNeed : ByteArray := prog_9_method_60_code
def yX4_setNeed : MethodName := ⟨RX4, "setNeed", "(IIII)I"⟩
def dkwX4_setNeed_3 : List UInt8 := [21, 4, 182, 0, 179, 42, 21, 5, 182, 0, 134, 172]
abbrev dktX4_setNeed_3 : List UInt8 := dkwX4_setNeed_3 ++ []
def dkwX4_setNeed_2 : List UInt8 := [27, 5, 28, 96, 182, 0, 186, 54, 5, 42, 27, 5, 28, 96, 29, 182, 0, 179, 42, 27, 8, 28, 96]
abbrev dktX4_setNeed_2 : List UInt8 := dkwX4_setNeed_2 ++ dktX4_setNeed_3
def dkwX4_setNeed_1 : List UInt8 := [184, 0, 92, 153, 0, 14, 21, 4, 29, 16, 10, 184, 0, 92, 154, 0, 9, 42, 4, 182, 0, 60, 172, 42]
abbrev dktX4_setNeed_1 : List UInt8 := dkwX4_setNeed_1 ++ dktX4_setNeed_2
def dkwX4_setNeed_0 : List UInt8 := [42, 182, 0, 127, 42, 27, 182, 0, 183, 153, 0, 31, 28, 184, 0, 104, 153, 0, 24, 29, 3, 16, 9]
abbrev dktX4_setNeed_0 : List UInt8 := dkwX4_setNeed_0 ++ dktX4_setNeed_1
theorem dksX4_setNeed_0 : cX4_setNeed.data.toList.drop 0 = dktX4_setNeed_0 := by decide +kernel
theorem dksX4_setNeed_1 : cX4_setNeed.data.toList.drop 23 = dktX4_setNeed_1 := dk_seg dksX4_setNeed_0 23 rfl rfl
theorem dksX4_setNeed_2 : cX4_setNeed.data.toList.drop 47 = dktX4_setNeed_2 := dk_seg dksX4_setNeed_1 24 rfl rfl
theorem dksX4_setNeed_3 : cX4_setNeed.data.toList.drop 70 = dktX4_setNeed_3 := dk_seg dksX4_setNeed_2 23 rfl rfl
theorem dX4_setNeed_0 : decode cX4_setNeed 0 = .ok (.aload_n 0, 1) := dk_42 (dk_at dksX4_setNeed_0 0 rfl rfl)
theorem dX4_setNeed_1 : decode cX4_setNeed 1 = .ok (.invokevirtual 127, 3) := dk_182 0 127 (dk_at dksX4_setNeed_0 1 rfl rfl)
theorem dX4_setNeed_4 : decode cX4_setNeed 4 = .ok (.aload_n 0, 1) := dk_42 (dk_at dksX4_setNeed_0 4 rfl rfl)
theorem dX4_setNeed_5 : decode cX4_setNeed 5 = .ok (.iload_n 1, 1) := dk_27 (dk_at dksX4_setNeed_0 5 rfl rfl)
theorem dX4_setNeed_6 : decode cX4_setNeed 6 = .ok (.invokevirtual 183, 3) := dk_182 0 183 (dk_at dksX4_setNeed_0 6 rfl rfl)
theorem dX4_setNeed_9 : decode cX4_setNeed 9 = .ok (.ifCond .eq 31, 3) := dk_153 0 31 (dk_at dksX4_setNeed_0 9 rfl rfl)
theorem dX4_setNeed_12 : decode cX4_setNeed 12 = .ok (.iload_n 2, 1) := dk_28 (dk_at dksX4_setNeed_0 12 rfl rfl)
theorem dX4_setNeed_13 : decode cX4_setNeed 13 = .ok (.invokestatic 104, 3) := dk_184 0 104 (dk_at dksX4_setNeed_0 13 rfl rfl)
theorem dX4_setNeed_16 : decode cX4_setNeed 16 = .ok (.ifCond .eq 24, 3) := dk_153 0 24 (dk_at dksX4_setNeed_0 16 rfl rfl)
theorem dX4_setNeed_19 : decode cX4_setNeed 19 = .ok (.iload_n 3, 1) := dk_29 (dk_at dksX4_setNeed_0 19 rfl rfl)
theorem dX4_setNeed_20 : decode cX4_setNeed 20 = .ok (.iconst 0, 1) := dk_3 (dk_at dksX4_setNeed_0 20 rfl rfl)
theorem dX4_setNeed_21 : decode cX4_setNeed 21 = .ok (.bipush 9, 2) := dk_16 9 (dk_at dksX4_setNeed_0 21 rfl rfl)
theorem dX4_setNeed_23 : decode cX4_setNeed 23 = .ok (.invokestatic 92, 3) := dk_184 0 92 (dk_at dksX4_setNeed_1 0 rfl rfl)
theorem dX4_setNeed_26 : decode cX4_setNeed 26 = .ok (.ifCond .eq 14, 3) := dk_153 0 14 (dk_at dksX4_setNeed_1 3 rfl rfl)
theorem dX4_setNeed_29 : decode cX4_setNeed 29 = .ok (.iload 4, 2) := dk_21 4 (dk_at dksX4_setNeed_1 6 rfl rfl)
theorem dX4_setNeed_31 : decode cX4_setNeed 31 = .ok (.iload_n 3, 1) := dk_29 (dk_at dksX4_setNeed_1 8 rfl rfl)
theorem dX4_setNeed_32 : decode cX4_setNeed 32 = .ok (.bipush 10, 2) := dk_16 10 (dk_at dksX4_setNeed_1 9 rfl rfl)
theorem dX4_setNeed_34 : decode cX4_setNeed 34 = .ok (.invokestatic 92, 3) := dk_184 0 92 (dk_at dksX4_setNeed_1 11 rfl rfl)
theorem dX4_setNeed_37 : decode cX4_setNeed 37 = .ok (.ifCond .ne 9, 3) := dk_154 0 9 (dk_at dksX4_setNeed_1 14 rfl rfl)
theorem dX4_setNeed_40 : decode cX4_setNeed 40 = .ok (.aload_n 0, 1) := dk_42 (dk_at dksX4_setNeed_1 17 rfl rfl)
theorem dX4_setNeed_41 : decode cX4_setNeed 41 = .ok (.iconst 1, 1) := dk_4 (dk_at dksX4_setNeed_1 18 rfl rfl)
theorem dX4_setNeed_42 : decode cX4_setNeed 42 = .ok (.invokevirtual 60, 3) := dk_182 0 60 (dk_at dksX4_setNeed_1 19 rfl rfl)
theorem dX4_setNeed_45 : decode cX4_setNeed 45 = .ok (.ireturn, 1) := dk_172 (dk_at dksX4_setNeed_1 22 rfl rfl)
theorem dX4_setNeed_46 : decode cX4_setNeed 46 = .ok (.aload_n 0, 1) := dk_42 (dk_at dksX4_setNeed_1 23 rfl rfl)
theorem dX4_setNeed_47 : decode cX4_setNeed 47 = .ok (.iload_n 1, 1) := dk_27 (dk_at dksX4_setNeed_2 0 rfl rfl)
theorem dX4_setNeed_48 : decode cX4_setNeed 48 = .ok (.iconst 2, 1) := dk_5 (dk_at dksX4_setNeed_2 1 rfl rfl)
theorem dX4_setNeed_49 : decode cX4_setNeed 49 = .ok (.iload_n 2, 1) := dk_28 (dk_at dksX4_setNeed_2 2 rfl rfl)
theorem dX4_setNeed_50 : decode cX4_setNeed 50 = .ok (.iadd, 1) := dk_96 (dk_at dksX4_setNeed_2 3 rfl rfl)
theorem dX4_setNeed_51 : decode cX4_setNeed 51 = .ok (.invokevirtual 186, 3) := dk_182 0 186 (dk_at dksX4_setNeed_2 4 rfl rfl)
theorem dX4_setNeed_54 : decode cX4_setNeed 54 = .ok (.istore 5, 2) := dk_54 5 (dk_at dksX4_setNeed_2 7 rfl rfl)
theorem dX4_setNeed_56 : decode cX4_setNeed 56 = .ok (.aload_n 0, 1) := dk_42 (dk_at dksX4_setNeed_2 9 rfl rfl)
theorem dX4_setNeed_57 : decode cX4_setNeed 57 = .ok (.iload_n 1, 1) := dk_27 (dk_at dksX4_setNeed_2 10 rfl rfl)
theorem dX4_setNeed_58 : decode cX4_setNeed 58 = .ok (.iconst 2, 1) := dk_5 (dk_at dksX4_setNeed_2 11 rfl rfl)
theorem dX4_setNeed_59 : decode cX4_setNeed 59 = .ok (.iload_n 2, 1) := dk_28 (dk_at dksX4_setNeed_2 12 rfl rfl)
theorem dX4_setNeed_60 : decode cX4_setNeed 60 = .ok (.iadd, 1) := dk_96 (dk_at dksX4_setNeed_2 13 rfl rfl)
theorem dX4_setNeed_61 : decode cX4_setNeed 61 = .ok (.iload_n 3, 1) := dk_29 (dk_at dksX4_setNeed_2 14 rfl rfl)
theorem dX4_setNeed_62 : decode cX4_setNeed 62 = .ok (.invokevirtual 179, 3) := dk_182 0 179 (dk_at dksX4_setNeed_2 15 rfl rfl)
theorem dX4_setNeed_65 : decode cX4_setNeed 65 = .ok (.aload_n 0, 1) := dk_42 (dk_at dksX4_setNeed_2 18 rfl rfl)
theorem dX4_setNeed_66 : decode cX4_setNeed 66 = .ok (.iload_n 1, 1) := dk_27 (dk_at dksX4_setNeed_2 19 rfl rfl)
theorem dX4_setNeed_67 : decode cX4_setNeed 67 = .ok (.iconst 5, 1) := dk_8 (dk_at dksX4_setNeed_2 20 rfl rfl)
theorem dX4_setNeed_68 : decode cX4_setNeed 68 = .ok (.iload_n 2, 1) := dk_28 (dk_at dksX4_setNeed_2 21 rfl rfl)
theorem dX4_setNeed_69 : decode cX4_setNeed 69 = .ok (.iadd, 1) := dk_96 (dk_at dksX4_setNeed_2 22 rfl rfl)
theorem dX4_setNeed_70 : decode cX4_setNeed 70 = .ok (.iload 4, 2) := dk_21 4 (dk_at dksX4_setNeed_3 0 rfl rfl)
theorem dX4_setNeed_72 : decode cX4_setNeed 72 = .ok (.invokevirtual 179, 3) := dk_182 0 179 (dk_at dksX4_setNeed_3 2 rfl rfl)
theorem dX4_setNeed_75 : decode cX4_setNeed 75 = .ok (.aload_n 0, 1) := dk_42 (dk_at dksX4_setNeed_3 5 rfl rfl)
theorem dX4_setNeed_76 : decode cX4_setNeed 76 = .ok (.iload 5, 2) := dk_21 5 (dk_at dksX4_setNeed_3 6 rfl rfl)
theorem dX4_setNeed_78 : decode cX4_setNeed 78 = .ok (.invokevirtual 134, 3) := dk_182 0 134 (dk_at dksX4_setNeed_3 8 rfl rfl)
theorem dX4_setNeed_81 : decode cX4_setNeed 81 = .ok (.ireturn, 1) := dk_172 (dk_at dksX4_setNeed_3 11 rfl rfl)
abbrev cX4_isLine : ByteArray := prog_9_method_55_code
def yX4_isLine : MethodName := ⟨RX4, "isLine", "(I)Z"⟩
def dkwX4_isLine_0 : List UInt8 := [27, 3, 42, 180, 0, 7, 16, 102, 46, 4, 100, 184, 0, 92, 172]
abbrev dktX4_isLine_0 : List UInt8 := dkwX4_isLine_0 ++ []
theorem dksX4_isLine_0 : cX4_isLine.data.toList.drop 0 = dktX4_isLine_0 := by decide +kernel
theorem dX4_isLine_0 : decode cX4_isLine 0 = .ok (.iload_n 1, 1) := dk_27 (dk_at dksX4_isLine_0 0 rfl rfl)
theorem dX4_isLine_1 : decode cX4_isLine 1 = .ok (.iconst 0, 1) := dk_3 (dk_at dksX4_isLine_0 1 rfl rfl)
theorem dX4_isLine_2 : decode cX4_isLine 2 = .ok (.aload_n 0, 1) := dk_42 (dk_at dksX4_isLine_0 2 rfl rfl)
theorem dX4_isLine_3 : decode cX4_isLine 3 = .ok (.getfield 7, 3) := dk_180 0 7 (dk_at dksX4_isLine_0 3 rfl rfl)
theorem dX4_isLine_6 : decode cX4_isLine 6 = .ok (.bipush 102, 2) := dk_16 102 (dk_at dksX4_isLine_0 6 rfl rfl)
theorem dX4_isLine_8 : decode cX4_isLine 8 = .ok (.iaload, 1) := dk_46 (dk_at dksX4_isLine_0 8 rfl rfl)
theorem dX4_isLine_9 : decode cX4_isLine 9 = .ok (.iconst 1, 1) := dk_4 (dk_at dksX4_isLine_0 9 rfl rfl)
theorem dX4_isLine_10 : decode cX4_isLine 10 = .ok (.isub, 1) := dk_100 (dk_at dksX4_isLine_0 10 rfl rfl)
theorem dX4_isLine_11 : decode cX4_isLine 11 = .ok (.invokestatic 92, 3) := dk_184 0 92 (dk_at dksX4_isLine_0 11 rfl rfl)
theorem dX4_isLine_14 : decode cX4_isLine 14 = .ok (.ireturn, 1) := dk_172 (dk_at dksX4_isLine_0 14 rfl rfl)
abbrev cX4_line : ByteArray := prog_9_method_56_code
def yX4_line : MethodName := ⟨RX4, "line", "(II)I"⟩
def dkwX4_line_0 : List UInt8 := [42, 180, 0, 7, 16, 103, 16, 9, 27, 104, 96, 28, 96, 46, 172]
abbrev dktX4_line_0 : List UInt8 := dkwX4_line_0 ++ []
theorem dksX4_line_0 : cX4_line.data.toList.drop 0 = dktX4_line_0 := by decide +kernel
theorem dX4_line_0 : decode cX4_line 0 = .ok (.aload_n 0, 1) := dk_42 (dk_at dksX4_line_0 0 rfl rfl)
theorem dX4_line_1 : decode cX4_line 1 = .ok (.getfield 7, 3) := dk_180 0 7 (dk_at dksX4_line_0 1 rfl rfl)
theorem dX4_line_4 : decode cX4_line 4 = .ok (.bipush 103, 2) := dk_16 103 (dk_at dksX4_line_0 4 rfl rfl)
theorem dX4_line_6 : decode cX4_line 6 = .ok (.bipush 9, 2) := dk_16 9 (dk_at dksX4_line_0 6 rfl rfl)
theorem dX4_line_8 : decode cX4_line 8 = .ok (.iload_n 1, 1) := dk_27 (dk_at dksX4_line_0 8 rfl rfl)
theorem dX4_line_9 : decode cX4_line 9 = .ok (.imul, 1) := dk_104 (dk_at dksX4_line_0 9 rfl rfl)
theorem dX4_line_10 : decode cX4_line 10 = .ok (.iadd, 1) := dk_96 (dk_at dksX4_line_0 10 rfl rfl)
theorem dX4_line_11 : decode cX4_line 11 = .ok (.iload_n 2, 1) := dk_28 (dk_at dksX4_line_0 11 rfl rfl)
theorem dX4_line_12 : decode cX4_line 12 = .ok (.iadd, 1) := dk_96 (dk_at dksX4_line_0 12 rfl rfl)
theorem dX4_line_13 : decode cX4_line 13 = .ok (.iaload, 1) := dk_46 (dk_at dksX4_line_0 13 rfl rfl)
theorem dX4_line_14 : decode cX4_line 14 = .ok (.ireturn, 1) := dk_172 (dk_at dksX4_line_0 14 rfl rfl)
abbrev cX4_turnReset : ByteArray := prog_9_method_61_code
def yX4_turnReset : MethodName := ⟨RX4, "turnReset", "(II)Z"⟩
def dkwX4_turnReset_3 : List UInt8 := [172]
abbrev dktX4_turnReset_3 : List UInt8 := dkwX4_turnReset_3 ++ []
def dkwX4_turnReset_2 : List UInt8 := [16, 8, 29, 182, 0, 179, 42, 29, 28, 122, 4, 126, 182, 0, 134, 4, 160, 0, 7, 4, 167, 0, 4, 3]
abbrev dktX4_turnReset_2 : List UInt8 := dkwX4_turnReset_2 ++ dktX4_turnReset_3
def dkwX4_turnReset_1 : List UInt8 := [4, 160, 0, 7, 4, 167, 0, 4, 3, 172, 42, 27, 16, 8, 182, 0, 186, 4, 28, 120, 130, 62, 42, 27]
abbrev dktX4_turnReset_1 : List UInt8 := dkwX4_turnReset_1 ++ dktX4_turnReset_2
def dkwX4_turnReset_0 : List UInt8 := [42, 182, 0, 127, 42, 27, 182, 0, 183, 153, 0, 10, 28, 184, 0, 104, 154, 0, 18, 42, 4, 182, 0, 60]
abbrev dktX4_turnReset_0 : List UInt8 := dkwX4_turnReset_0 ++ dktX4_turnReset_1
theorem dksX4_turnReset_0 : cX4_turnReset.data.toList.drop 0 = dktX4_turnReset_0 := by decide +kernel
theorem dksX4_turnReset_1 : cX4_turnReset.data.toList.drop 24 = dktX4_turnReset_1 := dk_seg dksX4_turnReset_0 24 rfl rfl
theorem dksX4_turnReset_2 : cX4_turnReset.data.toList.drop 48 = dktX4_turnReset_2 := dk_seg dksX4_turnReset_1 24 rfl rfl
theorem dksX4_turnReset_3 : cX4_turnReset.data.toList.drop 72 = dktX4_turnReset_3 := dk_seg dksX4_turnReset_2 24 rfl rfl
theorem dX4_turnReset_0 : decode cX4_turnReset 0 = .ok (.aload_n 0, 1) := dk_42 (dk_at dksX4_turnReset_0 0 rfl rfl)
theorem dX4_turnReset_1 : decode cX4_turnReset 1 = .ok (.invokevirtual 127, 3) := dk_182 0 127 (dk_at dksX4_turnReset_0 1 rfl rfl)
theorem dX4_turnReset_4 : decode cX4_turnReset 4 = .ok (.aload_n 0, 1) := dk_42 (dk_at dksX4_turnReset_0 4 rfl rfl)
theorem dX4_turnReset_5 : decode cX4_turnReset 5 = .ok (.iload_n 1, 1) := dk_27 (dk_at dksX4_turnReset_0 5 rfl rfl)
theorem dX4_turnReset_6 : decode cX4_turnReset 6 = .ok (.invokevirtual 183, 3) := dk_182 0 183 (dk_at dksX4_turnReset_0 6 rfl rfl)
theorem dX4_turnReset_9 : decode cX4_turnReset 9 = .ok (.ifCond .eq 10, 3) := dk_153 0 10 (dk_at dksX4_turnReset_0 9 rfl rfl)
theorem dX4_turnReset_12 : decode cX4_turnReset 12 = .ok (.iload_n 2, 1) := dk_28 (dk_at dksX4_turnReset_0 12 rfl rfl)
theorem dX4_turnReset_13 : decode cX4_turnReset 13 = .ok (.invokestatic 104, 3) := dk_184 0 104 (dk_at dksX4_turnReset_0 13 rfl rfl)
theorem dX4_turnReset_16 : decode cX4_turnReset 16 = .ok (.ifCond .ne 18, 3) := dk_154 0 18 (dk_at dksX4_turnReset_0 16 rfl rfl)
theorem dX4_turnReset_19 : decode cX4_turnReset 19 = .ok (.aload_n 0, 1) := dk_42 (dk_at dksX4_turnReset_0 19 rfl rfl)
theorem dX4_turnReset_20 : decode cX4_turnReset 20 = .ok (.iconst 1, 1) := dk_4 (dk_at dksX4_turnReset_0 20 rfl rfl)
theorem dX4_turnReset_21 : decode cX4_turnReset 21 = .ok (.invokevirtual 60, 3) := dk_182 0 60 (dk_at dksX4_turnReset_0 21 rfl rfl)
theorem dX4_turnReset_24 : decode cX4_turnReset 24 = .ok (.iconst 1, 1) := dk_4 (dk_at dksX4_turnReset_1 0 rfl rfl)
theorem dX4_turnReset_25 : decode cX4_turnReset 25 = .ok (.if_icmp .ne 7, 3) := dk_160 0 7 (dk_at dksX4_turnReset_1 1 rfl rfl)
theorem dX4_turnReset_28 : decode cX4_turnReset 28 = .ok (.iconst 1, 1) := dk_4 (dk_at dksX4_turnReset_1 4 rfl rfl)
theorem dX4_turnReset_29 : decode cX4_turnReset 29 = .ok (.goto 4, 3) := dk_167 0 4 (dk_at dksX4_turnReset_1 5 rfl rfl)
theorem dX4_turnReset_32 : decode cX4_turnReset 32 = .ok (.iconst 0, 1) := dk_3 (dk_at dksX4_turnReset_1 8 rfl rfl)
theorem dX4_turnReset_33 : decode cX4_turnReset 33 = .ok (.ireturn, 1) := dk_172 (dk_at dksX4_turnReset_1 9 rfl rfl)
theorem dX4_turnReset_34 : decode cX4_turnReset 34 = .ok (.aload_n 0, 1) := dk_42 (dk_at dksX4_turnReset_1 10 rfl rfl)
theorem dX4_turnReset_35 : decode cX4_turnReset 35 = .ok (.iload_n 1, 1) := dk_27 (dk_at dksX4_turnReset_1 11 rfl rfl)
theorem dX4_turnReset_36 : decode cX4_turnReset 36 = .ok (.bipush 8, 2) := dk_16 8 (dk_at dksX4_turnReset_1 12 rfl rfl)
theorem dX4_turnReset_38 : decode cX4_turnReset 38 = .ok (.invokevirtual 186, 3) := dk_182 0 186 (dk_at dksX4_turnReset_1 14 rfl rfl)
theorem dX4_turnReset_41 : decode cX4_turnReset 41 = .ok (.iconst 1, 1) := dk_4 (dk_at dksX4_turnReset_1 17 rfl rfl)
theorem dX4_turnReset_42 : decode cX4_turnReset 42 = .ok (.iload_n 2, 1) := dk_28 (dk_at dksX4_turnReset_1 18 rfl rfl)
theorem dX4_turnReset_43 : decode cX4_turnReset 43 = .ok (.ishl, 1) := dk_120 (dk_at dksX4_turnReset_1 19 rfl rfl)
theorem dX4_turnReset_44 : decode cX4_turnReset 44 = .ok (.ixor, 1) := dk_130 (dk_at dksX4_turnReset_1 20 rfl rfl)
theorem dX4_turnReset_45 : decode cX4_turnReset 45 = .ok (.istore_n 3, 1) := dk_62 (dk_at dksX4_turnReset_1 21 rfl rfl)
theorem dX4_turnReset_46 : decode cX4_turnReset 46 = .ok (.aload_n 0, 1) := dk_42 (dk_at dksX4_turnReset_1 22 rfl rfl)
theorem dX4_turnReset_47 : decode cX4_turnReset 47 = .ok (.iload_n 1, 1) := dk_27 (dk_at dksX4_turnReset_1 23 rfl rfl)
theorem dX4_turnReset_48 : decode cX4_turnReset 48 = .ok (.bipush 8, 2) := dk_16 8 (dk_at dksX4_turnReset_2 0 rfl rfl)
theorem dX4_turnReset_50 : decode cX4_turnReset 50 = .ok (.iload_n 3, 1) := dk_29 (dk_at dksX4_turnReset_2 2 rfl rfl)
theorem dX4_turnReset_51 : decode cX4_turnReset 51 = .ok (.invokevirtual 179, 3) := dk_182 0 179 (dk_at dksX4_turnReset_2 3 rfl rfl)
theorem dX4_turnReset_54 : decode cX4_turnReset 54 = .ok (.aload_n 0, 1) := dk_42 (dk_at dksX4_turnReset_2 6 rfl rfl)
theorem dX4_turnReset_55 : decode cX4_turnReset 55 = .ok (.iload_n 3, 1) := dk_29 (dk_at dksX4_turnReset_2 7 rfl rfl)
theorem dX4_turnReset_56 : decode cX4_turnReset 56 = .ok (.iload_n 2, 1) := dk_28 (dk_at dksX4_turnReset_2 8 rfl rfl)
theorem dX4_turnReset_57 : decode cX4_turnReset 57 = .ok (.ishr, 1) := dk_122 (dk_at dksX4_turnReset_2 9 rfl rfl)
theorem dX4_turnReset_58 : decode cX4_turnReset 58 = .ok (.iconst 1, 1) := dk_4 (dk_at dksX4_turnReset_2 10 rfl rfl)
theorem dX4_turnReset_59 : decode cX4_turnReset 59 = .ok (.iand, 1) := dk_126 (dk_at dksX4_turnReset_2 11 rfl rfl)
theorem dX4_turnReset_60 : decode cX4_turnReset 60 = .ok (.invokevirtual 134, 3) := dk_182 0 134 (dk_at dksX4_turnReset_2 12 rfl rfl)
theorem dX4_turnReset_63 : decode cX4_turnReset 63 = .ok (.iconst 1, 1) := dk_4 (dk_at dksX4_turnReset_2 15 rfl rfl)
theorem dX4_turnReset_64 : decode cX4_turnReset 64 = .ok (.if_icmp .ne 7, 3) := dk_160 0 7 (dk_at dksX4_turnReset_2 16 rfl rfl)
theorem dX4_turnReset_67 : decode cX4_turnReset 67 = .ok (.iconst 1, 1) := dk_4 (dk_at dksX4_turnReset_2 19 rfl rfl)
theorem dX4_turnReset_68 : decode cX4_turnReset 68 = .ok (.goto 4, 3) := dk_167 0 4 (dk_at dksX4_turnReset_2 20 rfl rfl)
theorem dX4_turnReset_71 : decode cX4_turnReset 71 = .ok (.iconst 0, 1) := dk_3 (dk_at dksX4_turnReset_2 23 rfl rfl)
theorem dX4_turnReset_72 : decode cX4_turnReset 72 = .ok (.ireturn, 1) := dk_172 (dk_at dksX4_turnReset_3 0 rfl rfl)
abbrev cX4_told : ByteArray := prog_9_method_63_code
def yX4_told : MethodName := ⟨RX4, "told", "(II)I"⟩
def dkwX4_told_1 : List UInt8 := [182, 0, 193, 167, 0, 4, 3, 172]
abbrev dktX4_told_1 : List UInt8 := dkwX4_told_1 ++ []
def dkwX4_told_0 : List UInt8 := [42, 27, 28, 184, 0, 96, 182, 0, 189, 153, 0, 21, 42, 42, 180, 0, 7, 3, 7, 27, 104, 96, 28, 96]
abbrev dktX4_told_0 : List UInt8 := dkwX4_told_0 ++ dktX4_told_1
theorem dksX4_told_0 : cX4_told.data.toList.drop 0 = dktX4_told_0 := by decide +kernel
theorem dksX4_told_1 : cX4_told.data.toList.drop 24 = dktX4_told_1 := dk_seg dksX4_told_0 24 rfl rfl
theorem dX4_told_0 : decode cX4_told 0 = .ok (.aload_n 0, 1) := dk_42 (dk_at dksX4_told_0 0 rfl rfl)
theorem dX4_told_1 : decode cX4_told 1 = .ok (.iload_n 1, 1) := dk_27 (dk_at dksX4_told_0 1 rfl rfl)
theorem dX4_told_2 : decode cX4_told 2 = .ok (.iload_n 2, 1) := dk_28 (dk_at dksX4_told_0 2 rfl rfl)
theorem dX4_told_3 : decode cX4_told 3 = .ok (.invokestatic 96, 3) := dk_184 0 96 (dk_at dksX4_told_0 3 rfl rfl)
theorem dX4_told_6 : decode cX4_told 6 = .ok (.invokevirtual 189, 3) := dk_182 0 189 (dk_at dksX4_told_0 6 rfl rfl)
theorem dX4_told_9 : decode cX4_told 9 = .ok (.ifCond .eq 21, 3) := dk_153 0 21 (dk_at dksX4_told_0 9 rfl rfl)
theorem dX4_told_12 : decode cX4_told 12 = .ok (.aload_n 0, 1) := dk_42 (dk_at dksX4_told_0 12 rfl rfl)
theorem dX4_told_13 : decode cX4_told 13 = .ok (.aload_n 0, 1) := dk_42 (dk_at dksX4_told_0 13 rfl rfl)
theorem dX4_told_14 : decode cX4_told 14 = .ok (.getfield 7, 3) := dk_180 0 7 (dk_at dksX4_told_0 14 rfl rfl)
theorem dX4_told_17 : decode cX4_told 17 = .ok (.iconst 0, 1) := dk_3 (dk_at dksX4_told_0 17 rfl rfl)
theorem dX4_told_18 : decode cX4_told 18 = .ok (.iconst 4, 1) := dk_7 (dk_at dksX4_told_0 18 rfl rfl)
theorem dX4_told_19 : decode cX4_told 19 = .ok (.iload_n 1, 1) := dk_27 (dk_at dksX4_told_0 19 rfl rfl)
theorem dX4_told_20 : decode cX4_told 20 = .ok (.imul, 1) := dk_104 (dk_at dksX4_told_0 20 rfl rfl)
theorem dX4_told_21 : decode cX4_told 21 = .ok (.iadd, 1) := dk_96 (dk_at dksX4_told_0 21 rfl rfl)
theorem dX4_told_22 : decode cX4_told 22 = .ok (.iload_n 2, 1) := dk_28 (dk_at dksX4_told_0 22 rfl rfl)
theorem dX4_told_23 : decode cX4_told 23 = .ok (.iadd, 1) := dk_96 (dk_at dksX4_told_0 23 rfl rfl)
theorem dX4_told_24 : decode cX4_told 24 = .ok (.invokevirtual 193, 3) := dk_182 0 193 (dk_at dksX4_told_1 0 rfl rfl)
theorem dX4_told_27 : decode cX4_told 27 = .ok (.goto 4, 3) := dk_167 0 4 (dk_at dksX4_told_1 3 rfl rfl)
theorem dX4_told_30 : decode cX4_told 30 = .ok (.iconst 0, 1) := dk_3 (dk_at dksX4_told_1 6 rfl rfl)
theorem dX4_told_31 : decode cX4_told 31 = .ok (.ireturn, 1) := dk_172 (dk_at dksX4_told_1 7 rfl rfl)
abbrev cX4_asks : ByteArray := prog_9_method_4_code
def yX4_asks : MethodName := ⟨RX4, "asks", "(Z)Z"⟩
def dkwX4_asks_0 : List UInt8 := [42, 27, 153, 0, 7, 3, 167, 0, 4, 4, 181, 0, 49, 27, 172]
abbrev dktX4_asks_0 : List UInt8 := dkwX4_asks_0 ++ []
theorem dksX4_asks_0 : cX4_asks.data.toList.drop 0 = dktX4_asks_0 := by decide +kernel
theorem dX4_asks_0 : decode cX4_asks 0 = .ok (.aload_n 0, 1) := dk_42 (dk_at dksX4_asks_0 0 rfl rfl)
theorem dX4_asks_1 : decode cX4_asks 1 = .ok (.iload_n 1, 1) := dk_27 (dk_at dksX4_asks_0 1 rfl rfl)
theorem dX4_asks_2 : decode cX4_asks 2 = .ok (.ifCond .eq 7, 3) := dk_153 0 7 (dk_at dksX4_asks_0 2 rfl rfl)
theorem dX4_asks_5 : decode cX4_asks 5 = .ok (.iconst 0, 1) := dk_3 (dk_at dksX4_asks_0 5 rfl rfl)
theorem dX4_asks_6 : decode cX4_asks 6 = .ok (.goto 4, 3) := dk_167 0 4 (dk_at dksX4_asks_0 6 rfl rfl)
theorem dX4_asks_9 : decode cX4_asks 9 = .ok (.iconst 1, 1) := dk_4 (dk_at dksX4_asks_0 9 rfl rfl)
theorem dX4_asks_10 : decode cX4_asks 10 = .ok (.putfield 49, 3) := dk_181 0 49 (dk_at dksX4_asks_0 10 rfl rfl)
theorem dX4_asks_13 : decode cX4_asks 13 = .ok (.iload_n 1, 1) := dk_27 (dk_at dksX4_asks_0 13 rfl rfl)
theorem dX4_asks_14 : decode cX4_asks 14 = .ok (.ireturn, 1) := dk_172 (dk_at dksX4_asks_0 14 rfl rfl)
abbrev cX4_bound : ByteArray := prog_9_method_62_code
def yX4_bound : MethodName := ⟨RX4, "bound", "([II)I"⟩
def dkwX4_bound_0 : List UInt8 := [43, 28, 46, 18, 67, 160, 0, 11, 42, 5, 182, 0, 60, 167, 0, 6, 43, 28, 46, 172]
abbrev dktX4_bound_0 : List UInt8 := dkwX4_bound_0 ++ []
theorem dksX4_bound_0 : cX4_bound.data.toList.drop 0 = dktX4_bound_0 := by decide +kernel
theorem dX4_bound_0 : decode cX4_bound 0 = .ok (.aload_n 1, 1) := dk_43 (dk_at dksX4_bound_0 0 rfl rfl)
theorem dX4_bound_1 : decode cX4_bound 1 = .ok (.iload_n 2, 1) := dk_28 (dk_at dksX4_bound_0 1 rfl rfl)
theorem dX4_bound_2 : decode cX4_bound 2 = .ok (.iaload, 1) := dk_46 (dk_at dksX4_bound_0 2 rfl rfl)
theorem dX4_bound_3 : decode cX4_bound 3 = .ok (.ldc 67, 2) := dk_18 67 (dk_at dksX4_bound_0 3 rfl rfl)
theorem dX4_bound_5 : decode cX4_bound 5 = .ok (.if_icmp .ne 11, 3) := dk_160 0 11 (dk_at dksX4_bound_0 5 rfl rfl)
theorem dX4_bound_8 : decode cX4_bound 8 = .ok (.aload_n 0, 1) := dk_42 (dk_at dksX4_bound_0 8 rfl rfl)
theorem dX4_bound_9 : decode cX4_bound 9 = .ok (.iconst 2, 1) := dk_5 (dk_at dksX4_bound_0 9 rfl rfl)
theorem dX4_bound_10 : decode cX4_bound 10 = .ok (.invokevirtual 60, 3) := dk_182 0 60 (dk_at dksX4_bound_0 10 rfl rfl)
theorem dX4_bound_13 : decode cX4_bound 13 = .ok (.goto 6, 3) := dk_167 0 6 (dk_at dksX4_bound_0 13 rfl rfl)
theorem dX4_bound_16 : decode cX4_bound 16 = .ok (.aload_n 1, 1) := dk_43 (dk_at dksX4_bound_0 16 rfl rfl)
theorem dX4_bound_17 : decode cX4_bound 17 = .ok (.iload_n 2, 1) := dk_28 (dk_at dksX4_bound_0 17 rfl rfl)
theorem dX4_bound_18 : decode cX4_bound 18 = .ok (.iaload, 1) := dk_46 (dk_at dksX4_bound_0 18 rfl rfl)
theorem dX4_bound_19 : decode cX4_bound 19 = .ok (.ireturn, 1) := dk_172 (dk_at dksX4_bound_0 19 rfl rfl)
abbrev cX4_tightened : ByteArray := prog_9_method_64_code
def yX4_tightened : MethodName := ⟨RX4, "tightened", "(II)I"⟩
def dkwX4_tightened_1 : List UInt8 := [180, 0, 25, 7, 27, 104, 28, 96, 182, 0, 193, 167, 0, 8, 42, 5, 182, 0, 60, 172]
abbrev dktX4_tightened_1 : List UInt8 := dkwX4_tightened_1 ++ []
def dkwX4_tightened_0 : List UInt8 := [42, 27, 28, 184, 0, 96, 182, 0, 189, 154, 0, 5, 3, 172, 42, 182, 0, 82, 153, 0, 19, 42, 42]
abbrev dktX4_tightened_0 : List UInt8 := dkwX4_tightened_0 ++ dktX4_tightened_1
theorem dksX4_tightened_0 : cX4_tightened.data.toList.drop 0 = dktX4_tightened_0 := by decide +kernel
theorem dksX4_tightened_1 : cX4_tightened.data.toList.drop 23 = dktX4_tightened_1 := dk_seg dksX4_tightened_0 23 rfl rfl
theorem dX4_tightened_0 : decode cX4_tightened 0 = .ok (.aload_n 0, 1) := dk_42 (dk_at dksX4_tightened_0 0 rfl rfl)
theorem dX4_tightened_1 : decode cX4_tightened 1 = .ok (.iload_n 1, 1) := dk_27 (dk_at dksX4_tightened_0 1 rfl rfl)
theorem dX4_tightened_2 : decode cX4_tightened 2 = .ok (.iload_n 2, 1) := dk_28 (dk_at dksX4_tightened_0 2 rfl rfl)
theorem dX4_tightened_3 : decode cX4_tightened 3 = .ok (.invokestatic 96, 3) := dk_184 0 96 (dk_at dksX4_tightened_0 3 rfl rfl)
theorem dX4_tightened_6 : decode cX4_tightened 6 = .ok (.invokevirtual 189, 3) := dk_182 0 189 (dk_at dksX4_tightened_0 6 rfl rfl)
theorem dX4_tightened_9 : decode cX4_tightened 9 = .ok (.ifCond .ne 5, 3) := dk_154 0 5 (dk_at dksX4_tightened_0 9 rfl rfl)
theorem dX4_tightened_12 : decode cX4_tightened 12 = .ok (.iconst 0, 1) := dk_3 (dk_at dksX4_tightened_0 12 rfl rfl)
theorem dX4_tightened_13 : decode cX4_tightened 13 = .ok (.ireturn, 1) := dk_172 (dk_at dksX4_tightened_0 13 rfl rfl)
theorem dX4_tightened_14 : decode cX4_tightened 14 = .ok (.aload_n 0, 1) := dk_42 (dk_at dksX4_tightened_0 14 rfl rfl)
theorem dX4_tightened_15 : decode cX4_tightened 15 = .ok (.invokevirtual 82, 3) := dk_182 0 82 (dk_at dksX4_tightened_0 15 rfl rfl)
theorem dX4_tightened_18 : decode cX4_tightened 18 = .ok (.ifCond .eq 19, 3) := dk_153 0 19 (dk_at dksX4_tightened_0 18 rfl rfl)
theorem dX4_tightened_21 : decode cX4_tightened 21 = .ok (.aload_n 0, 1) := dk_42 (dk_at dksX4_tightened_0 21 rfl rfl)
theorem dX4_tightened_22 : decode cX4_tightened 22 = .ok (.aload_n 0, 1) := dk_42 (dk_at dksX4_tightened_0 22 rfl rfl)
theorem dX4_tightened_23 : decode cX4_tightened 23 = .ok (.getfield 25, 3) := dk_180 0 25 (dk_at dksX4_tightened_1 0 rfl rfl)
theorem dX4_tightened_26 : decode cX4_tightened 26 = .ok (.iconst 4, 1) := dk_7 (dk_at dksX4_tightened_1 3 rfl rfl)
theorem dX4_tightened_27 : decode cX4_tightened 27 = .ok (.iload_n 1, 1) := dk_27 (dk_at dksX4_tightened_1 4 rfl rfl)
theorem dX4_tightened_28 : decode cX4_tightened 28 = .ok (.imul, 1) := dk_104 (dk_at dksX4_tightened_1 5 rfl rfl)
theorem dX4_tightened_29 : decode cX4_tightened 29 = .ok (.iload_n 2, 1) := dk_28 (dk_at dksX4_tightened_1 6 rfl rfl)
theorem dX4_tightened_30 : decode cX4_tightened 30 = .ok (.iadd, 1) := dk_96 (dk_at dksX4_tightened_1 7 rfl rfl)
theorem dX4_tightened_31 : decode cX4_tightened 31 = .ok (.invokevirtual 193, 3) := dk_182 0 193 (dk_at dksX4_tightened_1 8 rfl rfl)
theorem dX4_tightened_34 : decode cX4_tightened 34 = .ok (.goto 8, 3) := dk_167 0 8 (dk_at dksX4_tightened_1 11 rfl rfl)
theorem dX4_tightened_37 : decode cX4_tightened 37 = .ok (.aload_n 0, 1) := dk_42 (dk_at dksX4_tightened_1 14 rfl rfl)
theorem dX4_tightened_38 : decode cX4_tightened 38 = .ok (.iconst 2, 1) := dk_5 (dk_at dksX4_tightened_1 15 rfl rfl)
theorem dX4_tightened_39 : decode cX4_tightened 39 = .ok (.invokevirtual 60, 3) := dk_182 0 60 (dk_at dksX4_tightened_1 16 rfl rfl)
theorem dX4_tightened_42 : decode cX4_tightened 42 = .ok (.ireturn, 1) := dk_172 (dk_at dksX4_tightened_1 19 rfl rfl)
abbrev cX4_isTight : ByteArray := prog_9_method_65_code
def yX4_isTight : MethodName := ⟨RX4, "isTight", "()Z"⟩
def dkwX4_isTight_2 : List UInt8 := [132, 2, 1, 167, 255, 220, 27, 172]
abbrev dktX4_isTight_2 : List UInt8 := dkwX4_isTight_2 ++ []
def dkwX4_isTight_1 : List UInt8 := [180, 0, 7, 3, 28, 96, 46, 42, 180, 0, 25, 28, 46, 160, 0, 7, 4, 167, 0, 4, 3, 60]
abbrev dktX4_isTight_1 : List UInt8 := dkwX4_isTight_1 ++ dktX4_isTight_2
def dkwX4_isTight_0 : List UInt8 := [42, 3, 181, 0, 49, 42, 182, 0, 82, 60, 3, 61, 28, 16, 16, 162, 0, 36, 27, 153, 0, 24, 42]
abbrev dktX4_isTight_0 : List UInt8 := dkwX4_isTight_0 ++ dktX4_isTight_1
theorem dksX4_isTight_0 : cX4_isTight.data.toList.drop 0 = dktX4_isTight_0 := by decide +kernel
theorem dksX4_isTight_1 : cX4_isTight.data.toList.drop 23 = dktX4_isTight_1 := dk_seg dksX4_isTight_0 23 rfl rfl
theorem dksX4_isTight_2 : cX4_isTight.data.toList.drop 45 = dktX4_isTight_2 := dk_seg dksX4_isTight_1 22 rfl rfl
theorem dX4_isTight_0 : decode cX4_isTight 0 = .ok (.aload_n 0, 1) := dk_42 (dk_at dksX4_isTight_0 0 rfl rfl)
theorem dX4_isTight_1 : decode cX4_isTight 1 = .ok (.iconst 0, 1) := dk_3 (dk_at dksX4_isTight_0 1 rfl rfl)
theorem dX4_isTight_2 : decode cX4_isTight 2 = .ok (.putfield 49, 3) := dk_181 0 49 (dk_at dksX4_isTight_0 2 rfl rfl)
theorem dX4_isTight_5 : decode cX4_isTight 5 = .ok (.aload_n 0, 1) := dk_42 (dk_at dksX4_isTight_0 5 rfl rfl)
theorem dX4_isTight_6 : decode cX4_isTight 6 = .ok (.invokevirtual 82, 3) := dk_182 0 82 (dk_at dksX4_isTight_0 6 rfl rfl)
theorem dX4_isTight_9 : decode cX4_isTight 9 = .ok (.istore_n 1, 1) := dk_60 (dk_at dksX4_isTight_0 9 rfl rfl)
theorem dX4_isTight_10 : decode cX4_isTight 10 = .ok (.iconst 0, 1) := dk_3 (dk_at dksX4_isTight_0 10 rfl rfl)
theorem dX4_isTight_11 : decode cX4_isTight 11 = .ok (.istore_n 2, 1) := dk_61 (dk_at dksX4_isTight_0 11 rfl rfl)
theorem dX4_isTight_12 : decode cX4_isTight 12 = .ok (.iload_n 2, 1) := dk_28 (dk_at dksX4_isTight_0 12 rfl rfl)
theorem dX4_isTight_13 : decode cX4_isTight 13 = .ok (.bipush 16, 2) := dk_16 16 (dk_at dksX4_isTight_0 13 rfl rfl)
theorem dX4_isTight_15 : decode cX4_isTight 15 = .ok (.if_icmp .ge 36, 3) := dk_162 0 36 (dk_at dksX4_isTight_0 15 rfl rfl)
theorem dX4_isTight_18 : decode cX4_isTight 18 = .ok (.iload_n 1, 1) := dk_27 (dk_at dksX4_isTight_0 18 rfl rfl)
theorem dX4_isTight_19 : decode cX4_isTight 19 = .ok (.ifCond .eq 24, 3) := dk_153 0 24 (dk_at dksX4_isTight_0 19 rfl rfl)
theorem dX4_isTight_22 : decode cX4_isTight 22 = .ok (.aload_n 0, 1) := dk_42 (dk_at dksX4_isTight_0 22 rfl rfl)
theorem dX4_isTight_23 : decode cX4_isTight 23 = .ok (.getfield 7, 3) := dk_180 0 7 (dk_at dksX4_isTight_1 0 rfl rfl)
theorem dX4_isTight_26 : decode cX4_isTight 26 = .ok (.iconst 0, 1) := dk_3 (dk_at dksX4_isTight_1 3 rfl rfl)
theorem dX4_isTight_27 : decode cX4_isTight 27 = .ok (.iload_n 2, 1) := dk_28 (dk_at dksX4_isTight_1 4 rfl rfl)
theorem dX4_isTight_28 : decode cX4_isTight 28 = .ok (.iadd, 1) := dk_96 (dk_at dksX4_isTight_1 5 rfl rfl)
theorem dX4_isTight_29 : decode cX4_isTight 29 = .ok (.iaload, 1) := dk_46 (dk_at dksX4_isTight_1 6 rfl rfl)
theorem dX4_isTight_30 : decode cX4_isTight 30 = .ok (.aload_n 0, 1) := dk_42 (dk_at dksX4_isTight_1 7 rfl rfl)
theorem dX4_isTight_31 : decode cX4_isTight 31 = .ok (.getfield 25, 3) := dk_180 0 25 (dk_at dksX4_isTight_1 8 rfl rfl)
theorem dX4_isTight_34 : decode cX4_isTight 34 = .ok (.iload_n 2, 1) := dk_28 (dk_at dksX4_isTight_1 11 rfl rfl)
theorem dX4_isTight_35 : decode cX4_isTight 35 = .ok (.iaload, 1) := dk_46 (dk_at dksX4_isTight_1 12 rfl rfl)
theorem dX4_isTight_36 : decode cX4_isTight 36 = .ok (.if_icmp .ne 7, 3) := dk_160 0 7 (dk_at dksX4_isTight_1 13 rfl rfl)
theorem dX4_isTight_39 : decode cX4_isTight 39 = .ok (.iconst 1, 1) := dk_4 (dk_at dksX4_isTight_1 16 rfl rfl)
theorem dX4_isTight_40 : decode cX4_isTight 40 = .ok (.goto 4, 3) := dk_167 0 4 (dk_at dksX4_isTight_1 17 rfl rfl)
theorem dX4_isTight_43 : decode cX4_isTight 43 = .ok (.iconst 0, 1) := dk_3 (dk_at dksX4_isTight_1 20 rfl rfl)
theorem dX4_isTight_44 : decode cX4_isTight 44 = .ok (.istore_n 1, 1) := dk_60 (dk_at dksX4_isTight_1 21 rfl rfl)
theorem dX4_isTight_45 : decode cX4_isTight 45 = .ok (.iinc 2 1, 3) := dk_132 2 1 (dk_at dksX4_isTight_2 0 rfl rfl)
theorem dX4_isTight_48 : decode cX4_isTight 48 = .ok (.goto (-36), 3) := dk_167 255 220 (dk_at dksX4_isTight_2 3 rfl rfl)
theorem dX4_isTight_51 : decode cX4_isTight 51 = .ok (.iload_n 1, 1) := dk_27 (dk_at dksX4_isTight_2 6 rfl rfl)
theorem dX4_isTight_52 : decode cX4_isTight 52 = .ok (.ireturn, 1) := dk_172 (dk_at dksX4_isTight_2 7 rfl rfl)
abbrev cX4_isEmpty : ByteArray := prog_9_method_67_code
def yX4_isEmpty : MethodName := ⟨RX4, "isEmpty", "()Z"⟩
theorem dX4_isEmpty_0 : decode cX4_isEmpty 0 = .ok (.aload_n 0, 1) := by decide +kernel
theorem dX4_isEmpty_1 : decode cX4_isEmpty 1 = .ok (.invokevirtual 197, 3) := by decide +kernel
theorem dX4_isEmpty_4 : decode cX4_isEmpty 4 = .ok (.ireturn, 1) := by decide +kernel
abbrev cX4_hasNone : ByteArray := prog_9_method_66_code
def yX4_hasNone : MethodName := ⟨RX4, "hasNone", "()Z"⟩
def dkwX4_hasNone_0 : List UInt8 := [42, 3, 181, 0, 49, 42, 182, 0, 82, 154, 0, 7, 4, 167, 0, 4, 3, 172]
abbrev dktX4_hasNone_0 : List UInt8 := dkwX4_hasNone_0 ++ []
theorem dksX4_hasNone_0 : cX4_hasNone.data.toList.drop 0 = dktX4_hasNone_0 := by decide +kernel
theorem dX4_hasNone_0 : decode cX4_hasNone 0 = .ok (.aload_n 0, 1) := dk_42 (dk_at dksX4_hasNone_0 0 rfl rfl)
theorem dX4_hasNone_1 : decode cX4_hasNone 1 = .ok (.iconst 0, 1) := dk_3 (dk_at dksX4_hasNone_0 1 rfl rfl)
theorem dX4_hasNone_2 : decode cX4_hasNone 2 = .ok (.putfield 49, 3) := dk_181 0 49 (dk_at dksX4_hasNone_0 2 rfl rfl)
theorem dX4_hasNone_5 : decode cX4_hasNone 5 = .ok (.aload_n 0, 1) := dk_42 (dk_at dksX4_hasNone_0 5 rfl rfl)
theorem dX4_hasNone_6 : decode cX4_hasNone 6 = .ok (.invokevirtual 82, 3) := dk_182 0 82 (dk_at dksX4_hasNone_0 6 rfl rfl)
theorem dX4_hasNone_9 : decode cX4_hasNone 9 = .ok (.ifCond .ne 7, 3) := dk_154 0 7 (dk_at dksX4_hasNone_0 9 rfl rfl)
theorem dX4_hasNone_12 : decode cX4_hasNone 12 = .ok (.iconst 1, 1) := dk_4 (dk_at dksX4_hasNone_0 12 rfl rfl)
theorem dX4_hasNone_13 : decode cX4_hasNone 13 = .ok (.goto 4, 3) := dk_167 0 4 (dk_at dksX4_hasNone_0 13 rfl rfl)
theorem dX4_hasNone_16 : decode cX4_hasNone 16 = .ok (.iconst 0, 1) := dk_3 (dk_at dksX4_hasNone_0 16 rfl rfl)
theorem dX4_hasNone_17 : decode cX4_hasNone 17 = .ok (.ireturn, 1) := dk_172 (dk_at dksX4_hasNone_0 17 rfl rfl)
abbrev cX4_isEmptyByMoments : ByteArray := prog_9_method_68_code
def yX4_isEmptyByMoments : MethodName := ⟨RX4, "isEmptyByMoments", "()Z"⟩
theorem dX4_isEmptyByMoments_0 : decode cX4_isEmptyByMoments 0 = .ok (.aload_n 0, 1) := by decide +kernel
theorem dX4_isEmptyByMoments_1 : decode cX4_isEmptyByMoments 1 = .ok (.invokevirtual 197, 3) := by decide +kernel
theorem dX4_isEmptyByMoments_4 : decode cX4_isEmptyByMoments 4 = .ok (.ireturn, 1) := by decide +kernel
abbrev cX4_hasMoment : ByteArray := prog_9_method_71_code
def yX4_hasMoment : MethodName := ⟨RX4, "hasMoment", "(III)Z"⟩
def dkwX4_hasMoment_1 : List UInt8 := [153, 0, 7, 4, 167, 0, 4, 3, 172]
abbrev dktX4_hasMoment_1 : List UInt8 := dkwX4_hasMoment_1 ++ []
def dkwX4_hasMoment_0 : List UInt8 := [42, 27, 28, 29, 184, 0, 200, 182, 0, 189, 153, 0, 21, 42, 180, 0, 7, 3, 27, 28, 29, 184, 0, 203]
abbrev dktX4_hasMoment_0 : List UInt8 := dkwX4_hasMoment_0 ++ dktX4_hasMoment_1
theorem dksX4_hasMoment_0 : cX4_hasMoment.data.toList.drop 0 = dktX4_hasMoment_0 := by decide +kernel
theorem dksX4_hasMoment_1 : cX4_hasMoment.data.toList.drop 24 = dktX4_hasMoment_1 := dk_seg dksX4_hasMoment_0 24 rfl rfl
theorem dX4_hasMoment_0 : decode cX4_hasMoment 0 = .ok (.aload_n 0, 1) := dk_42 (dk_at dksX4_hasMoment_0 0 rfl rfl)
theorem dX4_hasMoment_1 : decode cX4_hasMoment 1 = .ok (.iload_n 1, 1) := dk_27 (dk_at dksX4_hasMoment_0 1 rfl rfl)
theorem dX4_hasMoment_2 : decode cX4_hasMoment 2 = .ok (.iload_n 2, 1) := dk_28 (dk_at dksX4_hasMoment_0 2 rfl rfl)
theorem dX4_hasMoment_3 : decode cX4_hasMoment 3 = .ok (.iload_n 3, 1) := dk_29 (dk_at dksX4_hasMoment_0 3 rfl rfl)
theorem dX4_hasMoment_4 : decode cX4_hasMoment 4 = .ok (.invokestatic 200, 3) := dk_184 0 200 (dk_at dksX4_hasMoment_0 4 rfl rfl)
theorem dX4_hasMoment_7 : decode cX4_hasMoment 7 = .ok (.invokevirtual 189, 3) := dk_182 0 189 (dk_at dksX4_hasMoment_0 7 rfl rfl)
theorem dX4_hasMoment_10 : decode cX4_hasMoment 10 = .ok (.ifCond .eq 21, 3) := dk_153 0 21 (dk_at dksX4_hasMoment_0 10 rfl rfl)
theorem dX4_hasMoment_13 : decode cX4_hasMoment 13 = .ok (.aload_n 0, 1) := dk_42 (dk_at dksX4_hasMoment_0 13 rfl rfl)
theorem dX4_hasMoment_14 : decode cX4_hasMoment 14 = .ok (.getfield 7, 3) := dk_180 0 7 (dk_at dksX4_hasMoment_0 14 rfl rfl)
theorem dX4_hasMoment_17 : decode cX4_hasMoment 17 = .ok (.iconst 0, 1) := dk_3 (dk_at dksX4_hasMoment_0 17 rfl rfl)
theorem dX4_hasMoment_18 : decode cX4_hasMoment 18 = .ok (.iload_n 1, 1) := dk_27 (dk_at dksX4_hasMoment_0 18 rfl rfl)
theorem dX4_hasMoment_19 : decode cX4_hasMoment 19 = .ok (.iload_n 2, 1) := dk_28 (dk_at dksX4_hasMoment_0 19 rfl rfl)
theorem dX4_hasMoment_20 : decode cX4_hasMoment 20 = .ok (.iload_n 3, 1) := dk_29 (dk_at dksX4_hasMoment_0 20 rfl rfl)
theorem dX4_hasMoment_21 : decode cX4_hasMoment 21 = .ok (.invokestatic 203, 3) := dk_184 0 203 (dk_at dksX4_hasMoment_0 21 rfl rfl)
theorem dX4_hasMoment_24 : decode cX4_hasMoment 24 = .ok (.ifCond .eq 7, 3) := dk_153 0 7 (dk_at dksX4_hasMoment_1 0 rfl rfl)
theorem dX4_hasMoment_27 : decode cX4_hasMoment 27 = .ok (.iconst 1, 1) := dk_4 (dk_at dksX4_hasMoment_1 3 rfl rfl)
theorem dX4_hasMoment_28 : decode cX4_hasMoment 28 = .ok (.goto 4, 3) := dk_167 0 4 (dk_at dksX4_hasMoment_1 4 rfl rfl)
theorem dX4_hasMoment_31 : decode cX4_hasMoment 31 = .ok (.iconst 0, 1) := dk_3 (dk_at dksX4_hasMoment_1 7 rfl rfl)
theorem dX4_hasMoment_32 : decode cX4_hasMoment 32 = .ok (.ireturn, 1) := dk_172 (dk_at dksX4_hasMoment_1 8 rfl rfl)
abbrev cX4_isMoment : ByteArray := prog_9_method_70_code
def yX4_isMoment : MethodName := ⟨RX4, "isMoment", "(III)Z"⟩
def dkwX4_isMoment_1 : List UInt8 := [17, 3, 231, 184, 0, 92, 153, 0, 7, 4, 167, 0, 4, 3, 172]
abbrev dktX4_isMoment_1 : List UInt8 := dkwX4_isMoment_1 ++ []
def dkwX4_isMoment_0 : List UInt8 := [26, 3, 17, 3, 231, 184, 0, 92, 153, 0, 29, 27, 3, 17, 3, 231, 184, 0, 92, 153, 0, 18, 28, 3]
abbrev dktX4_isMoment_0 : List UInt8 := dkwX4_isMoment_0 ++ dktX4_isMoment_1
theorem dksX4_isMoment_0 : cX4_isMoment.data.toList.drop 0 = dktX4_isMoment_0 := by decide +kernel
theorem dksX4_isMoment_1 : cX4_isMoment.data.toList.drop 24 = dktX4_isMoment_1 := dk_seg dksX4_isMoment_0 24 rfl rfl
theorem dX4_isMoment_0 : decode cX4_isMoment 0 = .ok (.iload_n 0, 1) := dk_26 (dk_at dksX4_isMoment_0 0 rfl rfl)
theorem dX4_isMoment_1 : decode cX4_isMoment 1 = .ok (.iconst 0, 1) := dk_3 (dk_at dksX4_isMoment_0 1 rfl rfl)
theorem dX4_isMoment_2 : decode cX4_isMoment 2 = .ok (.sipush 999, 3) := dk_17 3 231 (dk_at dksX4_isMoment_0 2 rfl rfl)
theorem dX4_isMoment_5 : decode cX4_isMoment 5 = .ok (.invokestatic 92, 3) := dk_184 0 92 (dk_at dksX4_isMoment_0 5 rfl rfl)
theorem dX4_isMoment_8 : decode cX4_isMoment 8 = .ok (.ifCond .eq 29, 3) := dk_153 0 29 (dk_at dksX4_isMoment_0 8 rfl rfl)
theorem dX4_isMoment_11 : decode cX4_isMoment 11 = .ok (.iload_n 1, 1) := dk_27 (dk_at dksX4_isMoment_0 11 rfl rfl)
theorem dX4_isMoment_12 : decode cX4_isMoment 12 = .ok (.iconst 0, 1) := dk_3 (dk_at dksX4_isMoment_0 12 rfl rfl)
theorem dX4_isMoment_13 : decode cX4_isMoment 13 = .ok (.sipush 999, 3) := dk_17 3 231 (dk_at dksX4_isMoment_0 13 rfl rfl)
theorem dX4_isMoment_16 : decode cX4_isMoment 16 = .ok (.invokestatic 92, 3) := dk_184 0 92 (dk_at dksX4_isMoment_0 16 rfl rfl)
theorem dX4_isMoment_19 : decode cX4_isMoment 19 = .ok (.ifCond .eq 18, 3) := dk_153 0 18 (dk_at dksX4_isMoment_0 19 rfl rfl)
theorem dX4_isMoment_22 : decode cX4_isMoment 22 = .ok (.iload_n 2, 1) := dk_28 (dk_at dksX4_isMoment_0 22 rfl rfl)
theorem dX4_isMoment_23 : decode cX4_isMoment 23 = .ok (.iconst 0, 1) := dk_3 (dk_at dksX4_isMoment_0 23 rfl rfl)
theorem dX4_isMoment_24 : decode cX4_isMoment 24 = .ok (.sipush 999, 3) := dk_17 3 231 (dk_at dksX4_isMoment_1 0 rfl rfl)
theorem dX4_isMoment_27 : decode cX4_isMoment 27 = .ok (.invokestatic 92, 3) := dk_184 0 92 (dk_at dksX4_isMoment_1 3 rfl rfl)
theorem dX4_isMoment_30 : decode cX4_isMoment 30 = .ok (.ifCond .eq 7, 3) := dk_153 0 7 (dk_at dksX4_isMoment_1 6 rfl rfl)
theorem dX4_isMoment_33 : decode cX4_isMoment 33 = .ok (.iconst 1, 1) := dk_4 (dk_at dksX4_isMoment_1 9 rfl rfl)
theorem dX4_isMoment_34 : decode cX4_isMoment 34 = .ok (.goto 4, 3) := dk_167 0 4 (dk_at dksX4_isMoment_1 10 rfl rfl)
theorem dX4_isMoment_37 : decode cX4_isMoment 37 = .ok (.iconst 0, 1) := dk_3 (dk_at dksX4_isMoment_1 13 rfl rfl)
theorem dX4_isMoment_38 : decode cX4_isMoment 38 = .ok (.ireturn, 1) := dk_172 (dk_at dksX4_isMoment_1 14 rfl rfl)
abbrev cX4_allows : ByteArray := prog_9_method_69_code
def yX4_allows : MethodName := ⟨RX4, "allows", "([IIIII)Z"⟩
def dkwX4_allows_5 : List UInt8 := [46, 163, 0, 7, 4, 167, 0, 4, 3, 54, 5, 132, 6, 1, 167, 255, 131, 21, 5, 172]
abbrev dktX4_allows_5 : List UInt8 := dkwX4_allows_5 ++ []
def dkwX4_allows_4 : List UInt8 := [153, 0, 32, 42, 27, 21, 6, 96, 46, 18, 67, 159, 0, 17, 21, 9, 21, 10, 100, 42, 27, 21, 6, 96]
abbrev dktX4_allows_4 : List UInt8 := dkwX4_allows_4 ++ dktX4_allows_5
def dkwX4_allows_3 : List UInt8 := [160, 0, 7, 29, 167, 0, 15, 21, 8, 5, 160, 0, 8, 21, 4, 167, 0, 4, 3, 54, 10, 21, 5]
abbrev dktX4_allows_3 : List UInt8 := dkwX4_allows_3 ++ dktX4_allows_4
def dkwX4_allows_2 : List UInt8 := [160, 0, 8, 21, 4, 167, 0, 4, 3, 54, 9, 21, 8, 154, 0, 7, 28, 167, 0, 25, 21, 8, 4]
abbrev dktX4_allows_2 : List UInt8 := dkwX4_allows_2 ++ dktX4_allows_3
def dkwX4_allows_1 : List UInt8 := [54, 8, 21, 7, 154, 0, 7, 28, 167, 0, 25, 21, 7, 4, 160, 0, 7, 29, 167, 0, 15, 21, 7, 5]
abbrev dktX4_allows_1 : List UInt8 := dkwX4_allows_1 ++ dktX4_allows_2
def dkwX4_allows_0 : List UInt8 := [4, 54, 5, 3, 54, 6, 21, 6, 16, 16, 162, 0, 124, 21, 6, 7, 108, 54, 7, 21, 6, 7, 112]
abbrev dktX4_allows_0 : List UInt8 := dkwX4_allows_0 ++ dktX4_allows_1
theorem dksX4_allows_0 : cX4_allows.data.toList.drop 0 = dktX4_allows_0 := by decide +kernel
theorem dksX4_allows_1 : cX4_allows.data.toList.drop 23 = dktX4_allows_1 := dk_seg dksX4_allows_0 23 rfl rfl
theorem dksX4_allows_2 : cX4_allows.data.toList.drop 47 = dktX4_allows_2 := dk_seg dksX4_allows_1 24 rfl rfl
theorem dksX4_allows_3 : cX4_allows.data.toList.drop 70 = dktX4_allows_3 := dk_seg dksX4_allows_2 23 rfl rfl
theorem dksX4_allows_4 : cX4_allows.data.toList.drop 93 = dktX4_allows_4 := dk_seg dksX4_allows_3 23 rfl rfl
theorem dksX4_allows_5 : cX4_allows.data.toList.drop 117 = dktX4_allows_5 := dk_seg dksX4_allows_4 24 rfl rfl
theorem dX4_allows_0 : decode cX4_allows 0 = .ok (.iconst 1, 1) := dk_4 (dk_at dksX4_allows_0 0 rfl rfl)
theorem dX4_allows_1 : decode cX4_allows 1 = .ok (.istore 5, 2) := dk_54 5 (dk_at dksX4_allows_0 1 rfl rfl)
theorem dX4_allows_3 : decode cX4_allows 3 = .ok (.iconst 0, 1) := dk_3 (dk_at dksX4_allows_0 3 rfl rfl)
theorem dX4_allows_4 : decode cX4_allows 4 = .ok (.istore 6, 2) := dk_54 6 (dk_at dksX4_allows_0 4 rfl rfl)
theorem dX4_allows_6 : decode cX4_allows 6 = .ok (.iload 6, 2) := dk_21 6 (dk_at dksX4_allows_0 6 rfl rfl)
theorem dX4_allows_8 : decode cX4_allows 8 = .ok (.bipush 16, 2) := dk_16 16 (dk_at dksX4_allows_0 8 rfl rfl)
theorem dX4_allows_10 : decode cX4_allows 10 = .ok (.if_icmp .ge 124, 3) := dk_162 0 124 (dk_at dksX4_allows_0 10 rfl rfl)
theorem dX4_allows_13 : decode cX4_allows 13 = .ok (.iload 6, 2) := dk_21 6 (dk_at dksX4_allows_0 13 rfl rfl)
theorem dX4_allows_15 : decode cX4_allows 15 = .ok (.iconst 4, 1) := dk_7 (dk_at dksX4_allows_0 15 rfl rfl)
theorem dX4_allows_16 : decode cX4_allows 16 = .ok (.idiv, 1) := dk_108 (dk_at dksX4_allows_0 16 rfl rfl)
theorem dX4_allows_17 : decode cX4_allows 17 = .ok (.istore 7, 2) := dk_54 7 (dk_at dksX4_allows_0 17 rfl rfl)
theorem dX4_allows_19 : decode cX4_allows 19 = .ok (.iload 6, 2) := dk_21 6 (dk_at dksX4_allows_0 19 rfl rfl)
theorem dX4_allows_21 : decode cX4_allows 21 = .ok (.iconst 4, 1) := dk_7 (dk_at dksX4_allows_0 21 rfl rfl)
theorem dX4_allows_22 : decode cX4_allows 22 = .ok (.irem, 1) := dk_112 (dk_at dksX4_allows_0 22 rfl rfl)
theorem dX4_allows_23 : decode cX4_allows 23 = .ok (.istore 8, 2) := dk_54 8 (dk_at dksX4_allows_1 0 rfl rfl)
theorem dX4_allows_25 : decode cX4_allows 25 = .ok (.iload 7, 2) := dk_21 7 (dk_at dksX4_allows_1 2 rfl rfl)
theorem dX4_allows_27 : decode cX4_allows 27 = .ok (.ifCond .ne 7, 3) := dk_154 0 7 (dk_at dksX4_allows_1 4 rfl rfl)
theorem dX4_allows_30 : decode cX4_allows 30 = .ok (.iload_n 2, 1) := dk_28 (dk_at dksX4_allows_1 7 rfl rfl)
theorem dX4_allows_31 : decode cX4_allows 31 = .ok (.goto 25, 3) := dk_167 0 25 (dk_at dksX4_allows_1 8 rfl rfl)
theorem dX4_allows_34 : decode cX4_allows 34 = .ok (.iload 7, 2) := dk_21 7 (dk_at dksX4_allows_1 11 rfl rfl)
theorem dX4_allows_36 : decode cX4_allows 36 = .ok (.iconst 1, 1) := dk_4 (dk_at dksX4_allows_1 13 rfl rfl)
theorem dX4_allows_37 : decode cX4_allows 37 = .ok (.if_icmp .ne 7, 3) := dk_160 0 7 (dk_at dksX4_allows_1 14 rfl rfl)
theorem dX4_allows_40 : decode cX4_allows 40 = .ok (.iload_n 3, 1) := dk_29 (dk_at dksX4_allows_1 17 rfl rfl)
theorem dX4_allows_41 : decode cX4_allows 41 = .ok (.goto 15, 3) := dk_167 0 15 (dk_at dksX4_allows_1 18 rfl rfl)
theorem dX4_allows_44 : decode cX4_allows 44 = .ok (.iload 7, 2) := dk_21 7 (dk_at dksX4_allows_1 21 rfl rfl)
theorem dX4_allows_46 : decode cX4_allows 46 = .ok (.iconst 2, 1) := dk_5 (dk_at dksX4_allows_1 23 rfl rfl)
theorem dX4_allows_47 : decode cX4_allows 47 = .ok (.if_icmp .ne 8, 3) := dk_160 0 8 (dk_at dksX4_allows_2 0 rfl rfl)
theorem dX4_allows_50 : decode cX4_allows 50 = .ok (.iload 4, 2) := dk_21 4 (dk_at dksX4_allows_2 3 rfl rfl)
theorem dX4_allows_52 : decode cX4_allows 52 = .ok (.goto 4, 3) := dk_167 0 4 (dk_at dksX4_allows_2 5 rfl rfl)
theorem dX4_allows_55 : decode cX4_allows 55 = .ok (.iconst 0, 1) := dk_3 (dk_at dksX4_allows_2 8 rfl rfl)
theorem dX4_allows_56 : decode cX4_allows 56 = .ok (.istore 9, 2) := dk_54 9 (dk_at dksX4_allows_2 9 rfl rfl)
theorem dX4_allows_58 : decode cX4_allows 58 = .ok (.iload 8, 2) := dk_21 8 (dk_at dksX4_allows_2 11 rfl rfl)
theorem dX4_allows_60 : decode cX4_allows 60 = .ok (.ifCond .ne 7, 3) := dk_154 0 7 (dk_at dksX4_allows_2 13 rfl rfl)
theorem dX4_allows_63 : decode cX4_allows 63 = .ok (.iload_n 2, 1) := dk_28 (dk_at dksX4_allows_2 16 rfl rfl)
theorem dX4_allows_64 : decode cX4_allows 64 = .ok (.goto 25, 3) := dk_167 0 25 (dk_at dksX4_allows_2 17 rfl rfl)
theorem dX4_allows_67 : decode cX4_allows 67 = .ok (.iload 8, 2) := dk_21 8 (dk_at dksX4_allows_2 20 rfl rfl)
theorem dX4_allows_69 : decode cX4_allows 69 = .ok (.iconst 1, 1) := dk_4 (dk_at dksX4_allows_2 22 rfl rfl)
theorem dX4_allows_70 : decode cX4_allows 70 = .ok (.if_icmp .ne 7, 3) := dk_160 0 7 (dk_at dksX4_allows_3 0 rfl rfl)
theorem dX4_allows_73 : decode cX4_allows 73 = .ok (.iload_n 3, 1) := dk_29 (dk_at dksX4_allows_3 3 rfl rfl)
theorem dX4_allows_74 : decode cX4_allows 74 = .ok (.goto 15, 3) := dk_167 0 15 (dk_at dksX4_allows_3 4 rfl rfl)
theorem dX4_allows_77 : decode cX4_allows 77 = .ok (.iload 8, 2) := dk_21 8 (dk_at dksX4_allows_3 7 rfl rfl)
theorem dX4_allows_79 : decode cX4_allows 79 = .ok (.iconst 2, 1) := dk_5 (dk_at dksX4_allows_3 9 rfl rfl)
theorem dX4_allows_80 : decode cX4_allows 80 = .ok (.if_icmp .ne 8, 3) := dk_160 0 8 (dk_at dksX4_allows_3 10 rfl rfl)
theorem dX4_allows_83 : decode cX4_allows 83 = .ok (.iload 4, 2) := dk_21 4 (dk_at dksX4_allows_3 13 rfl rfl)
theorem dX4_allows_85 : decode cX4_allows 85 = .ok (.goto 4, 3) := dk_167 0 4 (dk_at dksX4_allows_3 15 rfl rfl)
theorem dX4_allows_88 : decode cX4_allows 88 = .ok (.iconst 0, 1) := dk_3 (dk_at dksX4_allows_3 18 rfl rfl)
theorem dX4_allows_89 : decode cX4_allows 89 = .ok (.istore 10, 2) := dk_54 10 (dk_at dksX4_allows_3 19 rfl rfl)
theorem dX4_allows_91 : decode cX4_allows 91 = .ok (.iload 5, 2) := dk_21 5 (dk_at dksX4_allows_3 21 rfl rfl)
theorem dX4_allows_93 : decode cX4_allows 93 = .ok (.ifCond .eq 32, 3) := dk_153 0 32 (dk_at dksX4_allows_4 0 rfl rfl)
theorem dX4_allows_96 : decode cX4_allows 96 = .ok (.aload_n 0, 1) := dk_42 (dk_at dksX4_allows_4 3 rfl rfl)
theorem dX4_allows_97 : decode cX4_allows 97 = .ok (.iload_n 1, 1) := dk_27 (dk_at dksX4_allows_4 4 rfl rfl)
theorem dX4_allows_98 : decode cX4_allows 98 = .ok (.iload 6, 2) := dk_21 6 (dk_at dksX4_allows_4 5 rfl rfl)
theorem dX4_allows_100 : decode cX4_allows 100 = .ok (.iadd, 1) := dk_96 (dk_at dksX4_allows_4 7 rfl rfl)
theorem dX4_allows_101 : decode cX4_allows 101 = .ok (.iaload, 1) := dk_46 (dk_at dksX4_allows_4 8 rfl rfl)
theorem dX4_allows_102 : decode cX4_allows 102 = .ok (.ldc 67, 2) := dk_18 67 (dk_at dksX4_allows_4 9 rfl rfl)
theorem dX4_allows_104 : decode cX4_allows 104 = .ok (.if_icmp .eq 17, 3) := dk_159 0 17 (dk_at dksX4_allows_4 11 rfl rfl)
theorem dX4_allows_107 : decode cX4_allows 107 = .ok (.iload 9, 2) := dk_21 9 (dk_at dksX4_allows_4 14 rfl rfl)
theorem dX4_allows_109 : decode cX4_allows 109 = .ok (.iload 10, 2) := dk_21 10 (dk_at dksX4_allows_4 16 rfl rfl)
theorem dX4_allows_111 : decode cX4_allows 111 = .ok (.isub, 1) := dk_100 (dk_at dksX4_allows_4 18 rfl rfl)
theorem dX4_allows_112 : decode cX4_allows 112 = .ok (.aload_n 0, 1) := dk_42 (dk_at dksX4_allows_4 19 rfl rfl)
theorem dX4_allows_113 : decode cX4_allows 113 = .ok (.iload_n 1, 1) := dk_27 (dk_at dksX4_allows_4 20 rfl rfl)
theorem dX4_allows_114 : decode cX4_allows 114 = .ok (.iload 6, 2) := dk_21 6 (dk_at dksX4_allows_4 21 rfl rfl)
theorem dX4_allows_116 : decode cX4_allows 116 = .ok (.iadd, 1) := dk_96 (dk_at dksX4_allows_4 23 rfl rfl)
theorem dX4_allows_117 : decode cX4_allows 117 = .ok (.iaload, 1) := dk_46 (dk_at dksX4_allows_5 0 rfl rfl)
theorem dX4_allows_118 : decode cX4_allows 118 = .ok (.if_icmp .gt 7, 3) := dk_163 0 7 (dk_at dksX4_allows_5 1 rfl rfl)
theorem dX4_allows_121 : decode cX4_allows 121 = .ok (.iconst 1, 1) := dk_4 (dk_at dksX4_allows_5 4 rfl rfl)
theorem dX4_allows_122 : decode cX4_allows 122 = .ok (.goto 4, 3) := dk_167 0 4 (dk_at dksX4_allows_5 5 rfl rfl)
theorem dX4_allows_125 : decode cX4_allows 125 = .ok (.iconst 0, 1) := dk_3 (dk_at dksX4_allows_5 8 rfl rfl)
theorem dX4_allows_126 : decode cX4_allows 126 = .ok (.istore 5, 2) := dk_54 5 (dk_at dksX4_allows_5 9 rfl rfl)
theorem dX4_allows_128 : decode cX4_allows 128 = .ok (.iinc 6 1, 3) := dk_132 6 1 (dk_at dksX4_allows_5 11 rfl rfl)
theorem dX4_allows_131 : decode cX4_allows 131 = .ok (.goto (-125), 3) := dk_167 255 131 (dk_at dksX4_allows_5 14 rfl rfl)
theorem dX4_allows_134 : decode cX4_allows 134 = .ok (.iload 5, 2) := dk_21 5 (dk_at dksX4_allows_5 17 rfl rfl)
theorem dX4_allows_136 : decode cX4_allows 136 = .ok (.ireturn, 1) := dk_172 (dk_at dksX4_allows_5 19 rfl rfl)
abbrev cX4_moments : ByteArray := prog_9_method_75_code
def yX4_moments : MethodName := ⟨RX4, "moments", "()I"⟩
theorem dX4_moments_0 : decode cX4_moments 0 = .ok (.aload_n 0, 1) := by decide +kernel
theorem dX4_moments_1 : decode cX4_moments 1 = .ok (.invokevirtual 220, 3) := by decide +kernel
theorem dX4_moments_4 : decode cX4_moments 4 = .ok (.ireturn, 1) := by decide +kernel
abbrev cX4_toldCount : ByteArray := prog_9_method_74_code
def yX4_toldCount : MethodName := ⟨RX4, "toldCount", "()I"⟩
def dkwX4_toldCount_0 : List UInt8 := [42, 3, 181, 0, 49, 42, 182, 0, 217, 172]
abbrev dktX4_toldCount_0 : List UInt8 := dkwX4_toldCount_0 ++ []
theorem dksX4_toldCount_0 : cX4_toldCount.data.toList.drop 0 = dktX4_toldCount_0 := by decide +kernel
theorem dX4_toldCount_0 : decode cX4_toldCount 0 = .ok (.aload_n 0, 1) := dk_42 (dk_at dksX4_toldCount_0 0 rfl rfl)
theorem dX4_toldCount_1 : decode cX4_toldCount 1 = .ok (.iconst 0, 1) := dk_3 (dk_at dksX4_toldCount_0 1 rfl rfl)
theorem dX4_toldCount_2 : decode cX4_toldCount 2 = .ok (.putfield 49, 3) := dk_181 0 49 (dk_at dksX4_toldCount_0 2 rfl rfl)
theorem dX4_toldCount_5 : decode cX4_toldCount 5 = .ok (.aload_n 0, 1) := dk_42 (dk_at dksX4_toldCount_0 5 rfl rfl)
theorem dX4_toldCount_6 : decode cX4_toldCount 6 = .ok (.invokevirtual 217, 3) := dk_182 0 217 (dk_at dksX4_toldCount_0 6 rfl rfl)
theorem dX4_toldCount_9 : decode cX4_toldCount 9 = .ok (.ireturn, 1) := dk_172 (dk_at dksX4_toldCount_0 9 rfl rfl)
abbrev cX4_count : ByteArray := prog_9_method_73_code
def yX4_count : MethodName := ⟨RX4, "count", "()I"⟩
def dkwX4_count_0 : List UInt8 := [42, 3, 2, 182, 0, 214, 42, 180, 0, 207, 172]
abbrev dktX4_count_0 : List UInt8 := dkwX4_count_0 ++ []
theorem dksX4_count_0 : cX4_count.data.toList.drop 0 = dktX4_count_0 := by decide +kernel
theorem dX4_count_0 : decode cX4_count 0 = .ok (.aload_n 0, 1) := dk_42 (dk_at dksX4_count_0 0 rfl rfl)
theorem dX4_count_1 : decode cX4_count 1 = .ok (.iconst 0, 1) := dk_3 (dk_at dksX4_count_0 1 rfl rfl)
theorem dX4_count_2 : decode cX4_count 2 = .ok (.iconst (-1), 1) := dk_2 (dk_at dksX4_count_0 2 rfl rfl)
theorem dX4_count_3 : decode cX4_count 3 = .ok (.invokevirtual 214, 3) := dk_182 0 214 (dk_at dksX4_count_0 3 rfl rfl)
theorem dX4_count_6 : decode cX4_count 6 = .ok (.aload_n 0, 1) := dk_42 (dk_at dksX4_count_0 6 rfl rfl)
theorem dX4_count_7 : decode cX4_count 7 = .ok (.getfield 207, 3) := dk_180 0 207 (dk_at dksX4_count_0 7 rfl rfl)
theorem dX4_count_10 : decode cX4_count 10 = .ok (.ireturn, 1) := dk_172 (dk_at dksX4_count_0 10 rfl rfl)
abbrev cX4_looksAtMoments : ByteArray := prog_9_method_72_code
def yX4_looksAtMoments : MethodName := ⟨RX4, "looksAtMoments", "(II)V"⟩
def dkwX4_looksAtMoments_7 : List UInt8 := [167, 255, 106, 177]
abbrev dktX4_looksAtMoments_7 : List UInt8 := dkwX4_looksAtMoments_7 ++ []
def dkwX4_looksAtMoments_6 : List UInt8 := [21, 5, 133, 97, 181, 0, 210, 132, 5, 1, 167, 255, 137, 132, 4, 1, 167, 255, 121, 132, 3, 1]
abbrev dktX4_looksAtMoments_6 : List UInt8 := dkwX4_looksAtMoments_6 ++ dktX4_looksAtMoments_7
def dkwX4_looksAtMoments_5 : List UInt8 := [167, 0, 26, 27, 154, 0, 8, 29, 133, 167, 0, 17, 27, 4, 160, 0, 9, 21, 4, 133, 167, 0, 6]
abbrev dktX4_looksAtMoments_5 : List UInt8 := dkwX4_looksAtMoments_5 ++ dktX4_looksAtMoments_6
def dkwX4_looksAtMoments_4 : List UInt8 := [153, 0, 7, 4, 167, 0, 4, 3, 96, 181, 0, 207, 42, 89, 180, 0, 210, 21, 6, 154, 0, 7, 9]
abbrev dktX4_looksAtMoments_4 : List UInt8 := dkwX4_looksAtMoments_4 ++ dktX4_looksAtMoments_5
def dkwX4_looksAtMoments_3 : List UInt8 := [21, 4, 21, 5, 184, 0, 203, 154, 0, 7, 4, 167, 0, 4, 3, 54, 6, 42, 89, 180, 0, 207, 21, 6]
abbrev dktX4_looksAtMoments_3 : List UInt8 := dkwX4_looksAtMoments_3 ++ dktX4_looksAtMoments_4
def dkwX4_looksAtMoments_2 : List UInt8 := [21, 5, 184, 0, 203, 153, 0, 33, 28, 155, 0, 25, 42, 180, 0, 7, 16, 16, 16, 16, 28, 104, 96, 29]
abbrev dktX4_looksAtMoments_2 : List UInt8 := dkwX4_looksAtMoments_2 ++ dktX4_looksAtMoments_3
def dkwX4_looksAtMoments_1 : List UInt8 := [16, 30, 163, 0, 134, 3, 54, 5, 21, 5, 16, 30, 163, 0, 118, 42, 180, 0, 7, 3, 29, 21, 4]
abbrev dktX4_looksAtMoments_1 : List UInt8 := dkwX4_looksAtMoments_1 ++ dktX4_looksAtMoments_2
def dkwX4_looksAtMoments_0 : List UInt8 := [42, 3, 181, 0, 207, 42, 9, 181, 0, 210, 3, 62, 29, 16, 30, 163, 0, 150, 3, 54, 4, 21, 4]
abbrev dktX4_looksAtMoments_0 : List UInt8 := dkwX4_looksAtMoments_0 ++ dktX4_looksAtMoments_1
theorem dksX4_looksAtMoments_0 : cX4_looksAtMoments.data.toList.drop 0 = dktX4_looksAtMoments_0 := by decide +kernel
theorem dksX4_looksAtMoments_1 : cX4_looksAtMoments.data.toList.drop 23 = dktX4_looksAtMoments_1 := dk_seg dksX4_looksAtMoments_0 23 rfl rfl
theorem dksX4_looksAtMoments_2 : cX4_looksAtMoments.data.toList.drop 46 = dktX4_looksAtMoments_2 := dk_seg dksX4_looksAtMoments_1 23 rfl rfl
theorem dksX4_looksAtMoments_3 : cX4_looksAtMoments.data.toList.drop 70 = dktX4_looksAtMoments_3 := dk_seg dksX4_looksAtMoments_2 24 rfl rfl
theorem dksX4_looksAtMoments_4 : cX4_looksAtMoments.data.toList.drop 94 = dktX4_looksAtMoments_4 := dk_seg dksX4_looksAtMoments_3 24 rfl rfl
theorem dksX4_looksAtMoments_5 : cX4_looksAtMoments.data.toList.drop 117 = dktX4_looksAtMoments_5 := dk_seg dksX4_looksAtMoments_4 23 rfl rfl
theorem dksX4_looksAtMoments_6 : cX4_looksAtMoments.data.toList.drop 140 = dktX4_looksAtMoments_6 := dk_seg dksX4_looksAtMoments_5 23 rfl rfl
theorem dksX4_looksAtMoments_7 : cX4_looksAtMoments.data.toList.drop 162 = dktX4_looksAtMoments_7 := dk_seg dksX4_looksAtMoments_6 22 rfl rfl
theorem dX4_looksAtMoments_0 : decode cX4_looksAtMoments 0 = .ok (.aload_n 0, 1) := dk_42 (dk_at dksX4_looksAtMoments_0 0 rfl rfl)
theorem dX4_looksAtMoments_1 : decode cX4_looksAtMoments 1 = .ok (.iconst 0, 1) := dk_3 (dk_at dksX4_looksAtMoments_0 1 rfl rfl)
theorem dX4_looksAtMoments_2 : decode cX4_looksAtMoments 2 = .ok (.putfield 207, 3) := dk_181 0 207 (dk_at dksX4_looksAtMoments_0 2 rfl rfl)
theorem dX4_looksAtMoments_5 : decode cX4_looksAtMoments 5 = .ok (.aload_n 0, 1) := dk_42 (dk_at dksX4_looksAtMoments_0 5 rfl rfl)
theorem dX4_looksAtMoments_6 : decode cX4_looksAtMoments 6 = .ok (.lconst 0, 1) := dk_9 (dk_at dksX4_looksAtMoments_0 6 rfl rfl)
theorem dX4_looksAtMoments_7 : decode cX4_looksAtMoments 7 = .ok (.putfield 210, 3) := dk_181 0 210 (dk_at dksX4_looksAtMoments_0 7 rfl rfl)
theorem dX4_looksAtMoments_10 : decode cX4_looksAtMoments 10 = .ok (.iconst 0, 1) := dk_3 (dk_at dksX4_looksAtMoments_0 10 rfl rfl)
theorem dX4_looksAtMoments_11 : decode cX4_looksAtMoments 11 = .ok (.istore_n 3, 1) := dk_62 (dk_at dksX4_looksAtMoments_0 11 rfl rfl)
theorem dX4_looksAtMoments_12 : decode cX4_looksAtMoments 12 = .ok (.iload_n 3, 1) := dk_29 (dk_at dksX4_looksAtMoments_0 12 rfl rfl)
theorem dX4_looksAtMoments_13 : decode cX4_looksAtMoments 13 = .ok (.bipush 30, 2) := dk_16 30 (dk_at dksX4_looksAtMoments_0 13 rfl rfl)
theorem dX4_looksAtMoments_15 : decode cX4_looksAtMoments 15 = .ok (.if_icmp .gt 150, 3) := dk_163 0 150 (dk_at dksX4_looksAtMoments_0 15 rfl rfl)
theorem dX4_looksAtMoments_18 : decode cX4_looksAtMoments 18 = .ok (.iconst 0, 1) := dk_3 (dk_at dksX4_looksAtMoments_0 18 rfl rfl)
theorem dX4_looksAtMoments_19 : decode cX4_looksAtMoments 19 = .ok (.istore 4, 2) := dk_54 4 (dk_at dksX4_looksAtMoments_0 19 rfl rfl)
theorem dX4_looksAtMoments_21 : decode cX4_looksAtMoments 21 = .ok (.iload 4, 2) := dk_21 4 (dk_at dksX4_looksAtMoments_0 21 rfl rfl)
theorem dX4_looksAtMoments_23 : decode cX4_looksAtMoments 23 = .ok (.bipush 30, 2) := dk_16 30 (dk_at dksX4_looksAtMoments_1 0 rfl rfl)
theorem dX4_looksAtMoments_25 : decode cX4_looksAtMoments 25 = .ok (.if_icmp .gt 134, 3) := dk_163 0 134 (dk_at dksX4_looksAtMoments_1 2 rfl rfl)
theorem dX4_looksAtMoments_28 : decode cX4_looksAtMoments 28 = .ok (.iconst 0, 1) := dk_3 (dk_at dksX4_looksAtMoments_1 5 rfl rfl)
theorem dX4_looksAtMoments_29 : decode cX4_looksAtMoments 29 = .ok (.istore 5, 2) := dk_54 5 (dk_at dksX4_looksAtMoments_1 6 rfl rfl)
theorem dX4_looksAtMoments_31 : decode cX4_looksAtMoments 31 = .ok (.iload 5, 2) := dk_21 5 (dk_at dksX4_looksAtMoments_1 8 rfl rfl)
theorem dX4_looksAtMoments_33 : decode cX4_looksAtMoments 33 = .ok (.bipush 30, 2) := dk_16 30 (dk_at dksX4_looksAtMoments_1 10 rfl rfl)
theorem dX4_looksAtMoments_35 : decode cX4_looksAtMoments 35 = .ok (.if_icmp .gt 118, 3) := dk_163 0 118 (dk_at dksX4_looksAtMoments_1 12 rfl rfl)
theorem dX4_looksAtMoments_38 : decode cX4_looksAtMoments 38 = .ok (.aload_n 0, 1) := dk_42 (dk_at dksX4_looksAtMoments_1 15 rfl rfl)
theorem dX4_looksAtMoments_39 : decode cX4_looksAtMoments 39 = .ok (.getfield 7, 3) := dk_180 0 7 (dk_at dksX4_looksAtMoments_1 16 rfl rfl)
theorem dX4_looksAtMoments_42 : decode cX4_looksAtMoments 42 = .ok (.iconst 0, 1) := dk_3 (dk_at dksX4_looksAtMoments_1 19 rfl rfl)
theorem dX4_looksAtMoments_43 : decode cX4_looksAtMoments 43 = .ok (.iload_n 3, 1) := dk_29 (dk_at dksX4_looksAtMoments_1 20 rfl rfl)
theorem dX4_looksAtMoments_44 : decode cX4_looksAtMoments 44 = .ok (.iload 4, 2) := dk_21 4 (dk_at dksX4_looksAtMoments_1 21 rfl rfl)
theorem dX4_looksAtMoments_46 : decode cX4_looksAtMoments 46 = .ok (.iload 5, 2) := dk_21 5 (dk_at dksX4_looksAtMoments_2 0 rfl rfl)
theorem dX4_looksAtMoments_48 : decode cX4_looksAtMoments 48 = .ok (.invokestatic 203, 3) := dk_184 0 203 (dk_at dksX4_looksAtMoments_2 2 rfl rfl)
theorem dX4_looksAtMoments_51 : decode cX4_looksAtMoments 51 = .ok (.ifCond .eq 33, 3) := dk_153 0 33 (dk_at dksX4_looksAtMoments_2 5 rfl rfl)
theorem dX4_looksAtMoments_54 : decode cX4_looksAtMoments 54 = .ok (.iload_n 2, 1) := dk_28 (dk_at dksX4_looksAtMoments_2 8 rfl rfl)
theorem dX4_looksAtMoments_55 : decode cX4_looksAtMoments 55 = .ok (.ifCond .lt 25, 3) := dk_155 0 25 (dk_at dksX4_looksAtMoments_2 9 rfl rfl)
theorem dX4_looksAtMoments_58 : decode cX4_looksAtMoments 58 = .ok (.aload_n 0, 1) := dk_42 (dk_at dksX4_looksAtMoments_2 12 rfl rfl)
theorem dX4_looksAtMoments_59 : decode cX4_looksAtMoments 59 = .ok (.getfield 7, 3) := dk_180 0 7 (dk_at dksX4_looksAtMoments_2 13 rfl rfl)
theorem dX4_looksAtMoments_62 : decode cX4_looksAtMoments 62 = .ok (.bipush 16, 2) := dk_16 16 (dk_at dksX4_looksAtMoments_2 16 rfl rfl)
theorem dX4_looksAtMoments_64 : decode cX4_looksAtMoments 64 = .ok (.bipush 16, 2) := dk_16 16 (dk_at dksX4_looksAtMoments_2 18 rfl rfl)
theorem dX4_looksAtMoments_66 : decode cX4_looksAtMoments 66 = .ok (.iload_n 2, 1) := dk_28 (dk_at dksX4_looksAtMoments_2 20 rfl rfl)
theorem dX4_looksAtMoments_67 : decode cX4_looksAtMoments 67 = .ok (.imul, 1) := dk_104 (dk_at dksX4_looksAtMoments_2 21 rfl rfl)
theorem dX4_looksAtMoments_68 : decode cX4_looksAtMoments 68 = .ok (.iadd, 1) := dk_96 (dk_at dksX4_looksAtMoments_2 22 rfl rfl)
theorem dX4_looksAtMoments_69 : decode cX4_looksAtMoments 69 = .ok (.iload_n 3, 1) := dk_29 (dk_at dksX4_looksAtMoments_2 23 rfl rfl)
theorem dX4_looksAtMoments_70 : decode cX4_looksAtMoments 70 = .ok (.iload 4, 2) := dk_21 4 (dk_at dksX4_looksAtMoments_3 0 rfl rfl)
theorem dX4_looksAtMoments_72 : decode cX4_looksAtMoments 72 = .ok (.iload 5, 2) := dk_21 5 (dk_at dksX4_looksAtMoments_3 2 rfl rfl)
theorem dX4_looksAtMoments_74 : decode cX4_looksAtMoments 74 = .ok (.invokestatic 203, 3) := dk_184 0 203 (dk_at dksX4_looksAtMoments_3 4 rfl rfl)
theorem dX4_looksAtMoments_77 : decode cX4_looksAtMoments 77 = .ok (.ifCond .ne 7, 3) := dk_154 0 7 (dk_at dksX4_looksAtMoments_3 7 rfl rfl)
theorem dX4_looksAtMoments_80 : decode cX4_looksAtMoments 80 = .ok (.iconst 1, 1) := dk_4 (dk_at dksX4_looksAtMoments_3 10 rfl rfl)
theorem dX4_looksAtMoments_81 : decode cX4_looksAtMoments 81 = .ok (.goto 4, 3) := dk_167 0 4 (dk_at dksX4_looksAtMoments_3 11 rfl rfl)
theorem dX4_looksAtMoments_84 : decode cX4_looksAtMoments 84 = .ok (.iconst 0, 1) := dk_3 (dk_at dksX4_looksAtMoments_3 14 rfl rfl)
theorem dX4_looksAtMoments_85 : decode cX4_looksAtMoments 85 = .ok (.istore 6, 2) := dk_54 6 (dk_at dksX4_looksAtMoments_3 15 rfl rfl)
theorem dX4_looksAtMoments_87 : decode cX4_looksAtMoments 87 = .ok (.aload_n 0, 1) := dk_42 (dk_at dksX4_looksAtMoments_3 17 rfl rfl)
theorem dX4_looksAtMoments_88 : decode cX4_looksAtMoments 88 = .ok (.dup, 1) := dk_89 (dk_at dksX4_looksAtMoments_3 18 rfl rfl)
theorem dX4_looksAtMoments_89 : decode cX4_looksAtMoments 89 = .ok (.getfield 207, 3) := dk_180 0 207 (dk_at dksX4_looksAtMoments_3 19 rfl rfl)
theorem dX4_looksAtMoments_92 : decode cX4_looksAtMoments 92 = .ok (.iload 6, 2) := dk_21 6 (dk_at dksX4_looksAtMoments_3 22 rfl rfl)
theorem dX4_looksAtMoments_94 : decode cX4_looksAtMoments 94 = .ok (.ifCond .eq 7, 3) := dk_153 0 7 (dk_at dksX4_looksAtMoments_4 0 rfl rfl)
theorem dX4_looksAtMoments_97 : decode cX4_looksAtMoments 97 = .ok (.iconst 1, 1) := dk_4 (dk_at dksX4_looksAtMoments_4 3 rfl rfl)
theorem dX4_looksAtMoments_98 : decode cX4_looksAtMoments 98 = .ok (.goto 4, 3) := dk_167 0 4 (dk_at dksX4_looksAtMoments_4 4 rfl rfl)
theorem dX4_looksAtMoments_101 : decode cX4_looksAtMoments 101 = .ok (.iconst 0, 1) := dk_3 (dk_at dksX4_looksAtMoments_4 7 rfl rfl)
theorem dX4_looksAtMoments_102 : decode cX4_looksAtMoments 102 = .ok (.iadd, 1) := dk_96 (dk_at dksX4_looksAtMoments_4 8 rfl rfl)
theorem dX4_looksAtMoments_103 : decode cX4_looksAtMoments 103 = .ok (.putfield 207, 3) := dk_181 0 207 (dk_at dksX4_looksAtMoments_4 9 rfl rfl)
theorem dX4_looksAtMoments_106 : decode cX4_looksAtMoments 106 = .ok (.aload_n 0, 1) := dk_42 (dk_at dksX4_looksAtMoments_4 12 rfl rfl)
theorem dX4_looksAtMoments_107 : decode cX4_looksAtMoments 107 = .ok (.dup, 1) := dk_89 (dk_at dksX4_looksAtMoments_4 13 rfl rfl)
theorem dX4_looksAtMoments_108 : decode cX4_looksAtMoments 108 = .ok (.getfield 210, 3) := dk_180 0 210 (dk_at dksX4_looksAtMoments_4 14 rfl rfl)
theorem dX4_looksAtMoments_111 : decode cX4_looksAtMoments 111 = .ok (.iload 6, 2) := dk_21 6 (dk_at dksX4_looksAtMoments_4 17 rfl rfl)
theorem dX4_looksAtMoments_113 : decode cX4_looksAtMoments 113 = .ok (.ifCond .ne 7, 3) := dk_154 0 7 (dk_at dksX4_looksAtMoments_4 19 rfl rfl)
theorem dX4_looksAtMoments_116 : decode cX4_looksAtMoments 116 = .ok (.lconst 0, 1) := dk_9 (dk_at dksX4_looksAtMoments_4 22 rfl rfl)
theorem dX4_looksAtMoments_117 : decode cX4_looksAtMoments 117 = .ok (.goto 26, 3) := dk_167 0 26 (dk_at dksX4_looksAtMoments_5 0 rfl rfl)
theorem dX4_looksAtMoments_120 : decode cX4_looksAtMoments 120 = .ok (.iload_n 1, 1) := dk_27 (dk_at dksX4_looksAtMoments_5 3 rfl rfl)
theorem dX4_looksAtMoments_121 : decode cX4_looksAtMoments 121 = .ok (.ifCond .ne 8, 3) := dk_154 0 8 (dk_at dksX4_looksAtMoments_5 4 rfl rfl)
theorem dX4_looksAtMoments_124 : decode cX4_looksAtMoments 124 = .ok (.iload_n 3, 1) := dk_29 (dk_at dksX4_looksAtMoments_5 7 rfl rfl)
theorem dX4_looksAtMoments_125 : decode cX4_looksAtMoments 125 = .ok (.i2l, 1) := dk_133 (dk_at dksX4_looksAtMoments_5 8 rfl rfl)
theorem dX4_looksAtMoments_126 : decode cX4_looksAtMoments 126 = .ok (.goto 17, 3) := dk_167 0 17 (dk_at dksX4_looksAtMoments_5 9 rfl rfl)
theorem dX4_looksAtMoments_129 : decode cX4_looksAtMoments 129 = .ok (.iload_n 1, 1) := dk_27 (dk_at dksX4_looksAtMoments_5 12 rfl rfl)
theorem dX4_looksAtMoments_130 : decode cX4_looksAtMoments 130 = .ok (.iconst 1, 1) := dk_4 (dk_at dksX4_looksAtMoments_5 13 rfl rfl)
theorem dX4_looksAtMoments_131 : decode cX4_looksAtMoments 131 = .ok (.if_icmp .ne 9, 3) := dk_160 0 9 (dk_at dksX4_looksAtMoments_5 14 rfl rfl)
theorem dX4_looksAtMoments_134 : decode cX4_looksAtMoments 134 = .ok (.iload 4, 2) := dk_21 4 (dk_at dksX4_looksAtMoments_5 17 rfl rfl)
theorem dX4_looksAtMoments_136 : decode cX4_looksAtMoments 136 = .ok (.i2l, 1) := dk_133 (dk_at dksX4_looksAtMoments_5 19 rfl rfl)
theorem dX4_looksAtMoments_137 : decode cX4_looksAtMoments 137 = .ok (.goto 6, 3) := dk_167 0 6 (dk_at dksX4_looksAtMoments_5 20 rfl rfl)
theorem dX4_looksAtMoments_140 : decode cX4_looksAtMoments 140 = .ok (.iload 5, 2) := dk_21 5 (dk_at dksX4_looksAtMoments_6 0 rfl rfl)
theorem dX4_looksAtMoments_142 : decode cX4_looksAtMoments 142 = .ok (.i2l, 1) := dk_133 (dk_at dksX4_looksAtMoments_6 2 rfl rfl)
theorem dX4_looksAtMoments_143 : decode cX4_looksAtMoments 143 = .ok (.ladd, 1) := dk_97 (dk_at dksX4_looksAtMoments_6 3 rfl rfl)
theorem dX4_looksAtMoments_144 : decode cX4_looksAtMoments 144 = .ok (.putfield 210, 3) := dk_181 0 210 (dk_at dksX4_looksAtMoments_6 4 rfl rfl)
theorem dX4_looksAtMoments_147 : decode cX4_looksAtMoments 147 = .ok (.iinc 5 1, 3) := dk_132 5 1 (dk_at dksX4_looksAtMoments_6 7 rfl rfl)
theorem dX4_looksAtMoments_150 : decode cX4_looksAtMoments 150 = .ok (.goto (-119), 3) := dk_167 255 137 (dk_at dksX4_looksAtMoments_6 10 rfl rfl)
theorem dX4_looksAtMoments_153 : decode cX4_looksAtMoments 153 = .ok (.iinc 4 1, 3) := dk_132 4 1 (dk_at dksX4_looksAtMoments_6 13 rfl rfl)
theorem dX4_looksAtMoments_156 : decode cX4_looksAtMoments 156 = .ok (.goto (-135), 3) := dk_167 255 121 (dk_at dksX4_looksAtMoments_6 16 rfl rfl)
theorem dX4_looksAtMoments_159 : decode cX4_looksAtMoments 159 = .ok (.iinc 3 1, 3) := dk_132 3 1 (dk_at dksX4_looksAtMoments_6 19 rfl rfl)
theorem dX4_looksAtMoments_162 : decode cX4_looksAtMoments 162 = .ok (.goto (-150), 3) := dk_167 255 106 (dk_at dksX4_looksAtMoments_7 0 rfl rfl)
theorem dX4_looksAtMoments_165 : decode cX4_looksAtMoments 165 = .ok (.return_, 1) := dk_177 (dk_at dksX4_looksAtMoments_7 3 rfl rfl)
abbrev cX4_momentsTightened : ByteArray := prog_9_method_76_code
def yX4_momentsTightened : MethodName := ⟨RX4, "momentsTightened", "()I"⟩
theorem dX4_momentsTightened_0 : decode cX4_momentsTightened 0 = .ok (.aload_n 0, 1) := by decide +kernel
theorem dX4_momentsTightened_1 : decode cX4_momentsTightened 1 = .ok (.invokevirtual 220, 3) := by decide +kernel
theorem dX4_momentsTightened_4 : decode cX4_momentsTightened 4 = .ok (.ireturn, 1) := by decide +kernel
abbrev cX4_leastOf : ByteArray := prog_9_method_77_code
def yX4_leastOf : MethodName := ⟨RX4, "leastOf", "(I)I"⟩
def dkwX4_leastOf_1 : List UInt8 := [182, 0, 124, 167, 0, 8, 42, 5, 182, 0, 60, 172]
abbrev dktX4_leastOf_1 : List UInt8 := dkwX4_leastOf_1 ++ []
def dkwX4_leastOf_0 : List UInt8 := [42, 27, 184, 0, 104, 182, 0, 189, 154, 0, 5, 3, 172, 42, 182, 0, 82, 153, 0, 11, 42, 27]
abbrev dktX4_leastOf_0 : List UInt8 := dkwX4_leastOf_0 ++ dktX4_leastOf_1
theorem dksX4_leastOf_0 : cX4_leastOf.data.toList.drop 0 = dktX4_leastOf_0 := by decide +kernel
theorem dksX4_leastOf_1 : cX4_leastOf.data.toList.drop 22 = dktX4_leastOf_1 := dk_seg dksX4_leastOf_0 22 rfl rfl
theorem dX4_leastOf_0 : decode cX4_leastOf 0 = .ok (.aload_n 0, 1) := dk_42 (dk_at dksX4_leastOf_0 0 rfl rfl)
theorem dX4_leastOf_1 : decode cX4_leastOf 1 = .ok (.iload_n 1, 1) := dk_27 (dk_at dksX4_leastOf_0 1 rfl rfl)
theorem dX4_leastOf_2 : decode cX4_leastOf 2 = .ok (.invokestatic 104, 3) := dk_184 0 104 (dk_at dksX4_leastOf_0 2 rfl rfl)
theorem dX4_leastOf_5 : decode cX4_leastOf 5 = .ok (.invokevirtual 189, 3) := dk_182 0 189 (dk_at dksX4_leastOf_0 5 rfl rfl)
theorem dX4_leastOf_8 : decode cX4_leastOf 8 = .ok (.ifCond .ne 5, 3) := dk_154 0 5 (dk_at dksX4_leastOf_0 8 rfl rfl)
theorem dX4_leastOf_11 : decode cX4_leastOf 11 = .ok (.iconst 0, 1) := dk_3 (dk_at dksX4_leastOf_0 11 rfl rfl)
theorem dX4_leastOf_12 : decode cX4_leastOf 12 = .ok (.ireturn, 1) := dk_172 (dk_at dksX4_leastOf_0 12 rfl rfl)
theorem dX4_leastOf_13 : decode cX4_leastOf 13 = .ok (.aload_n 0, 1) := dk_42 (dk_at dksX4_leastOf_0 13 rfl rfl)
theorem dX4_leastOf_14 : decode cX4_leastOf 14 = .ok (.invokevirtual 82, 3) := dk_182 0 82 (dk_at dksX4_leastOf_0 14 rfl rfl)
theorem dX4_leastOf_17 : decode cX4_leastOf 17 = .ok (.ifCond .eq 11, 3) := dk_153 0 11 (dk_at dksX4_leastOf_0 17 rfl rfl)
theorem dX4_leastOf_20 : decode cX4_leastOf 20 = .ok (.aload_n 0, 1) := dk_42 (dk_at dksX4_leastOf_0 20 rfl rfl)
theorem dX4_leastOf_21 : decode cX4_leastOf 21 = .ok (.iload_n 1, 1) := dk_27 (dk_at dksX4_leastOf_0 21 rfl rfl)
theorem dX4_leastOf_22 : decode cX4_leastOf 22 = .ok (.invokevirtual 124, 3) := dk_182 0 124 (dk_at dksX4_leastOf_1 0 rfl rfl)
theorem dX4_leastOf_25 : decode cX4_leastOf 25 = .ok (.goto 8, 3) := dk_167 0 8 (dk_at dksX4_leastOf_1 3 rfl rfl)
theorem dX4_leastOf_28 : decode cX4_leastOf 28 = .ok (.aload_n 0, 1) := dk_42 (dk_at dksX4_leastOf_1 6 rfl rfl)
theorem dX4_leastOf_29 : decode cX4_leastOf 29 = .ok (.iconst 2, 1) := dk_5 (dk_at dksX4_leastOf_1 7 rfl rfl)
theorem dX4_leastOf_30 : decode cX4_leastOf 30 = .ok (.invokevirtual 60, 3) := dk_182 0 60 (dk_at dksX4_leastOf_1 8 rfl rfl)
theorem dX4_leastOf_33 : decode cX4_leastOf 33 = .ok (.ireturn, 1) := dk_172 (dk_at dksX4_leastOf_1 11 rfl rfl)
abbrev cX4_mostOf : ByteArray := prog_9_method_78_code
def yX4_mostOf : MethodName := ⟨RX4, "mostOf", "(I)I"⟩
def dkwX4_mostOf_1 : List UInt8 := [182, 0, 108, 18, 67, 159, 0, 11, 42, 27, 182, 0, 108, 167, 0, 8, 42, 5, 182, 0, 60, 172]
abbrev dktX4_mostOf_1 : List UInt8 := dkwX4_mostOf_1 ++ []
def dkwX4_mostOf_0 : List UInt8 := [42, 27, 184, 0, 104, 182, 0, 189, 154, 0, 5, 3, 172, 42, 182, 0, 82, 153, 0, 21, 42, 27]
abbrev dktX4_mostOf_0 : List UInt8 := dkwX4_mostOf_0 ++ dktX4_mostOf_1
theorem dksX4_mostOf_0 : cX4_mostOf.data.toList.drop 0 = dktX4_mostOf_0 := by decide +kernel
theorem dksX4_mostOf_1 : cX4_mostOf.data.toList.drop 22 = dktX4_mostOf_1 := dk_seg dksX4_mostOf_0 22 rfl rfl
theorem dX4_mostOf_0 : decode cX4_mostOf 0 = .ok (.aload_n 0, 1) := dk_42 (dk_at dksX4_mostOf_0 0 rfl rfl)
theorem dX4_mostOf_1 : decode cX4_mostOf 1 = .ok (.iload_n 1, 1) := dk_27 (dk_at dksX4_mostOf_0 1 rfl rfl)
theorem dX4_mostOf_2 : decode cX4_mostOf 2 = .ok (.invokestatic 104, 3) := dk_184 0 104 (dk_at dksX4_mostOf_0 2 rfl rfl)
theorem dX4_mostOf_5 : decode cX4_mostOf 5 = .ok (.invokevirtual 189, 3) := dk_182 0 189 (dk_at dksX4_mostOf_0 5 rfl rfl)
theorem dX4_mostOf_8 : decode cX4_mostOf 8 = .ok (.ifCond .ne 5, 3) := dk_154 0 5 (dk_at dksX4_mostOf_0 8 rfl rfl)
theorem dX4_mostOf_11 : decode cX4_mostOf 11 = .ok (.iconst 0, 1) := dk_3 (dk_at dksX4_mostOf_0 11 rfl rfl)
theorem dX4_mostOf_12 : decode cX4_mostOf 12 = .ok (.ireturn, 1) := dk_172 (dk_at dksX4_mostOf_0 12 rfl rfl)
theorem dX4_mostOf_13 : decode cX4_mostOf 13 = .ok (.aload_n 0, 1) := dk_42 (dk_at dksX4_mostOf_0 13 rfl rfl)
theorem dX4_mostOf_14 : decode cX4_mostOf 14 = .ok (.invokevirtual 82, 3) := dk_182 0 82 (dk_at dksX4_mostOf_0 14 rfl rfl)
theorem dX4_mostOf_17 : decode cX4_mostOf 17 = .ok (.ifCond .eq 21, 3) := dk_153 0 21 (dk_at dksX4_mostOf_0 17 rfl rfl)
theorem dX4_mostOf_20 : decode cX4_mostOf 20 = .ok (.aload_n 0, 1) := dk_42 (dk_at dksX4_mostOf_0 20 rfl rfl)
theorem dX4_mostOf_21 : decode cX4_mostOf 21 = .ok (.iload_n 1, 1) := dk_27 (dk_at dksX4_mostOf_0 21 rfl rfl)
theorem dX4_mostOf_22 : decode cX4_mostOf 22 = .ok (.invokevirtual 108, 3) := dk_182 0 108 (dk_at dksX4_mostOf_1 0 rfl rfl)
theorem dX4_mostOf_25 : decode cX4_mostOf 25 = .ok (.ldc 67, 2) := dk_18 67 (dk_at dksX4_mostOf_1 3 rfl rfl)
theorem dX4_mostOf_27 : decode cX4_mostOf 27 = .ok (.if_icmp .eq 11, 3) := dk_159 0 11 (dk_at dksX4_mostOf_1 5 rfl rfl)
theorem dX4_mostOf_30 : decode cX4_mostOf 30 = .ok (.aload_n 0, 1) := dk_42 (dk_at dksX4_mostOf_1 8 rfl rfl)
theorem dX4_mostOf_31 : decode cX4_mostOf 31 = .ok (.iload_n 1, 1) := dk_27 (dk_at dksX4_mostOf_1 9 rfl rfl)
theorem dX4_mostOf_32 : decode cX4_mostOf 32 = .ok (.invokevirtual 108, 3) := dk_182 0 108 (dk_at dksX4_mostOf_1 10 rfl rfl)
theorem dX4_mostOf_35 : decode cX4_mostOf 35 = .ok (.goto 8, 3) := dk_167 0 8 (dk_at dksX4_mostOf_1 13 rfl rfl)
theorem dX4_mostOf_38 : decode cX4_mostOf 38 = .ok (.aload_n 0, 1) := dk_42 (dk_at dksX4_mostOf_1 16 rfl rfl)
theorem dX4_mostOf_39 : decode cX4_mostOf 39 = .ok (.iconst 2, 1) := dk_5 (dk_at dksX4_mostOf_1 17 rfl rfl)
theorem dX4_mostOf_40 : decode cX4_mostOf 40 = .ok (.invokevirtual 60, 3) := dk_182 0 60 (dk_at dksX4_mostOf_1 18 rfl rfl)
theorem dX4_mostOf_43 : decode cX4_mostOf 43 = .ok (.ireturn, 1) := dk_172 (dk_at dksX4_mostOf_1 21 rfl rfl)
abbrev cX4_longestDelay : ByteArray := prog_9_method_79_code
def yX4_longestDelay : MethodName := ⟨RX4, "longestDelay", "(III)I"⟩
def dkwX4_longestDelay_6 : List UInt8 := [167, 0, 8, 42, 5, 182, 0, 60, 172]
abbrev dktX4_longestDelay_6 : List UInt8 := dkwX4_longestDelay_6 ++ []
def dkwX4_longestDelay_5 : List UInt8 := [29, 21, 4, 96, 184, 0, 203, 153, 0, 7, 4, 167, 0, 4, 3, 54, 5, 21, 5, 153, 0, 8, 21, 4]
abbrev dktX4_longestDelay_5 : List UInt8 := dkwX4_longestDelay_5 ++ dktX4_longestDelay_6
def dkwX4_longestDelay_4 : List UInt8 := [21, 4, 3, 18, 223, 184, 0, 92, 153, 0, 30, 42, 180, 0, 7, 3, 27, 21, 4, 96, 28, 21, 4, 96]
abbrev dktX4_longestDelay_4 : List UInt8 := dkwX4_longestDelay_4 ++ dktX4_longestDelay_5
def dkwX4_longestDelay_3 : List UInt8 := [21, 4, 167, 0, 13, 21, 4, 21, 7, 21, 6, 100, 184, 0, 72, 54, 4, 132, 5, 1, 167, 255, 186]
abbrev dktX4_longestDelay_3 : List UInt8 := dkwX4_longestDelay_3 ++ dktX4_longestDelay_4
def dkwX4_longestDelay_2 : List UInt8 := [54, 6, 42, 180, 0, 7, 3, 7, 21, 5, 104, 96, 6, 96, 46, 54, 7, 21, 7, 18, 67, 160, 0, 8]
abbrev dktX4_longestDelay_2 : List UInt8 := dkwX4_longestDelay_2 ++ dktX4_longestDelay_3
def dkwX4_longestDelay_1 : List UInt8 := [6, 162, 0, 70, 21, 5, 154, 0, 7, 27, 167, 0, 14, 21, 5, 4, 160, 0, 7, 28, 167, 0, 4, 29]
abbrev dktX4_longestDelay_1 : List UInt8 := dkwX4_longestDelay_1 ++ dktX4_longestDelay_2
def dkwX4_longestDelay_0 : List UInt8 := [42, 27, 28, 29, 184, 0, 200, 182, 0, 189, 154, 0, 5, 3, 172, 18, 67, 54, 4, 3, 54, 5, 21, 5]
abbrev dktX4_longestDelay_0 : List UInt8 := dkwX4_longestDelay_0 ++ dktX4_longestDelay_1
theorem dksX4_longestDelay_0 : cX4_longestDelay.data.toList.drop 0 = dktX4_longestDelay_0 := by decide +kernel
theorem dksX4_longestDelay_1 : cX4_longestDelay.data.toList.drop 24 = dktX4_longestDelay_1 := dk_seg dksX4_longestDelay_0 24 rfl rfl
theorem dksX4_longestDelay_2 : cX4_longestDelay.data.toList.drop 48 = dktX4_longestDelay_2 := dk_seg dksX4_longestDelay_1 24 rfl rfl
theorem dksX4_longestDelay_3 : cX4_longestDelay.data.toList.drop 72 = dktX4_longestDelay_3 := dk_seg dksX4_longestDelay_2 24 rfl rfl
theorem dksX4_longestDelay_4 : cX4_longestDelay.data.toList.drop 95 = dktX4_longestDelay_4 := dk_seg dksX4_longestDelay_3 23 rfl rfl
theorem dksX4_longestDelay_5 : cX4_longestDelay.data.toList.drop 119 = dktX4_longestDelay_5 := dk_seg dksX4_longestDelay_4 24 rfl rfl
theorem dksX4_longestDelay_6 : cX4_longestDelay.data.toList.drop 143 = dktX4_longestDelay_6 := dk_seg dksX4_longestDelay_5 24 rfl rfl
theorem dX4_longestDelay_0 : decode cX4_longestDelay 0 = .ok (.aload_n 0, 1) := dk_42 (dk_at dksX4_longestDelay_0 0 rfl rfl)
theorem dX4_longestDelay_1 : decode cX4_longestDelay 1 = .ok (.iload_n 1, 1) := dk_27 (dk_at dksX4_longestDelay_0 1 rfl rfl)
theorem dX4_longestDelay_2 : decode cX4_longestDelay 2 = .ok (.iload_n 2, 1) := dk_28 (dk_at dksX4_longestDelay_0 2 rfl rfl)
theorem dX4_longestDelay_3 : decode cX4_longestDelay 3 = .ok (.iload_n 3, 1) := dk_29 (dk_at dksX4_longestDelay_0 3 rfl rfl)
theorem dX4_longestDelay_4 : decode cX4_longestDelay 4 = .ok (.invokestatic 200, 3) := dk_184 0 200 (dk_at dksX4_longestDelay_0 4 rfl rfl)
theorem dX4_longestDelay_7 : decode cX4_longestDelay 7 = .ok (.invokevirtual 189, 3) := dk_182 0 189 (dk_at dksX4_longestDelay_0 7 rfl rfl)
theorem dX4_longestDelay_10 : decode cX4_longestDelay 10 = .ok (.ifCond .ne 5, 3) := dk_154 0 5 (dk_at dksX4_longestDelay_0 10 rfl rfl)
theorem dX4_longestDelay_13 : decode cX4_longestDelay 13 = .ok (.iconst 0, 1) := dk_3 (dk_at dksX4_longestDelay_0 13 rfl rfl)
theorem dX4_longestDelay_14 : decode cX4_longestDelay 14 = .ok (.ireturn, 1) := dk_172 (dk_at dksX4_longestDelay_0 14 rfl rfl)
theorem dX4_longestDelay_15 : decode cX4_longestDelay 15 = .ok (.ldc 67, 2) := dk_18 67 (dk_at dksX4_longestDelay_0 15 rfl rfl)
theorem dX4_longestDelay_17 : decode cX4_longestDelay 17 = .ok (.istore 4, 2) := dk_54 4 (dk_at dksX4_longestDelay_0 17 rfl rfl)
theorem dX4_longestDelay_19 : decode cX4_longestDelay 19 = .ok (.iconst 0, 1) := dk_3 (dk_at dksX4_longestDelay_0 19 rfl rfl)
theorem dX4_longestDelay_20 : decode cX4_longestDelay 20 = .ok (.istore 5, 2) := dk_54 5 (dk_at dksX4_longestDelay_0 20 rfl rfl)
theorem dX4_longestDelay_22 : decode cX4_longestDelay 22 = .ok (.iload 5, 2) := dk_21 5 (dk_at dksX4_longestDelay_0 22 rfl rfl)
theorem dX4_longestDelay_24 : decode cX4_longestDelay 24 = .ok (.iconst 3, 1) := dk_6 (dk_at dksX4_longestDelay_1 0 rfl rfl)
theorem dX4_longestDelay_25 : decode cX4_longestDelay 25 = .ok (.if_icmp .ge 70, 3) := dk_162 0 70 (dk_at dksX4_longestDelay_1 1 rfl rfl)
theorem dX4_longestDelay_28 : decode cX4_longestDelay 28 = .ok (.iload 5, 2) := dk_21 5 (dk_at dksX4_longestDelay_1 4 rfl rfl)
theorem dX4_longestDelay_30 : decode cX4_longestDelay 30 = .ok (.ifCond .ne 7, 3) := dk_154 0 7 (dk_at dksX4_longestDelay_1 6 rfl rfl)
theorem dX4_longestDelay_33 : decode cX4_longestDelay 33 = .ok (.iload_n 1, 1) := dk_27 (dk_at dksX4_longestDelay_1 9 rfl rfl)
theorem dX4_longestDelay_34 : decode cX4_longestDelay 34 = .ok (.goto 14, 3) := dk_167 0 14 (dk_at dksX4_longestDelay_1 10 rfl rfl)
theorem dX4_longestDelay_37 : decode cX4_longestDelay 37 = .ok (.iload 5, 2) := dk_21 5 (dk_at dksX4_longestDelay_1 13 rfl rfl)
theorem dX4_longestDelay_39 : decode cX4_longestDelay 39 = .ok (.iconst 1, 1) := dk_4 (dk_at dksX4_longestDelay_1 15 rfl rfl)
theorem dX4_longestDelay_40 : decode cX4_longestDelay 40 = .ok (.if_icmp .ne 7, 3) := dk_160 0 7 (dk_at dksX4_longestDelay_1 16 rfl rfl)
theorem dX4_longestDelay_43 : decode cX4_longestDelay 43 = .ok (.iload_n 2, 1) := dk_28 (dk_at dksX4_longestDelay_1 19 rfl rfl)
theorem dX4_longestDelay_44 : decode cX4_longestDelay 44 = .ok (.goto 4, 3) := dk_167 0 4 (dk_at dksX4_longestDelay_1 20 rfl rfl)
theorem dX4_longestDelay_47 : decode cX4_longestDelay 47 = .ok (.iload_n 3, 1) := dk_29 (dk_at dksX4_longestDelay_1 23 rfl rfl)
theorem dX4_longestDelay_48 : decode cX4_longestDelay 48 = .ok (.istore 6, 2) := dk_54 6 (dk_at dksX4_longestDelay_2 0 rfl rfl)
theorem dX4_longestDelay_50 : decode cX4_longestDelay 50 = .ok (.aload_n 0, 1) := dk_42 (dk_at dksX4_longestDelay_2 2 rfl rfl)
theorem dX4_longestDelay_51 : decode cX4_longestDelay 51 = .ok (.getfield 7, 3) := dk_180 0 7 (dk_at dksX4_longestDelay_2 3 rfl rfl)
theorem dX4_longestDelay_54 : decode cX4_longestDelay 54 = .ok (.iconst 0, 1) := dk_3 (dk_at dksX4_longestDelay_2 6 rfl rfl)
theorem dX4_longestDelay_55 : decode cX4_longestDelay 55 = .ok (.iconst 4, 1) := dk_7 (dk_at dksX4_longestDelay_2 7 rfl rfl)
theorem dX4_longestDelay_56 : decode cX4_longestDelay 56 = .ok (.iload 5, 2) := dk_21 5 (dk_at dksX4_longestDelay_2 8 rfl rfl)
theorem dX4_longestDelay_58 : decode cX4_longestDelay 58 = .ok (.imul, 1) := dk_104 (dk_at dksX4_longestDelay_2 10 rfl rfl)
theorem dX4_longestDelay_59 : decode cX4_longestDelay 59 = .ok (.iadd, 1) := dk_96 (dk_at dksX4_longestDelay_2 11 rfl rfl)
theorem dX4_longestDelay_60 : decode cX4_longestDelay 60 = .ok (.iconst 3, 1) := dk_6 (dk_at dksX4_longestDelay_2 12 rfl rfl)
theorem dX4_longestDelay_61 : decode cX4_longestDelay 61 = .ok (.iadd, 1) := dk_96 (dk_at dksX4_longestDelay_2 13 rfl rfl)
theorem dX4_longestDelay_62 : decode cX4_longestDelay 62 = .ok (.iaload, 1) := dk_46 (dk_at dksX4_longestDelay_2 14 rfl rfl)
theorem dX4_longestDelay_63 : decode cX4_longestDelay 63 = .ok (.istore 7, 2) := dk_54 7 (dk_at dksX4_longestDelay_2 15 rfl rfl)
theorem dX4_longestDelay_65 : decode cX4_longestDelay 65 = .ok (.iload 7, 2) := dk_21 7 (dk_at dksX4_longestDelay_2 17 rfl rfl)
theorem dX4_longestDelay_67 : decode cX4_longestDelay 67 = .ok (.ldc 67, 2) := dk_18 67 (dk_at dksX4_longestDelay_2 19 rfl rfl)
theorem dX4_longestDelay_69 : decode cX4_longestDelay 69 = .ok (.if_icmp .ne 8, 3) := dk_160 0 8 (dk_at dksX4_longestDelay_2 21 rfl rfl)
theorem dX4_longestDelay_72 : decode cX4_longestDelay 72 = .ok (.iload 4, 2) := dk_21 4 (dk_at dksX4_longestDelay_3 0 rfl rfl)
theorem dX4_longestDelay_74 : decode cX4_longestDelay 74 = .ok (.goto 13, 3) := dk_167 0 13 (dk_at dksX4_longestDelay_3 2 rfl rfl)
theorem dX4_longestDelay_77 : decode cX4_longestDelay 77 = .ok (.iload 4, 2) := dk_21 4 (dk_at dksX4_longestDelay_3 5 rfl rfl)
theorem dX4_longestDelay_79 : decode cX4_longestDelay 79 = .ok (.iload 7, 2) := dk_21 7 (dk_at dksX4_longestDelay_3 7 rfl rfl)
theorem dX4_longestDelay_81 : decode cX4_longestDelay 81 = .ok (.iload 6, 2) := dk_21 6 (dk_at dksX4_longestDelay_3 9 rfl rfl)
theorem dX4_longestDelay_83 : decode cX4_longestDelay 83 = .ok (.isub, 1) := dk_100 (dk_at dksX4_longestDelay_3 11 rfl rfl)
theorem dX4_longestDelay_84 : decode cX4_longestDelay 84 = .ok (.invokestatic 72, 3) := dk_184 0 72 (dk_at dksX4_longestDelay_3 12 rfl rfl)
theorem dX4_longestDelay_87 : decode cX4_longestDelay 87 = .ok (.istore 4, 2) := dk_54 4 (dk_at dksX4_longestDelay_3 15 rfl rfl)
theorem dX4_longestDelay_89 : decode cX4_longestDelay 89 = .ok (.iinc 5 1, 3) := dk_132 5 1 (dk_at dksX4_longestDelay_3 17 rfl rfl)
theorem dX4_longestDelay_92 : decode cX4_longestDelay 92 = .ok (.goto (-70), 3) := dk_167 255 186 (dk_at dksX4_longestDelay_3 20 rfl rfl)
theorem dX4_longestDelay_95 : decode cX4_longestDelay 95 = .ok (.iload 4, 2) := dk_21 4 (dk_at dksX4_longestDelay_4 0 rfl rfl)
theorem dX4_longestDelay_97 : decode cX4_longestDelay 97 = .ok (.iconst 0, 1) := dk_3 (dk_at dksX4_longestDelay_4 2 rfl rfl)
theorem dX4_longestDelay_98 : decode cX4_longestDelay 98 = .ok (.ldc 223, 2) := dk_18 223 (dk_at dksX4_longestDelay_4 3 rfl rfl)
theorem dX4_longestDelay_100 : decode cX4_longestDelay 100 = .ok (.invokestatic 92, 3) := dk_184 0 92 (dk_at dksX4_longestDelay_4 5 rfl rfl)
theorem dX4_longestDelay_103 : decode cX4_longestDelay 103 = .ok (.ifCond .eq 30, 3) := dk_153 0 30 (dk_at dksX4_longestDelay_4 8 rfl rfl)
theorem dX4_longestDelay_106 : decode cX4_longestDelay 106 = .ok (.aload_n 0, 1) := dk_42 (dk_at dksX4_longestDelay_4 11 rfl rfl)
theorem dX4_longestDelay_107 : decode cX4_longestDelay 107 = .ok (.getfield 7, 3) := dk_180 0 7 (dk_at dksX4_longestDelay_4 12 rfl rfl)
theorem dX4_longestDelay_110 : decode cX4_longestDelay 110 = .ok (.iconst 0, 1) := dk_3 (dk_at dksX4_longestDelay_4 15 rfl rfl)
theorem dX4_longestDelay_111 : decode cX4_longestDelay 111 = .ok (.iload_n 1, 1) := dk_27 (dk_at dksX4_longestDelay_4 16 rfl rfl)
theorem dX4_longestDelay_112 : decode cX4_longestDelay 112 = .ok (.iload 4, 2) := dk_21 4 (dk_at dksX4_longestDelay_4 17 rfl rfl)
theorem dX4_longestDelay_114 : decode cX4_longestDelay 114 = .ok (.iadd, 1) := dk_96 (dk_at dksX4_longestDelay_4 19 rfl rfl)
theorem dX4_longestDelay_115 : decode cX4_longestDelay 115 = .ok (.iload_n 2, 1) := dk_28 (dk_at dksX4_longestDelay_4 20 rfl rfl)
theorem dX4_longestDelay_116 : decode cX4_longestDelay 116 = .ok (.iload 4, 2) := dk_21 4 (dk_at dksX4_longestDelay_4 21 rfl rfl)
theorem dX4_longestDelay_118 : decode cX4_longestDelay 118 = .ok (.iadd, 1) := dk_96 (dk_at dksX4_longestDelay_4 23 rfl rfl)
theorem dX4_longestDelay_119 : decode cX4_longestDelay 119 = .ok (.iload_n 3, 1) := dk_29 (dk_at dksX4_longestDelay_5 0 rfl rfl)
theorem dX4_longestDelay_120 : decode cX4_longestDelay 120 = .ok (.iload 4, 2) := dk_21 4 (dk_at dksX4_longestDelay_5 1 rfl rfl)
theorem dX4_longestDelay_122 : decode cX4_longestDelay 122 = .ok (.iadd, 1) := dk_96 (dk_at dksX4_longestDelay_5 3 rfl rfl)
theorem dX4_longestDelay_123 : decode cX4_longestDelay 123 = .ok (.invokestatic 203, 3) := dk_184 0 203 (dk_at dksX4_longestDelay_5 4 rfl rfl)
theorem dX4_longestDelay_126 : decode cX4_longestDelay 126 = .ok (.ifCond .eq 7, 3) := dk_153 0 7 (dk_at dksX4_longestDelay_5 7 rfl rfl)
theorem dX4_longestDelay_129 : decode cX4_longestDelay 129 = .ok (.iconst 1, 1) := dk_4 (dk_at dksX4_longestDelay_5 10 rfl rfl)
theorem dX4_longestDelay_130 : decode cX4_longestDelay 130 = .ok (.goto 4, 3) := dk_167 0 4 (dk_at dksX4_longestDelay_5 11 rfl rfl)
theorem dX4_longestDelay_133 : decode cX4_longestDelay 133 = .ok (.iconst 0, 1) := dk_3 (dk_at dksX4_longestDelay_5 14 rfl rfl)
theorem dX4_longestDelay_134 : decode cX4_longestDelay 134 = .ok (.istore 5, 2) := dk_54 5 (dk_at dksX4_longestDelay_5 15 rfl rfl)
theorem dX4_longestDelay_136 : decode cX4_longestDelay 136 = .ok (.iload 5, 2) := dk_21 5 (dk_at dksX4_longestDelay_5 17 rfl rfl)
theorem dX4_longestDelay_138 : decode cX4_longestDelay 138 = .ok (.ifCond .eq 8, 3) := dk_153 0 8 (dk_at dksX4_longestDelay_5 19 rfl rfl)
theorem dX4_longestDelay_141 : decode cX4_longestDelay 141 = .ok (.iload 4, 2) := dk_21 4 (dk_at dksX4_longestDelay_5 22 rfl rfl)
theorem dX4_longestDelay_143 : decode cX4_longestDelay 143 = .ok (.goto 8, 3) := dk_167 0 8 (dk_at dksX4_longestDelay_6 0 rfl rfl)
theorem dX4_longestDelay_146 : decode cX4_longestDelay 146 = .ok (.aload_n 0, 1) := dk_42 (dk_at dksX4_longestDelay_6 3 rfl rfl)
theorem dX4_longestDelay_147 : decode cX4_longestDelay 147 = .ok (.iconst 2, 1) := dk_5 (dk_at dksX4_longestDelay_6 4 rfl rfl)
theorem dX4_longestDelay_148 : decode cX4_longestDelay 148 = .ok (.invokevirtual 60, 3) := dk_182 0 60 (dk_at dksX4_longestDelay_6 5 rfl rfl)
theorem dX4_longestDelay_151 : decode cX4_longestDelay 151 = .ok (.ireturn, 1) := dk_172 (dk_at dksX4_longestDelay_6 8 rfl rfl)
abbrev cX4_needless : ByteArray := prog_9_method_81_code
def yX4_needless : MethodName := ⟨RX4, "needless", "()I"⟩
def dkwX4_needless_1 : List UInt8 := [42, 28, 182, 0, 224, 153, 0, 7, 4, 167, 0, 4, 3, 96, 60, 132, 2, 1, 167, 255, 231, 27, 172]
abbrev dktX4_needless_1 : List UInt8 := dkwX4_needless_1 ++ []
def dkwX4_needless_0 : List UInt8 := [42, 42, 182, 0, 82, 182, 0, 189, 154, 0, 5, 3, 172, 3, 60, 3, 61, 28, 16, 16, 162, 0, 25, 27]
abbrev dktX4_needless_0 : List UInt8 := dkwX4_needless_0 ++ dktX4_needless_1
theorem dksX4_needless_0 : cX4_needless.data.toList.drop 0 = dktX4_needless_0 := by decide +kernel
theorem dksX4_needless_1 : cX4_needless.data.toList.drop 24 = dktX4_needless_1 := dk_seg dksX4_needless_0 24 rfl rfl
theorem dX4_needless_0 : decode cX4_needless 0 = .ok (.aload_n 0, 1) := dk_42 (dk_at dksX4_needless_0 0 rfl rfl)
theorem dX4_needless_1 : decode cX4_needless 1 = .ok (.aload_n 0, 1) := dk_42 (dk_at dksX4_needless_0 1 rfl rfl)
theorem dX4_needless_2 : decode cX4_needless 2 = .ok (.invokevirtual 82, 3) := dk_182 0 82 (dk_at dksX4_needless_0 2 rfl rfl)
theorem dX4_needless_5 : decode cX4_needless 5 = .ok (.invokevirtual 189, 3) := dk_182 0 189 (dk_at dksX4_needless_0 5 rfl rfl)
theorem dX4_needless_8 : decode cX4_needless 8 = .ok (.ifCond .ne 5, 3) := dk_154 0 5 (dk_at dksX4_needless_0 8 rfl rfl)
theorem dX4_needless_11 : decode cX4_needless 11 = .ok (.iconst 0, 1) := dk_3 (dk_at dksX4_needless_0 11 rfl rfl)
theorem dX4_needless_12 : decode cX4_needless 12 = .ok (.ireturn, 1) := dk_172 (dk_at dksX4_needless_0 12 rfl rfl)
theorem dX4_needless_13 : decode cX4_needless 13 = .ok (.iconst 0, 1) := dk_3 (dk_at dksX4_needless_0 13 rfl rfl)
theorem dX4_needless_14 : decode cX4_needless 14 = .ok (.istore_n 1, 1) := dk_60 (dk_at dksX4_needless_0 14 rfl rfl)
theorem dX4_needless_15 : decode cX4_needless 15 = .ok (.iconst 0, 1) := dk_3 (dk_at dksX4_needless_0 15 rfl rfl)
theorem dX4_needless_16 : decode cX4_needless 16 = .ok (.istore_n 2, 1) := dk_61 (dk_at dksX4_needless_0 16 rfl rfl)
theorem dX4_needless_17 : decode cX4_needless 17 = .ok (.iload_n 2, 1) := dk_28 (dk_at dksX4_needless_0 17 rfl rfl)
theorem dX4_needless_18 : decode cX4_needless 18 = .ok (.bipush 16, 2) := dk_16 16 (dk_at dksX4_needless_0 18 rfl rfl)
theorem dX4_needless_20 : decode cX4_needless 20 = .ok (.if_icmp .ge 25, 3) := dk_162 0 25 (dk_at dksX4_needless_0 20 rfl rfl)
theorem dX4_needless_23 : decode cX4_needless 23 = .ok (.iload_n 1, 1) := dk_27 (dk_at dksX4_needless_0 23 rfl rfl)
theorem dX4_needless_24 : decode cX4_needless 24 = .ok (.aload_n 0, 1) := dk_42 (dk_at dksX4_needless_1 0 rfl rfl)
theorem dX4_needless_25 : decode cX4_needless 25 = .ok (.iload_n 2, 1) := dk_28 (dk_at dksX4_needless_1 1 rfl rfl)
theorem dX4_needless_26 : decode cX4_needless 26 = .ok (.invokevirtual 224, 3) := dk_182 0 224 (dk_at dksX4_needless_1 2 rfl rfl)
theorem dX4_needless_29 : decode cX4_needless 29 = .ok (.ifCond .eq 7, 3) := dk_153 0 7 (dk_at dksX4_needless_1 5 rfl rfl)
theorem dX4_needless_32 : decode cX4_needless 32 = .ok (.iconst 1, 1) := dk_4 (dk_at dksX4_needless_1 8 rfl rfl)
theorem dX4_needless_33 : decode cX4_needless 33 = .ok (.goto 4, 3) := dk_167 0 4 (dk_at dksX4_needless_1 9 rfl rfl)
theorem dX4_needless_36 : decode cX4_needless 36 = .ok (.iconst 0, 1) := dk_3 (dk_at dksX4_needless_1 12 rfl rfl)
theorem dX4_needless_37 : decode cX4_needless 37 = .ok (.iadd, 1) := dk_96 (dk_at dksX4_needless_1 13 rfl rfl)
theorem dX4_needless_38 : decode cX4_needless 38 = .ok (.istore_n 1, 1) := dk_60 (dk_at dksX4_needless_1 14 rfl rfl)
theorem dX4_needless_39 : decode cX4_needless 39 = .ok (.iinc 2 1, 3) := dk_132 2 1 (dk_at dksX4_needless_1 15 rfl rfl)
theorem dX4_needless_42 : decode cX4_needless 42 = .ok (.goto (-25), 3) := dk_167 255 231 (dk_at dksX4_needless_1 18 rfl rfl)
theorem dX4_needless_45 : decode cX4_needless 45 = .ok (.iload_n 1, 1) := dk_27 (dk_at dksX4_needless_1 21 rfl rfl)
theorem dX4_needless_46 : decode cX4_needless 46 = .ok (.ireturn, 1) := dk_172 (dk_at dksX4_needless_1 22 rfl rfl)
abbrev cX4_isNeedless : ByteArray := prog_9_method_80_code
def yX4_isNeedless : MethodName := ⟨RX4, "isNeedless", "(I)Z"⟩
def dkwX4_isNeedless_3 : List UInt8 := [46, 42, 180, 0, 7, 3, 27, 96, 46, 163, 0, 7, 4, 167, 0, 4, 3, 172]
abbrev dktX4_isNeedless_3 : List UInt8 := dkwX4_isNeedless_3 ++ []
def dkwX4_isNeedless_2 : List UInt8 := [184, 0, 75, 42, 180, 0, 28, 27, 28, 79, 42, 180, 0, 28, 3, 184, 0, 78, 87, 42, 180, 0, 28, 27]
abbrev dktX4_isNeedless_2 : List UInt8 := dkwX4_isNeedless_2 ++ dktX4_isNeedless_3
def dkwX4_isNeedless_1 : List UInt8 := [180, 0, 7, 3, 27, 96, 46, 28, 160, 0, 5, 3, 172, 42, 180, 0, 7, 3, 42, 180, 0, 28, 3]
abbrev dktX4_isNeedless_1 : List UInt8 := dkwX4_isNeedless_1 ++ dktX4_isNeedless_2
def dkwX4_isNeedless_0 : List UInt8 := [27, 7, 108, 6, 160, 0, 7, 3, 167, 0, 5, 18, 67, 61, 27, 7, 108, 27, 7, 112, 159, 0, 15, 42]
abbrev dktX4_isNeedless_0 : List UInt8 := dkwX4_isNeedless_0 ++ dktX4_isNeedless_1
theorem dksX4_isNeedless_0 : cX4_isNeedless.data.toList.drop 0 = dktX4_isNeedless_0 := by decide +kernel
theorem dksX4_isNeedless_1 : cX4_isNeedless.data.toList.drop 24 = dktX4_isNeedless_1 := dk_seg dksX4_isNeedless_0 24 rfl rfl
theorem dksX4_isNeedless_2 : cX4_isNeedless.data.toList.drop 47 = dktX4_isNeedless_2 := dk_seg dksX4_isNeedless_1 23 rfl rfl
theorem dksX4_isNeedless_3 : cX4_isNeedless.data.toList.drop 71 = dktX4_isNeedless_3 := dk_seg dksX4_isNeedless_2 24 rfl rfl
theorem dX4_isNeedless_0 : decode cX4_isNeedless 0 = .ok (.iload_n 1, 1) := dk_27 (dk_at dksX4_isNeedless_0 0 rfl rfl)
theorem dX4_isNeedless_1 : decode cX4_isNeedless 1 = .ok (.iconst 4, 1) := dk_7 (dk_at dksX4_isNeedless_0 1 rfl rfl)
theorem dX4_isNeedless_2 : decode cX4_isNeedless 2 = .ok (.idiv, 1) := dk_108 (dk_at dksX4_isNeedless_0 2 rfl rfl)
theorem dX4_isNeedless_3 : decode cX4_isNeedless 3 = .ok (.iconst 3, 1) := dk_6 (dk_at dksX4_isNeedless_0 3 rfl rfl)
theorem dX4_isNeedless_4 : decode cX4_isNeedless 4 = .ok (.if_icmp .ne 7, 3) := dk_160 0 7 (dk_at dksX4_isNeedless_0 4 rfl rfl)
theorem dX4_isNeedless_7 : decode cX4_isNeedless 7 = .ok (.iconst 0, 1) := dk_3 (dk_at dksX4_isNeedless_0 7 rfl rfl)
theorem dX4_isNeedless_8 : decode cX4_isNeedless 8 = .ok (.goto 5, 3) := dk_167 0 5 (dk_at dksX4_isNeedless_0 8 rfl rfl)
theorem dX4_isNeedless_11 : decode cX4_isNeedless 11 = .ok (.ldc 67, 2) := dk_18 67 (dk_at dksX4_isNeedless_0 11 rfl rfl)
theorem dX4_isNeedless_13 : decode cX4_isNeedless 13 = .ok (.istore_n 2, 1) := dk_61 (dk_at dksX4_isNeedless_0 13 rfl rfl)
theorem dX4_isNeedless_14 : decode cX4_isNeedless 14 = .ok (.iload_n 1, 1) := dk_27 (dk_at dksX4_isNeedless_0 14 rfl rfl)
theorem dX4_isNeedless_15 : decode cX4_isNeedless 15 = .ok (.iconst 4, 1) := dk_7 (dk_at dksX4_isNeedless_0 15 rfl rfl)
theorem dX4_isNeedless_16 : decode cX4_isNeedless 16 = .ok (.idiv, 1) := dk_108 (dk_at dksX4_isNeedless_0 16 rfl rfl)
theorem dX4_isNeedless_17 : decode cX4_isNeedless 17 = .ok (.iload_n 1, 1) := dk_27 (dk_at dksX4_isNeedless_0 17 rfl rfl)
theorem dX4_isNeedless_18 : decode cX4_isNeedless 18 = .ok (.iconst 4, 1) := dk_7 (dk_at dksX4_isNeedless_0 18 rfl rfl)
theorem dX4_isNeedless_19 : decode cX4_isNeedless 19 = .ok (.irem, 1) := dk_112 (dk_at dksX4_isNeedless_0 19 rfl rfl)
theorem dX4_isNeedless_20 : decode cX4_isNeedless 20 = .ok (.if_icmp .eq 15, 3) := dk_159 0 15 (dk_at dksX4_isNeedless_0 20 rfl rfl)
theorem dX4_isNeedless_23 : decode cX4_isNeedless 23 = .ok (.aload_n 0, 1) := dk_42 (dk_at dksX4_isNeedless_0 23 rfl rfl)
theorem dX4_isNeedless_24 : decode cX4_isNeedless 24 = .ok (.getfield 7, 3) := dk_180 0 7 (dk_at dksX4_isNeedless_1 0 rfl rfl)
theorem dX4_isNeedless_27 : decode cX4_isNeedless 27 = .ok (.iconst 0, 1) := dk_3 (dk_at dksX4_isNeedless_1 3 rfl rfl)
theorem dX4_isNeedless_28 : decode cX4_isNeedless 28 = .ok (.iload_n 1, 1) := dk_27 (dk_at dksX4_isNeedless_1 4 rfl rfl)
theorem dX4_isNeedless_29 : decode cX4_isNeedless 29 = .ok (.iadd, 1) := dk_96 (dk_at dksX4_isNeedless_1 5 rfl rfl)
theorem dX4_isNeedless_30 : decode cX4_isNeedless 30 = .ok (.iaload, 1) := dk_46 (dk_at dksX4_isNeedless_1 6 rfl rfl)
theorem dX4_isNeedless_31 : decode cX4_isNeedless 31 = .ok (.iload_n 2, 1) := dk_28 (dk_at dksX4_isNeedless_1 7 rfl rfl)
theorem dX4_isNeedless_32 : decode cX4_isNeedless 32 = .ok (.if_icmp .ne 5, 3) := dk_160 0 5 (dk_at dksX4_isNeedless_1 8 rfl rfl)
theorem dX4_isNeedless_35 : decode cX4_isNeedless 35 = .ok (.iconst 0, 1) := dk_3 (dk_at dksX4_isNeedless_1 11 rfl rfl)
theorem dX4_isNeedless_36 : decode cX4_isNeedless 36 = .ok (.ireturn, 1) := dk_172 (dk_at dksX4_isNeedless_1 12 rfl rfl)
theorem dX4_isNeedless_37 : decode cX4_isNeedless 37 = .ok (.aload_n 0, 1) := dk_42 (dk_at dksX4_isNeedless_1 13 rfl rfl)
theorem dX4_isNeedless_38 : decode cX4_isNeedless 38 = .ok (.getfield 7, 3) := dk_180 0 7 (dk_at dksX4_isNeedless_1 14 rfl rfl)
theorem dX4_isNeedless_41 : decode cX4_isNeedless 41 = .ok (.iconst 0, 1) := dk_3 (dk_at dksX4_isNeedless_1 17 rfl rfl)
theorem dX4_isNeedless_42 : decode cX4_isNeedless 42 = .ok (.aload_n 0, 1) := dk_42 (dk_at dksX4_isNeedless_1 18 rfl rfl)
theorem dX4_isNeedless_43 : decode cX4_isNeedless 43 = .ok (.getfield 28, 3) := dk_180 0 28 (dk_at dksX4_isNeedless_1 19 rfl rfl)
theorem dX4_isNeedless_46 : decode cX4_isNeedless 46 = .ok (.iconst 0, 1) := dk_3 (dk_at dksX4_isNeedless_1 22 rfl rfl)
theorem dX4_isNeedless_47 : decode cX4_isNeedless 47 = .ok (.invokestatic 75, 3) := dk_184 0 75 (dk_at dksX4_isNeedless_2 0 rfl rfl)
theorem dX4_isNeedless_50 : decode cX4_isNeedless 50 = .ok (.aload_n 0, 1) := dk_42 (dk_at dksX4_isNeedless_2 3 rfl rfl)
theorem dX4_isNeedless_51 : decode cX4_isNeedless 51 = .ok (.getfield 28, 3) := dk_180 0 28 (dk_at dksX4_isNeedless_2 4 rfl rfl)
theorem dX4_isNeedless_54 : decode cX4_isNeedless 54 = .ok (.iload_n 1, 1) := dk_27 (dk_at dksX4_isNeedless_2 7 rfl rfl)
theorem dX4_isNeedless_55 : decode cX4_isNeedless 55 = .ok (.iload_n 2, 1) := dk_28 (dk_at dksX4_isNeedless_2 8 rfl rfl)
theorem dX4_isNeedless_56 : decode cX4_isNeedless 56 = .ok (.iastore, 1) := dk_79 (dk_at dksX4_isNeedless_2 9 rfl rfl)
theorem dX4_isNeedless_57 : decode cX4_isNeedless 57 = .ok (.aload_n 0, 1) := dk_42 (dk_at dksX4_isNeedless_2 10 rfl rfl)
theorem dX4_isNeedless_58 : decode cX4_isNeedless 58 = .ok (.getfield 28, 3) := dk_180 0 28 (dk_at dksX4_isNeedless_2 11 rfl rfl)
theorem dX4_isNeedless_61 : decode cX4_isNeedless 61 = .ok (.iconst 0, 1) := dk_3 (dk_at dksX4_isNeedless_2 14 rfl rfl)
theorem dX4_isNeedless_62 : decode cX4_isNeedless 62 = .ok (.invokestatic 78, 3) := dk_184 0 78 (dk_at dksX4_isNeedless_2 15 rfl rfl)
theorem dX4_isNeedless_65 : decode cX4_isNeedless 65 = .ok (.pop, 1) := dk_87 (dk_at dksX4_isNeedless_2 18 rfl rfl)
theorem dX4_isNeedless_66 : decode cX4_isNeedless 66 = .ok (.aload_n 0, 1) := dk_42 (dk_at dksX4_isNeedless_2 19 rfl rfl)
theorem dX4_isNeedless_67 : decode cX4_isNeedless 67 = .ok (.getfield 28, 3) := dk_180 0 28 (dk_at dksX4_isNeedless_2 20 rfl rfl)
theorem dX4_isNeedless_70 : decode cX4_isNeedless 70 = .ok (.iload_n 1, 1) := dk_27 (dk_at dksX4_isNeedless_2 23 rfl rfl)
theorem dX4_isNeedless_71 : decode cX4_isNeedless 71 = .ok (.iaload, 1) := dk_46 (dk_at dksX4_isNeedless_3 0 rfl rfl)
theorem dX4_isNeedless_72 : decode cX4_isNeedless 72 = .ok (.aload_n 0, 1) := dk_42 (dk_at dksX4_isNeedless_3 1 rfl rfl)
theorem dX4_isNeedless_73 : decode cX4_isNeedless 73 = .ok (.getfield 7, 3) := dk_180 0 7 (dk_at dksX4_isNeedless_3 2 rfl rfl)
theorem dX4_isNeedless_76 : decode cX4_isNeedless 76 = .ok (.iconst 0, 1) := dk_3 (dk_at dksX4_isNeedless_3 5 rfl rfl)
theorem dX4_isNeedless_77 : decode cX4_isNeedless 77 = .ok (.iload_n 1, 1) := dk_27 (dk_at dksX4_isNeedless_3 6 rfl rfl)
theorem dX4_isNeedless_78 : decode cX4_isNeedless 78 = .ok (.iadd, 1) := dk_96 (dk_at dksX4_isNeedless_3 7 rfl rfl)
theorem dX4_isNeedless_79 : decode cX4_isNeedless 79 = .ok (.iaload, 1) := dk_46 (dk_at dksX4_isNeedless_3 8 rfl rfl)
theorem dX4_isNeedless_80 : decode cX4_isNeedless 80 = .ok (.if_icmp .gt 7, 3) := dk_163 0 7 (dk_at dksX4_isNeedless_3 9 rfl rfl)
theorem dX4_isNeedless_83 : decode cX4_isNeedless 83 = .ok (.iconst 1, 1) := dk_4 (dk_at dksX4_isNeedless_3 12 rfl rfl)
theorem dX4_isNeedless_84 : decode cX4_isNeedless 84 = .ok (.goto 4, 3) := dk_167 0 4 (dk_at dksX4_isNeedless_3 13 rfl rfl)
theorem dX4_isNeedless_87 : decode cX4_isNeedless 87 = .ok (.iconst 0, 1) := dk_3 (dk_at dksX4_isNeedless_3 16 rfl rfl)
theorem dX4_isNeedless_88 : decode cX4_isNeedless 88 = .ok (.ireturn, 1) := dk_172 (dk_at dksX4_isNeedless_3 17 rfl rfl)
abbrev cX4_isShelfEmpty : ByteArray := prog_9_method_83_code
def yX4_isShelfEmpty : MethodName := ⟨RX4, "isShelfEmpty", "(I)Z"⟩
def dkwX4_isShelfEmpty_1 : List UInt8 := [172]
abbrev dktX4_isShelfEmpty_1 : List UInt8 := dkwX4_isShelfEmpty_1 ++ []
def dkwX4_isShelfEmpty_0 : List UInt8 := [42, 27, 184, 0, 164, 182, 0, 189, 153, 0, 15, 42, 27, 182, 0, 167, 154, 0, 7, 4, 167, 0, 4, 3]
abbrev dktX4_isShelfEmpty_0 : List UInt8 := dkwX4_isShelfEmpty_0 ++ dktX4_isShelfEmpty_1
theorem dksX4_isShelfEmpty_0 : cX4_isShelfEmpty.data.toList.drop 0 = dktX4_isShelfEmpty_0 := by decide +kernel
theorem dksX4_isShelfEmpty_1 : cX4_isShelfEmpty.data.toList.drop 24 = dktX4_isShelfEmpty_1 := dk_seg dksX4_isShelfEmpty_0 24 rfl rfl
theorem dX4_isShelfEmpty_0 : decode cX4_isShelfEmpty 0 = .ok (.aload_n 0, 1) := dk_42 (dk_at dksX4_isShelfEmpty_0 0 rfl rfl)
theorem dX4_isShelfEmpty_1 : decode cX4_isShelfEmpty 1 = .ok (.iload_n 1, 1) := dk_27 (dk_at dksX4_isShelfEmpty_0 1 rfl rfl)
theorem dX4_isShelfEmpty_2 : decode cX4_isShelfEmpty 2 = .ok (.invokestatic 164, 3) := dk_184 0 164 (dk_at dksX4_isShelfEmpty_0 2 rfl rfl)
theorem dX4_isShelfEmpty_5 : decode cX4_isShelfEmpty 5 = .ok (.invokevirtual 189, 3) := dk_182 0 189 (dk_at dksX4_isShelfEmpty_0 5 rfl rfl)
theorem dX4_isShelfEmpty_8 : decode cX4_isShelfEmpty 8 = .ok (.ifCond .eq 15, 3) := dk_153 0 15 (dk_at dksX4_isShelfEmpty_0 8 rfl rfl)
theorem dX4_isShelfEmpty_11 : decode cX4_isShelfEmpty 11 = .ok (.aload_n 0, 1) := dk_42 (dk_at dksX4_isShelfEmpty_0 11 rfl rfl)
theorem dX4_isShelfEmpty_12 : decode cX4_isShelfEmpty 12 = .ok (.iload_n 1, 1) := dk_27 (dk_at dksX4_isShelfEmpty_0 12 rfl rfl)
theorem dX4_isShelfEmpty_13 : decode cX4_isShelfEmpty 13 = .ok (.invokevirtual 167, 3) := dk_182 0 167 (dk_at dksX4_isShelfEmpty_0 13 rfl rfl)
theorem dX4_isShelfEmpty_16 : decode cX4_isShelfEmpty 16 = .ok (.ifCond .ne 7, 3) := dk_154 0 7 (dk_at dksX4_isShelfEmpty_0 16 rfl rfl)
theorem dX4_isShelfEmpty_19 : decode cX4_isShelfEmpty 19 = .ok (.iconst 1, 1) := dk_4 (dk_at dksX4_isShelfEmpty_0 19 rfl rfl)
theorem dX4_isShelfEmpty_20 : decode cX4_isShelfEmpty 20 = .ok (.goto 4, 3) := dk_167 0 4 (dk_at dksX4_isShelfEmpty_0 20 rfl rfl)
theorem dX4_isShelfEmpty_23 : decode cX4_isShelfEmpty 23 = .ok (.iconst 0, 1) := dk_3 (dk_at dksX4_isShelfEmpty_0 23 rfl rfl)
theorem dX4_isShelfEmpty_24 : decode cX4_isShelfEmpty 24 = .ok (.ireturn, 1) := dk_172 (dk_at dksX4_isShelfEmpty_1 0 rfl rfl)
abbrev cX4_isWithin : ByteArray := prog_9_method_85_code
def yX4_isWithin : MethodName := ⟨RX4, "isWithin", "(I)Z"⟩
def dkwX4_isWithin_1 : List UInt8 := [16, 16, 16, 16, 27, 104, 96, 184, 0, 230, 153, 0, 7, 4, 167, 0, 4, 3, 172]
abbrev dktX4_isWithin_1 : List UInt8 := dkwX4_isWithin_1 ++ []
def dkwX4_isWithin_0 : List UInt8 := [42, 27, 182, 0, 227, 153, 0, 36, 42, 182, 0, 82, 153, 0, 25, 42, 180, 0, 25, 3, 42, 180, 0, 7]
abbrev dktX4_isWithin_0 : List UInt8 := dkwX4_isWithin_0 ++ dktX4_isWithin_1
theorem dksX4_isWithin_0 : cX4_isWithin.data.toList.drop 0 = dktX4_isWithin_0 := by decide +kernel
theorem dksX4_isWithin_1 : cX4_isWithin.data.toList.drop 24 = dktX4_isWithin_1 := dk_seg dksX4_isWithin_0 24 rfl rfl
theorem dX4_isWithin_0 : decode cX4_isWithin 0 = .ok (.aload_n 0, 1) := dk_42 (dk_at dksX4_isWithin_0 0 rfl rfl)
theorem dX4_isWithin_1 : decode cX4_isWithin 1 = .ok (.iload_n 1, 1) := dk_27 (dk_at dksX4_isWithin_0 1 rfl rfl)
theorem dX4_isWithin_2 : decode cX4_isWithin 2 = .ok (.invokevirtual 227, 3) := dk_182 0 227 (dk_at dksX4_isWithin_0 2 rfl rfl)
theorem dX4_isWithin_5 : decode cX4_isWithin 5 = .ok (.ifCond .eq 36, 3) := dk_153 0 36 (dk_at dksX4_isWithin_0 5 rfl rfl)
theorem dX4_isWithin_8 : decode cX4_isWithin 8 = .ok (.aload_n 0, 1) := dk_42 (dk_at dksX4_isWithin_0 8 rfl rfl)
theorem dX4_isWithin_9 : decode cX4_isWithin 9 = .ok (.invokevirtual 82, 3) := dk_182 0 82 (dk_at dksX4_isWithin_0 9 rfl rfl)
theorem dX4_isWithin_12 : decode cX4_isWithin 12 = .ok (.ifCond .eq 25, 3) := dk_153 0 25 (dk_at dksX4_isWithin_0 12 rfl rfl)
theorem dX4_isWithin_15 : decode cX4_isWithin 15 = .ok (.aload_n 0, 1) := dk_42 (dk_at dksX4_isWithin_0 15 rfl rfl)
theorem dX4_isWithin_16 : decode cX4_isWithin 16 = .ok (.getfield 25, 3) := dk_180 0 25 (dk_at dksX4_isWithin_0 16 rfl rfl)
theorem dX4_isWithin_19 : decode cX4_isWithin 19 = .ok (.iconst 0, 1) := dk_3 (dk_at dksX4_isWithin_0 19 rfl rfl)
theorem dX4_isWithin_20 : decode cX4_isWithin 20 = .ok (.aload_n 0, 1) := dk_42 (dk_at dksX4_isWithin_0 20 rfl rfl)
theorem dX4_isWithin_21 : decode cX4_isWithin 21 = .ok (.getfield 7, 3) := dk_180 0 7 (dk_at dksX4_isWithin_0 21 rfl rfl)
theorem dX4_isWithin_24 : decode cX4_isWithin 24 = .ok (.bipush 16, 2) := dk_16 16 (dk_at dksX4_isWithin_1 0 rfl rfl)
theorem dX4_isWithin_26 : decode cX4_isWithin 26 = .ok (.bipush 16, 2) := dk_16 16 (dk_at dksX4_isWithin_1 2 rfl rfl)
theorem dX4_isWithin_28 : decode cX4_isWithin 28 = .ok (.iload_n 1, 1) := dk_27 (dk_at dksX4_isWithin_1 4 rfl rfl)
theorem dX4_isWithin_29 : decode cX4_isWithin 29 = .ok (.imul, 1) := dk_104 (dk_at dksX4_isWithin_1 5 rfl rfl)
theorem dX4_isWithin_30 : decode cX4_isWithin 30 = .ok (.iadd, 1) := dk_96 (dk_at dksX4_isWithin_1 6 rfl rfl)
theorem dX4_isWithin_31 : decode cX4_isWithin 31 = .ok (.invokestatic 230, 3) := dk_184 0 230 (dk_at dksX4_isWithin_1 7 rfl rfl)
theorem dX4_isWithin_34 : decode cX4_isWithin 34 = .ok (.ifCond .eq 7, 3) := dk_153 0 7 (dk_at dksX4_isWithin_1 10 rfl rfl)
theorem dX4_isWithin_37 : decode cX4_isWithin 37 = .ok (.iconst 1, 1) := dk_4 (dk_at dksX4_isWithin_1 13 rfl rfl)
theorem dX4_isWithin_38 : decode cX4_isWithin 38 = .ok (.goto 4, 3) := dk_167 0 4 (dk_at dksX4_isWithin_1 14 rfl rfl)
theorem dX4_isWithin_41 : decode cX4_isWithin 41 = .ok (.iconst 0, 1) := dk_3 (dk_at dksX4_isWithin_1 17 rfl rfl)
theorem dX4_isWithin_42 : decode cX4_isWithin 42 = .ok (.ireturn, 1) := dk_172 (dk_at dksX4_isWithin_1 18 rfl rfl)
abbrev cX4_asksShelf : ByteArray := prog_9_method_82_code
def yX4_asksShelf : MethodName := ⟨RX4, "asksShelf", "(I)Z"⟩
def dkwX4_asksShelf_1 : List UInt8 := [167, 0, 4, 5, 181, 0, 49, 42, 180, 0, 49, 154, 0, 7, 4, 167, 0, 4, 3, 172]
abbrev dktX4_asksShelf_1 : List UInt8 := dkwX4_asksShelf_1 ++ []
def dkwX4_asksShelf_0 : List UInt8 := [42, 27, 184, 0, 164, 182, 0, 189, 154, 0, 5, 3, 172, 42, 42, 27, 182, 0, 167, 153, 0, 7, 3]
abbrev dktX4_asksShelf_0 : List UInt8 := dkwX4_asksShelf_0 ++ dktX4_asksShelf_1
theorem dksX4_asksShelf_0 : cX4_asksShelf.data.toList.drop 0 = dktX4_asksShelf_0 := by decide +kernel
theorem dksX4_asksShelf_1 : cX4_asksShelf.data.toList.drop 23 = dktX4_asksShelf_1 := dk_seg dksX4_asksShelf_0 23 rfl rfl
theorem dX4_asksShelf_0 : decode cX4_asksShelf 0 = .ok (.aload_n 0, 1) := dk_42 (dk_at dksX4_asksShelf_0 0 rfl rfl)
theorem dX4_asksShelf_1 : decode cX4_asksShelf 1 = .ok (.iload_n 1, 1) := dk_27 (dk_at dksX4_asksShelf_0 1 rfl rfl)
theorem dX4_asksShelf_2 : decode cX4_asksShelf 2 = .ok (.invokestatic 164, 3) := dk_184 0 164 (dk_at dksX4_asksShelf_0 2 rfl rfl)
theorem dX4_asksShelf_5 : decode cX4_asksShelf 5 = .ok (.invokevirtual 189, 3) := dk_182 0 189 (dk_at dksX4_asksShelf_0 5 rfl rfl)
theorem dX4_asksShelf_8 : decode cX4_asksShelf 8 = .ok (.ifCond .ne 5, 3) := dk_154 0 5 (dk_at dksX4_asksShelf_0 8 rfl rfl)
theorem dX4_asksShelf_11 : decode cX4_asksShelf 11 = .ok (.iconst 0, 1) := dk_3 (dk_at dksX4_asksShelf_0 11 rfl rfl)
theorem dX4_asksShelf_12 : decode cX4_asksShelf 12 = .ok (.ireturn, 1) := dk_172 (dk_at dksX4_asksShelf_0 12 rfl rfl)
theorem dX4_asksShelf_13 : decode cX4_asksShelf 13 = .ok (.aload_n 0, 1) := dk_42 (dk_at dksX4_asksShelf_0 13 rfl rfl)
theorem dX4_asksShelf_14 : decode cX4_asksShelf 14 = .ok (.aload_n 0, 1) := dk_42 (dk_at dksX4_asksShelf_0 14 rfl rfl)
theorem dX4_asksShelf_15 : decode cX4_asksShelf 15 = .ok (.iload_n 1, 1) := dk_27 (dk_at dksX4_asksShelf_0 15 rfl rfl)
theorem dX4_asksShelf_16 : decode cX4_asksShelf 16 = .ok (.invokevirtual 167, 3) := dk_182 0 167 (dk_at dksX4_asksShelf_0 16 rfl rfl)
theorem dX4_asksShelf_19 : decode cX4_asksShelf 19 = .ok (.ifCond .eq 7, 3) := dk_153 0 7 (dk_at dksX4_asksShelf_0 19 rfl rfl)
theorem dX4_asksShelf_22 : decode cX4_asksShelf 22 = .ok (.iconst 0, 1) := dk_3 (dk_at dksX4_asksShelf_0 22 rfl rfl)
theorem dX4_asksShelf_23 : decode cX4_asksShelf 23 = .ok (.goto 4, 3) := dk_167 0 4 (dk_at dksX4_asksShelf_1 0 rfl rfl)
theorem dX4_asksShelf_26 : decode cX4_asksShelf 26 = .ok (.iconst 2, 1) := dk_5 (dk_at dksX4_asksShelf_1 3 rfl rfl)
theorem dX4_asksShelf_27 : decode cX4_asksShelf 27 = .ok (.putfield 49, 3) := dk_181 0 49 (dk_at dksX4_asksShelf_1 4 rfl rfl)
theorem dX4_asksShelf_30 : decode cX4_asksShelf 30 = .ok (.aload_n 0, 1) := dk_42 (dk_at dksX4_asksShelf_1 7 rfl rfl)
theorem dX4_asksShelf_31 : decode cX4_asksShelf 31 = .ok (.getfield 49, 3) := dk_180 0 49 (dk_at dksX4_asksShelf_1 8 rfl rfl)
theorem dX4_asksShelf_34 : decode cX4_asksShelf 34 = .ok (.ifCond .ne 7, 3) := dk_154 0 7 (dk_at dksX4_asksShelf_1 11 rfl rfl)
theorem dX4_asksShelf_37 : decode cX4_asksShelf 37 = .ok (.iconst 1, 1) := dk_4 (dk_at dksX4_asksShelf_1 14 rfl rfl)
theorem dX4_asksShelf_38 : decode cX4_asksShelf 38 = .ok (.goto 4, 3) := dk_167 0 4 (dk_at dksX4_asksShelf_1 15 rfl rfl)
theorem dX4_asksShelf_41 : decode cX4_asksShelf 41 = .ok (.iconst 0, 1) := dk_3 (dk_at dksX4_asksShelf_1 18 rfl rfl)
theorem dX4_asksShelf_42 : decode cX4_asksShelf 42 = .ok (.ireturn, 1) := dk_172 (dk_at dksX4_asksShelf_1 19 rfl rfl)
abbrev cX4_isInside : ByteArray := prog_9_method_84_code
def yX4_isInside : MethodName := ⟨RX4, "isInside", "([II[II)Z"⟩
def dkwX4_isInside_2 : List UInt8 := [172]
abbrev dktX4_isInside_2 : List UInt8 := dkwX4_isInside_2 ++ []
def dkwX4_isInside_1 : List UInt8 := [44, 29, 21, 5, 96, 46, 163, 0, 7, 4, 167, 0, 4, 3, 54, 4, 132, 5, 1, 167, 255, 219, 21, 4]
abbrev dktX4_isInside_1 : List UInt8 := dkwX4_isInside_1 ++ dktX4_isInside_2
def dkwX4_isInside_0 : List UInt8 := [4, 54, 4, 3, 54, 5, 21, 5, 16, 16, 162, 0, 36, 21, 4, 153, 0, 22, 42, 27, 21, 5, 96, 46]
abbrev dktX4_isInside_0 : List UInt8 := dkwX4_isInside_0 ++ dktX4_isInside_1
theorem dksX4_isInside_0 : cX4_isInside.data.toList.drop 0 = dktX4_isInside_0 := by decide +kernel
theorem dksX4_isInside_1 : cX4_isInside.data.toList.drop 24 = dktX4_isInside_1 := dk_seg dksX4_isInside_0 24 rfl rfl
theorem dksX4_isInside_2 : cX4_isInside.data.toList.drop 48 = dktX4_isInside_2 := dk_seg dksX4_isInside_1 24 rfl rfl
theorem dX4_isInside_0 : decode cX4_isInside 0 = .ok (.iconst 1, 1) := dk_4 (dk_at dksX4_isInside_0 0 rfl rfl)
theorem dX4_isInside_1 : decode cX4_isInside 1 = .ok (.istore 4, 2) := dk_54 4 (dk_at dksX4_isInside_0 1 rfl rfl)
theorem dX4_isInside_3 : decode cX4_isInside 3 = .ok (.iconst 0, 1) := dk_3 (dk_at dksX4_isInside_0 3 rfl rfl)
theorem dX4_isInside_4 : decode cX4_isInside 4 = .ok (.istore 5, 2) := dk_54 5 (dk_at dksX4_isInside_0 4 rfl rfl)
theorem dX4_isInside_6 : decode cX4_isInside 6 = .ok (.iload 5, 2) := dk_21 5 (dk_at dksX4_isInside_0 6 rfl rfl)
theorem dX4_isInside_8 : decode cX4_isInside 8 = .ok (.bipush 16, 2) := dk_16 16 (dk_at dksX4_isInside_0 8 rfl rfl)
theorem dX4_isInside_10 : decode cX4_isInside 10 = .ok (.if_icmp .ge 36, 3) := dk_162 0 36 (dk_at dksX4_isInside_0 10 rfl rfl)
theorem dX4_isInside_13 : decode cX4_isInside 13 = .ok (.iload 4, 2) := dk_21 4 (dk_at dksX4_isInside_0 13 rfl rfl)
theorem dX4_isInside_15 : decode cX4_isInside 15 = .ok (.ifCond .eq 22, 3) := dk_153 0 22 (dk_at dksX4_isInside_0 15 rfl rfl)
theorem dX4_isInside_18 : decode cX4_isInside 18 = .ok (.aload_n 0, 1) := dk_42 (dk_at dksX4_isInside_0 18 rfl rfl)
theorem dX4_isInside_19 : decode cX4_isInside 19 = .ok (.iload_n 1, 1) := dk_27 (dk_at dksX4_isInside_0 19 rfl rfl)
theorem dX4_isInside_20 : decode cX4_isInside 20 = .ok (.iload 5, 2) := dk_21 5 (dk_at dksX4_isInside_0 20 rfl rfl)
theorem dX4_isInside_22 : decode cX4_isInside 22 = .ok (.iadd, 1) := dk_96 (dk_at dksX4_isInside_0 22 rfl rfl)
theorem dX4_isInside_23 : decode cX4_isInside 23 = .ok (.iaload, 1) := dk_46 (dk_at dksX4_isInside_0 23 rfl rfl)
theorem dX4_isInside_24 : decode cX4_isInside 24 = .ok (.aload_n 2, 1) := dk_44 (dk_at dksX4_isInside_1 0 rfl rfl)
theorem dX4_isInside_25 : decode cX4_isInside 25 = .ok (.iload_n 3, 1) := dk_29 (dk_at dksX4_isInside_1 1 rfl rfl)
theorem dX4_isInside_26 : decode cX4_isInside 26 = .ok (.iload 5, 2) := dk_21 5 (dk_at dksX4_isInside_1 2 rfl rfl)
theorem dX4_isInside_28 : decode cX4_isInside 28 = .ok (.iadd, 1) := dk_96 (dk_at dksX4_isInside_1 4 rfl rfl)
theorem dX4_isInside_29 : decode cX4_isInside 29 = .ok (.iaload, 1) := dk_46 (dk_at dksX4_isInside_1 5 rfl rfl)
theorem dX4_isInside_30 : decode cX4_isInside 30 = .ok (.if_icmp .gt 7, 3) := dk_163 0 7 (dk_at dksX4_isInside_1 6 rfl rfl)
theorem dX4_isInside_33 : decode cX4_isInside 33 = .ok (.iconst 1, 1) := dk_4 (dk_at dksX4_isInside_1 9 rfl rfl)
theorem dX4_isInside_34 : decode cX4_isInside 34 = .ok (.goto 4, 3) := dk_167 0 4 (dk_at dksX4_isInside_1 10 rfl rfl)
theorem dX4_isInside_37 : decode cX4_isInside 37 = .ok (.iconst 0, 1) := dk_3 (dk_at dksX4_isInside_1 13 rfl rfl)
theorem dX4_isInside_38 : decode cX4_isInside 38 = .ok (.istore 4, 2) := dk_54 4 (dk_at dksX4_isInside_1 14 rfl rfl)
theorem dX4_isInside_40 : decode cX4_isInside 40 = .ok (.iinc 5 1, 3) := dk_132 5 1 (dk_at dksX4_isInside_1 16 rfl rfl)
theorem dX4_isInside_43 : decode cX4_isInside 43 = .ok (.goto (-37), 3) := dk_167 255 219 (dk_at dksX4_isInside_1 19 rfl rfl)
theorem dX4_isInside_46 : decode cX4_isInside 46 = .ok (.iload 4, 2) := dk_21 4 (dk_at dksX4_isInside_1 22 rfl rfl)
theorem dX4_isInside_48 : decode cX4_isInside 48 = .ok (.ireturn, 1) := dk_172 (dk_at dksX4_isInside_2 0 rfl rfl)
abbrev cX4_momentsBeyond : ByteArray := prog_9_method_86_code
def yX4_momentsBeyond : MethodName := ⟨RX4, "momentsBeyond", "(I)I"⟩
def dkwX4_momentsBeyond_0 : List UInt8 := [42, 27, 182, 0, 227, 154, 0, 5, 3, 172, 42, 3, 27, 182, 0, 214, 42, 180, 0, 207, 172]
abbrev dktX4_momentsBeyond_0 : List UInt8 := dkwX4_momentsBeyond_0 ++ []
theorem dksX4_momentsBeyond_0 : cX4_momentsBeyond.data.toList.drop 0 = dktX4_momentsBeyond_0 := by decide +kernel
theorem dX4_momentsBeyond_0 : decode cX4_momentsBeyond 0 = .ok (.aload_n 0, 1) := dk_42 (dk_at dksX4_momentsBeyond_0 0 rfl rfl)
theorem dX4_momentsBeyond_1 : decode cX4_momentsBeyond 1 = .ok (.iload_n 1, 1) := dk_27 (dk_at dksX4_momentsBeyond_0 1 rfl rfl)
theorem dX4_momentsBeyond_2 : decode cX4_momentsBeyond 2 = .ok (.invokevirtual 227, 3) := dk_182 0 227 (dk_at dksX4_momentsBeyond_0 2 rfl rfl)
theorem dX4_momentsBeyond_5 : decode cX4_momentsBeyond 5 = .ok (.ifCond .ne 5, 3) := dk_154 0 5 (dk_at dksX4_momentsBeyond_0 5 rfl rfl)
theorem dX4_momentsBeyond_8 : decode cX4_momentsBeyond 8 = .ok (.iconst 0, 1) := dk_3 (dk_at dksX4_momentsBeyond_0 8 rfl rfl)
theorem dX4_momentsBeyond_9 : decode cX4_momentsBeyond 9 = .ok (.ireturn, 1) := dk_172 (dk_at dksX4_momentsBeyond_0 9 rfl rfl)
theorem dX4_momentsBeyond_10 : decode cX4_momentsBeyond 10 = .ok (.aload_n 0, 1) := dk_42 (dk_at dksX4_momentsBeyond_0 10 rfl rfl)
theorem dX4_momentsBeyond_11 : decode cX4_momentsBeyond 11 = .ok (.iconst 0, 1) := dk_3 (dk_at dksX4_momentsBeyond_0 11 rfl rfl)
theorem dX4_momentsBeyond_12 : decode cX4_momentsBeyond 12 = .ok (.iload_n 1, 1) := dk_27 (dk_at dksX4_momentsBeyond_0 12 rfl rfl)
theorem dX4_momentsBeyond_13 : decode cX4_momentsBeyond 13 = .ok (.invokevirtual 214, 3) := dk_182 0 214 (dk_at dksX4_momentsBeyond_0 13 rfl rfl)
theorem dX4_momentsBeyond_16 : decode cX4_momentsBeyond 16 = .ok (.aload_n 0, 1) := dk_42 (dk_at dksX4_momentsBeyond_0 16 rfl rfl)
theorem dX4_momentsBeyond_17 : decode cX4_momentsBeyond 17 = .ok (.getfield 207, 3) := dk_180 0 207 (dk_at dksX4_momentsBeyond_0 17 rfl rfl)
theorem dX4_momentsBeyond_20 : decode cX4_momentsBeyond 20 = .ok (.ireturn, 1) := dk_172 (dk_at dksX4_momentsBeyond_0 20 rfl rfl)
abbrev cX4_doMeet : ByteArray := prog_9_method_87_code
def yX4_doMeet : MethodName := ⟨RX4, "doMeet", "(I)Z"⟩
def dkwX4_doMeet_2 : List UInt8 := [79, 132, 2, 1, 167, 255, 216, 42, 180, 0, 28, 3, 184, 0, 78, 172]
abbrev dktX4_doMeet_2 : List UInt8 := dkwX4_doMeet_2 ++ []
def dkwX4_doMeet_1 : List UInt8 := [180, 0, 7, 3, 28, 96, 46, 42, 180, 0, 7, 16, 16, 16, 16, 27, 104, 96, 28, 96, 46, 184, 0, 72]
abbrev dktX4_doMeet_1 : List UInt8 := dkwX4_doMeet_1 ++ dktX4_doMeet_2
def dkwX4_doMeet_0 : List UInt8 := [42, 27, 182, 0, 227, 154, 0, 5, 3, 172, 3, 61, 28, 16, 16, 162, 0, 40, 42, 180, 0, 28, 28, 42]
abbrev dktX4_doMeet_0 : List UInt8 := dkwX4_doMeet_0 ++ dktX4_doMeet_1
theorem dksX4_doMeet_0 : cX4_doMeet.data.toList.drop 0 = dktX4_doMeet_0 := by decide +kernel
theorem dksX4_doMeet_1 : cX4_doMeet.data.toList.drop 24 = dktX4_doMeet_1 := dk_seg dksX4_doMeet_0 24 rfl rfl
theorem dksX4_doMeet_2 : cX4_doMeet.data.toList.drop 48 = dktX4_doMeet_2 := dk_seg dksX4_doMeet_1 24 rfl rfl
theorem dX4_doMeet_0 : decode cX4_doMeet 0 = .ok (.aload_n 0, 1) := dk_42 (dk_at dksX4_doMeet_0 0 rfl rfl)
theorem dX4_doMeet_1 : decode cX4_doMeet 1 = .ok (.iload_n 1, 1) := dk_27 (dk_at dksX4_doMeet_0 1 rfl rfl)
theorem dX4_doMeet_2 : decode cX4_doMeet 2 = .ok (.invokevirtual 227, 3) := dk_182 0 227 (dk_at dksX4_doMeet_0 2 rfl rfl)
theorem dX4_doMeet_5 : decode cX4_doMeet 5 = .ok (.ifCond .ne 5, 3) := dk_154 0 5 (dk_at dksX4_doMeet_0 5 rfl rfl)
theorem dX4_doMeet_8 : decode cX4_doMeet 8 = .ok (.iconst 0, 1) := dk_3 (dk_at dksX4_doMeet_0 8 rfl rfl)
theorem dX4_doMeet_9 : decode cX4_doMeet 9 = .ok (.ireturn, 1) := dk_172 (dk_at dksX4_doMeet_0 9 rfl rfl)
theorem dX4_doMeet_10 : decode cX4_doMeet 10 = .ok (.iconst 0, 1) := dk_3 (dk_at dksX4_doMeet_0 10 rfl rfl)
theorem dX4_doMeet_11 : decode cX4_doMeet 11 = .ok (.istore_n 2, 1) := dk_61 (dk_at dksX4_doMeet_0 11 rfl rfl)
theorem dX4_doMeet_12 : decode cX4_doMeet 12 = .ok (.iload_n 2, 1) := dk_28 (dk_at dksX4_doMeet_0 12 rfl rfl)
theorem dX4_doMeet_13 : decode cX4_doMeet 13 = .ok (.bipush 16, 2) := dk_16 16 (dk_at dksX4_doMeet_0 13 rfl rfl)
theorem dX4_doMeet_15 : decode cX4_doMeet 15 = .ok (.if_icmp .ge 40, 3) := dk_162 0 40 (dk_at dksX4_doMeet_0 15 rfl rfl)
theorem dX4_doMeet_18 : decode cX4_doMeet 18 = .ok (.aload_n 0, 1) := dk_42 (dk_at dksX4_doMeet_0 18 rfl rfl)
theorem dX4_doMeet_19 : decode cX4_doMeet 19 = .ok (.getfield 28, 3) := dk_180 0 28 (dk_at dksX4_doMeet_0 19 rfl rfl)
theorem dX4_doMeet_22 : decode cX4_doMeet 22 = .ok (.iload_n 2, 1) := dk_28 (dk_at dksX4_doMeet_0 22 rfl rfl)
theorem dX4_doMeet_23 : decode cX4_doMeet 23 = .ok (.aload_n 0, 1) := dk_42 (dk_at dksX4_doMeet_0 23 rfl rfl)
theorem dX4_doMeet_24 : decode cX4_doMeet 24 = .ok (.getfield 7, 3) := dk_180 0 7 (dk_at dksX4_doMeet_1 0 rfl rfl)
theorem dX4_doMeet_27 : decode cX4_doMeet 27 = .ok (.iconst 0, 1) := dk_3 (dk_at dksX4_doMeet_1 3 rfl rfl)
theorem dX4_doMeet_28 : decode cX4_doMeet 28 = .ok (.iload_n 2, 1) := dk_28 (dk_at dksX4_doMeet_1 4 rfl rfl)
theorem dX4_doMeet_29 : decode cX4_doMeet 29 = .ok (.iadd, 1) := dk_96 (dk_at dksX4_doMeet_1 5 rfl rfl)
theorem dX4_doMeet_30 : decode cX4_doMeet 30 = .ok (.iaload, 1) := dk_46 (dk_at dksX4_doMeet_1 6 rfl rfl)
theorem dX4_doMeet_31 : decode cX4_doMeet 31 = .ok (.aload_n 0, 1) := dk_42 (dk_at dksX4_doMeet_1 7 rfl rfl)
theorem dX4_doMeet_32 : decode cX4_doMeet 32 = .ok (.getfield 7, 3) := dk_180 0 7 (dk_at dksX4_doMeet_1 8 rfl rfl)
theorem dX4_doMeet_35 : decode cX4_doMeet 35 = .ok (.bipush 16, 2) := dk_16 16 (dk_at dksX4_doMeet_1 11 rfl rfl)
theorem dX4_doMeet_37 : decode cX4_doMeet 37 = .ok (.bipush 16, 2) := dk_16 16 (dk_at dksX4_doMeet_1 13 rfl rfl)
theorem dX4_doMeet_39 : decode cX4_doMeet 39 = .ok (.iload_n 1, 1) := dk_27 (dk_at dksX4_doMeet_1 15 rfl rfl)
theorem dX4_doMeet_40 : decode cX4_doMeet 40 = .ok (.imul, 1) := dk_104 (dk_at dksX4_doMeet_1 16 rfl rfl)
theorem dX4_doMeet_41 : decode cX4_doMeet 41 = .ok (.iadd, 1) := dk_96 (dk_at dksX4_doMeet_1 17 rfl rfl)
theorem dX4_doMeet_42 : decode cX4_doMeet 42 = .ok (.iload_n 2, 1) := dk_28 (dk_at dksX4_doMeet_1 18 rfl rfl)
theorem dX4_doMeet_43 : decode cX4_doMeet 43 = .ok (.iadd, 1) := dk_96 (dk_at dksX4_doMeet_1 19 rfl rfl)
theorem dX4_doMeet_44 : decode cX4_doMeet 44 = .ok (.iaload, 1) := dk_46 (dk_at dksX4_doMeet_1 20 rfl rfl)
theorem dX4_doMeet_45 : decode cX4_doMeet 45 = .ok (.invokestatic 72, 3) := dk_184 0 72 (dk_at dksX4_doMeet_1 21 rfl rfl)
theorem dX4_doMeet_48 : decode cX4_doMeet 48 = .ok (.iastore, 1) := dk_79 (dk_at dksX4_doMeet_2 0 rfl rfl)
theorem dX4_doMeet_49 : decode cX4_doMeet 49 = .ok (.iinc 2 1, 3) := dk_132 2 1 (dk_at dksX4_doMeet_2 1 rfl rfl)
theorem dX4_doMeet_52 : decode cX4_doMeet 52 = .ok (.goto (-40), 3) := dk_167 255 216 (dk_at dksX4_doMeet_2 4 rfl rfl)
theorem dX4_doMeet_55 : decode cX4_doMeet 55 = .ok (.aload_n 0, 1) := dk_42 (dk_at dksX4_doMeet_2 7 rfl rfl)
theorem dX4_doMeet_56 : decode cX4_doMeet 56 = .ok (.getfield 28, 3) := dk_180 0 28 (dk_at dksX4_doMeet_2 8 rfl rfl)
theorem dX4_doMeet_59 : decode cX4_doMeet 59 = .ok (.iconst 0, 1) := dk_3 (dk_at dksX4_doMeet_2 11 rfl rfl)
theorem dX4_doMeet_60 : decode cX4_doMeet 60 = .ok (.invokestatic 78, 3) := dk_184 0 78 (dk_at dksX4_doMeet_2 12 rfl rfl)
theorem dX4_doMeet_63 : decode cX4_doMeet 63 = .ok (.ireturn, 1) := dk_172 (dk_at dksX4_doMeet_2 15 rfl rfl)
abbrev cX4_stayOf : ByteArray := prog_9_method_89_code
def yX4_stayOf : MethodName := ⟨RX4, "stayOf", "(II)I"⟩
def dkwX4_stayOf_1 : List UInt8 := [153, 0, 12, 42, 27, 28, 182, 0, 234, 167, 0, 4, 3, 172]
abbrev dktX4_stayOf_1 : List UInt8 := dkwX4_stayOf_1 ++ []
def dkwX4_stayOf_0 : List UInt8 := [42, 27, 184, 0, 176, 153, 0, 14, 28, 184, 0, 104, 153, 0, 7, 4, 167, 0, 4, 3, 182, 0, 189]
abbrev dktX4_stayOf_0 : List UInt8 := dkwX4_stayOf_0 ++ dktX4_stayOf_1
theorem dksX4_stayOf_0 : cX4_stayOf.data.toList.drop 0 = dktX4_stayOf_0 := by decide +kernel
theorem dksX4_stayOf_1 : cX4_stayOf.data.toList.drop 23 = dktX4_stayOf_1 := dk_seg dksX4_stayOf_0 23 rfl rfl
theorem dX4_stayOf_0 : decode cX4_stayOf 0 = .ok (.aload_n 0, 1) := dk_42 (dk_at dksX4_stayOf_0 0 rfl rfl)
theorem dX4_stayOf_1 : decode cX4_stayOf 1 = .ok (.iload_n 1, 1) := dk_27 (dk_at dksX4_stayOf_0 1 rfl rfl)
theorem dX4_stayOf_2 : decode cX4_stayOf 2 = .ok (.invokestatic 176, 3) := dk_184 0 176 (dk_at dksX4_stayOf_0 2 rfl rfl)
theorem dX4_stayOf_5 : decode cX4_stayOf 5 = .ok (.ifCond .eq 14, 3) := dk_153 0 14 (dk_at dksX4_stayOf_0 5 rfl rfl)
theorem dX4_stayOf_8 : decode cX4_stayOf 8 = .ok (.iload_n 2, 1) := dk_28 (dk_at dksX4_stayOf_0 8 rfl rfl)
theorem dX4_stayOf_9 : decode cX4_stayOf 9 = .ok (.invokestatic 104, 3) := dk_184 0 104 (dk_at dksX4_stayOf_0 9 rfl rfl)
theorem dX4_stayOf_12 : decode cX4_stayOf 12 = .ok (.ifCond .eq 7, 3) := dk_153 0 7 (dk_at dksX4_stayOf_0 12 rfl rfl)
theorem dX4_stayOf_15 : decode cX4_stayOf 15 = .ok (.iconst 1, 1) := dk_4 (dk_at dksX4_stayOf_0 15 rfl rfl)
theorem dX4_stayOf_16 : decode cX4_stayOf 16 = .ok (.goto 4, 3) := dk_167 0 4 (dk_at dksX4_stayOf_0 16 rfl rfl)
theorem dX4_stayOf_19 : decode cX4_stayOf 19 = .ok (.iconst 0, 1) := dk_3 (dk_at dksX4_stayOf_0 19 rfl rfl)
theorem dX4_stayOf_20 : decode cX4_stayOf 20 = .ok (.invokevirtual 189, 3) := dk_182 0 189 (dk_at dksX4_stayOf_0 20 rfl rfl)
theorem dX4_stayOf_23 : decode cX4_stayOf 23 = .ok (.ifCond .eq 12, 3) := dk_153 0 12 (dk_at dksX4_stayOf_1 0 rfl rfl)
theorem dX4_stayOf_26 : decode cX4_stayOf 26 = .ok (.aload_n 0, 1) := dk_42 (dk_at dksX4_stayOf_1 3 rfl rfl)
theorem dX4_stayOf_27 : decode cX4_stayOf 27 = .ok (.iload_n 1, 1) := dk_27 (dk_at dksX4_stayOf_1 4 rfl rfl)
theorem dX4_stayOf_28 : decode cX4_stayOf 28 = .ok (.iload_n 2, 1) := dk_28 (dk_at dksX4_stayOf_1 5 rfl rfl)
theorem dX4_stayOf_29 : decode cX4_stayOf 29 = .ok (.invokevirtual 234, 3) := dk_182 0 234 (dk_at dksX4_stayOf_1 6 rfl rfl)
theorem dX4_stayOf_32 : decode cX4_stayOf 32 = .ok (.goto 4, 3) := dk_167 0 4 (dk_at dksX4_stayOf_1 9 rfl rfl)
theorem dX4_stayOf_35 : decode cX4_stayOf 35 = .ok (.iconst 0, 1) := dk_3 (dk_at dksX4_stayOf_1 12 rfl rfl)
theorem dX4_stayOf_36 : decode cX4_stayOf 36 = .ok (.ireturn, 1) := dk_172 (dk_at dksX4_stayOf_1 13 rfl rfl)
abbrev cX4_stay : ByteArray := prog_9_method_88_code
def yX4_stay : MethodName := ⟨RX4, "stay", "(II)I"⟩
def dkwX4_stay_0 : List UInt8 := [42, 180, 0, 7, 16, 84, 6, 27, 104, 96, 28, 96, 46, 172]
abbrev dktX4_stay_0 : List UInt8 := dkwX4_stay_0 ++ []
theorem dksX4_stay_0 : cX4_stay.data.toList.drop 0 = dktX4_stay_0 := by decide +kernel
theorem dX4_stay_0 : decode cX4_stay 0 = .ok (.aload_n 0, 1) := dk_42 (dk_at dksX4_stay_0 0 rfl rfl)
theorem dX4_stay_1 : decode cX4_stay 1 = .ok (.getfield 7, 3) := dk_180 0 7 (dk_at dksX4_stay_0 1 rfl rfl)
theorem dX4_stay_4 : decode cX4_stay 4 = .ok (.bipush 84, 2) := dk_16 84 (dk_at dksX4_stay_0 4 rfl rfl)
theorem dX4_stay_6 : decode cX4_stay 6 = .ok (.iconst 3, 1) := dk_6 (dk_at dksX4_stay_0 6 rfl rfl)
theorem dX4_stay_7 : decode cX4_stay 7 = .ok (.iload_n 1, 1) := dk_27 (dk_at dksX4_stay_0 7 rfl rfl)
theorem dX4_stay_8 : decode cX4_stay 8 = .ok (.imul, 1) := dk_104 (dk_at dksX4_stay_0 8 rfl rfl)
theorem dX4_stay_9 : decode cX4_stay 9 = .ok (.iadd, 1) := dk_96 (dk_at dksX4_stay_0 9 rfl rfl)
theorem dX4_stay_10 : decode cX4_stay 10 = .ok (.iload_n 2, 1) := dk_28 (dk_at dksX4_stay_0 10 rfl rfl)
theorem dX4_stay_11 : decode cX4_stay 11 = .ok (.iadd, 1) := dk_96 (dk_at dksX4_stay_0 11 rfl rfl)
theorem dX4_stay_12 : decode cX4_stay 12 = .ok (.iaload, 1) := dk_46 (dk_at dksX4_stay_0 12 rfl rfl)
theorem dX4_stay_13 : decode cX4_stay 13 = .ok (.ireturn, 1) := dk_172 (dk_at dksX4_stay_0 13 rfl rfl)
abbrev cX4_lines : ByteArray := prog_9_method_90_code
def yX4_lines : MethodName := ⟨RX4, "lines", "()I"⟩
def dkwX4_lines_0 : List UInt8 := [42, 3, 181, 0, 49, 42, 180, 0, 7, 16, 102, 46, 172]
abbrev dktX4_lines_0 : List UInt8 := dkwX4_lines_0 ++ []
theorem dksX4_lines_0 : cX4_lines.data.toList.drop 0 = dktX4_lines_0 := by decide +kernel
theorem dX4_lines_0 : decode cX4_lines 0 = .ok (.aload_n 0, 1) := dk_42 (dk_at dksX4_lines_0 0 rfl rfl)
theorem dX4_lines_1 : decode cX4_lines 1 = .ok (.iconst 0, 1) := dk_3 (dk_at dksX4_lines_0 1 rfl rfl)
theorem dX4_lines_2 : decode cX4_lines 2 = .ok (.putfield 49, 3) := dk_181 0 49 (dk_at dksX4_lines_0 2 rfl rfl)
theorem dX4_lines_5 : decode cX4_lines 5 = .ok (.aload_n 0, 1) := dk_42 (dk_at dksX4_lines_0 5 rfl rfl)
theorem dX4_lines_6 : decode cX4_lines 6 = .ok (.getfield 7, 3) := dk_180 0 7 (dk_at dksX4_lines_0 6 rfl rfl)
theorem dX4_lines_9 : decode cX4_lines 9 = .ok (.bipush 102, 2) := dk_16 102 (dk_at dksX4_lines_0 9 rfl rfl)
theorem dX4_lines_11 : decode cX4_lines 11 = .ok (.iaload, 1) := dk_46 (dk_at dksX4_lines_0 11 rfl rfl)
theorem dX4_lines_12 : decode cX4_lines 12 = .ok (.ireturn, 1) := dk_172 (dk_at dksX4_lines_0 12 rfl rfl)
abbrev cX4_fromOf : ByteArray := prog_9_method_91_code
def yX4_fromOf : MethodName := ⟨RX4, "fromOf", "(I)I"⟩
def dkwX4_fromOf_0 : List UInt8 := [42, 42, 27, 182, 0, 183, 182, 0, 189, 153, 0, 12, 42, 27, 3, 182, 0, 186, 167, 0, 4, 3, 172]
abbrev dktX4_fromOf_0 : List UInt8 := dkwX4_fromOf_0 ++ []
theorem dksX4_fromOf_0 : cX4_fromOf.data.toList.drop 0 = dktX4_fromOf_0 := by decide +kernel
theorem dX4_fromOf_0 : decode cX4_fromOf 0 = .ok (.aload_n 0, 1) := dk_42 (dk_at dksX4_fromOf_0 0 rfl rfl)
theorem dX4_fromOf_1 : decode cX4_fromOf 1 = .ok (.aload_n 0, 1) := dk_42 (dk_at dksX4_fromOf_0 1 rfl rfl)
theorem dX4_fromOf_2 : decode cX4_fromOf 2 = .ok (.iload_n 1, 1) := dk_27 (dk_at dksX4_fromOf_0 2 rfl rfl)
theorem dX4_fromOf_3 : decode cX4_fromOf 3 = .ok (.invokevirtual 183, 3) := dk_182 0 183 (dk_at dksX4_fromOf_0 3 rfl rfl)
theorem dX4_fromOf_6 : decode cX4_fromOf 6 = .ok (.invokevirtual 189, 3) := dk_182 0 189 (dk_at dksX4_fromOf_0 6 rfl rfl)
theorem dX4_fromOf_9 : decode cX4_fromOf 9 = .ok (.ifCond .eq 12, 3) := dk_153 0 12 (dk_at dksX4_fromOf_0 9 rfl rfl)
theorem dX4_fromOf_12 : decode cX4_fromOf 12 = .ok (.aload_n 0, 1) := dk_42 (dk_at dksX4_fromOf_0 12 rfl rfl)
theorem dX4_fromOf_13 : decode cX4_fromOf 13 = .ok (.iload_n 1, 1) := dk_27 (dk_at dksX4_fromOf_0 13 rfl rfl)
theorem dX4_fromOf_14 : decode cX4_fromOf 14 = .ok (.iconst 0, 1) := dk_3 (dk_at dksX4_fromOf_0 14 rfl rfl)
theorem dX4_fromOf_15 : decode cX4_fromOf 15 = .ok (.invokevirtual 186, 3) := dk_182 0 186 (dk_at dksX4_fromOf_0 15 rfl rfl)
theorem dX4_fromOf_18 : decode cX4_fromOf 18 = .ok (.goto 4, 3) := dk_167 0 4 (dk_at dksX4_fromOf_0 18 rfl rfl)
theorem dX4_fromOf_21 : decode cX4_fromOf 21 = .ok (.iconst 0, 1) := dk_3 (dk_at dksX4_fromOf_0 21 rfl rfl)
theorem dX4_fromOf_22 : decode cX4_fromOf 22 = .ok (.ireturn, 1) := dk_172 (dk_at dksX4_fromOf_0 22 rfl rfl)
abbrev cX4_toOf : ByteArray := prog_9_method_92_code
def yX4_toOf : MethodName := ⟨RX4, "toOf", "(I)I"⟩
def dkwX4_toOf_0 : List UInt8 := [42, 42, 27, 182, 0, 183, 182, 0, 189, 153, 0, 12, 42, 27, 4, 182, 0, 186, 167, 0, 4, 3, 172]
abbrev dktX4_toOf_0 : List UInt8 := dkwX4_toOf_0 ++ []
theorem dksX4_toOf_0 : cX4_toOf.data.toList.drop 0 = dktX4_toOf_0 := by decide +kernel
theorem dX4_toOf_0 : decode cX4_toOf 0 = .ok (.aload_n 0, 1) := dk_42 (dk_at dksX4_toOf_0 0 rfl rfl)
theorem dX4_toOf_1 : decode cX4_toOf 1 = .ok (.aload_n 0, 1) := dk_42 (dk_at dksX4_toOf_0 1 rfl rfl)
theorem dX4_toOf_2 : decode cX4_toOf 2 = .ok (.iload_n 1, 1) := dk_27 (dk_at dksX4_toOf_0 2 rfl rfl)
theorem dX4_toOf_3 : decode cX4_toOf 3 = .ok (.invokevirtual 183, 3) := dk_182 0 183 (dk_at dksX4_toOf_0 3 rfl rfl)
theorem dX4_toOf_6 : decode cX4_toOf 6 = .ok (.invokevirtual 189, 3) := dk_182 0 189 (dk_at dksX4_toOf_0 6 rfl rfl)
theorem dX4_toOf_9 : decode cX4_toOf 9 = .ok (.ifCond .eq 12, 3) := dk_153 0 12 (dk_at dksX4_toOf_0 9 rfl rfl)
theorem dX4_toOf_12 : decode cX4_toOf 12 = .ok (.aload_n 0, 1) := dk_42 (dk_at dksX4_toOf_0 12 rfl rfl)
theorem dX4_toOf_13 : decode cX4_toOf 13 = .ok (.iload_n 1, 1) := dk_27 (dk_at dksX4_toOf_0 13 rfl rfl)
theorem dX4_toOf_14 : decode cX4_toOf 14 = .ok (.iconst 1, 1) := dk_4 (dk_at dksX4_toOf_0 14 rfl rfl)
theorem dX4_toOf_15 : decode cX4_toOf 15 = .ok (.invokevirtual 186, 3) := dk_182 0 186 (dk_at dksX4_toOf_0 15 rfl rfl)
theorem dX4_toOf_18 : decode cX4_toOf 18 = .ok (.goto 4, 3) := dk_167 0 4 (dk_at dksX4_toOf_0 18 rfl rfl)
theorem dX4_toOf_21 : decode cX4_toOf 21 = .ok (.iconst 0, 1) := dk_3 (dk_at dksX4_toOf_0 21 rfl rfl)
theorem dX4_toOf_22 : decode cX4_toOf 22 = .ok (.ireturn, 1) := dk_172 (dk_at dksX4_toOf_0 22 rfl rfl)
abbrev cX4_doesReset : ByteArray := prog_9_method_93_code
def yX4_doesReset : MethodName := ⟨RX4, "doesReset", "(II)Z"⟩
def dkwX4_doesReset_1 : List UInt8 := [153, 0, 22, 42, 27, 16, 8, 182, 0, 186, 28, 122, 4, 126, 4, 160, 0, 7, 4, 167, 0, 4, 3, 172]
abbrev dktX4_doesReset_1 : List UInt8 := dkwX4_doesReset_1 ++ []
def dkwX4_doesReset_0 : List UInt8 := [42, 42, 27, 182, 0, 183, 153, 0, 14, 28, 184, 0, 104, 153, 0, 7, 4, 167, 0, 4, 3, 182, 0, 189]
abbrev dktX4_doesReset_0 : List UInt8 := dkwX4_doesReset_0 ++ dktX4_doesReset_1
theorem dksX4_doesReset_0 : cX4_doesReset.data.toList.drop 0 = dktX4_doesReset_0 := by decide +kernel
theorem dksX4_doesReset_1 : cX4_doesReset.data.toList.drop 24 = dktX4_doesReset_1 := dk_seg dksX4_doesReset_0 24 rfl rfl
theorem dX4_doesReset_0 : decode cX4_doesReset 0 = .ok (.aload_n 0, 1) := dk_42 (dk_at dksX4_doesReset_0 0 rfl rfl)
theorem dX4_doesReset_1 : decode cX4_doesReset 1 = .ok (.aload_n 0, 1) := dk_42 (dk_at dksX4_doesReset_0 1 rfl rfl)
theorem dX4_doesReset_2 : decode cX4_doesReset 2 = .ok (.iload_n 1, 1) := dk_27 (dk_at dksX4_doesReset_0 2 rfl rfl)
theorem dX4_doesReset_3 : decode cX4_doesReset 3 = .ok (.invokevirtual 183, 3) := dk_182 0 183 (dk_at dksX4_doesReset_0 3 rfl rfl)
theorem dX4_doesReset_6 : decode cX4_doesReset 6 = .ok (.ifCond .eq 14, 3) := dk_153 0 14 (dk_at dksX4_doesReset_0 6 rfl rfl)
theorem dX4_doesReset_9 : decode cX4_doesReset 9 = .ok (.iload_n 2, 1) := dk_28 (dk_at dksX4_doesReset_0 9 rfl rfl)
theorem dX4_doesReset_10 : decode cX4_doesReset 10 = .ok (.invokestatic 104, 3) := dk_184 0 104 (dk_at dksX4_doesReset_0 10 rfl rfl)
theorem dX4_doesReset_13 : decode cX4_doesReset 13 = .ok (.ifCond .eq 7, 3) := dk_153 0 7 (dk_at dksX4_doesReset_0 13 rfl rfl)
theorem dX4_doesReset_16 : decode cX4_doesReset 16 = .ok (.iconst 1, 1) := dk_4 (dk_at dksX4_doesReset_0 16 rfl rfl)
theorem dX4_doesReset_17 : decode cX4_doesReset 17 = .ok (.goto 4, 3) := dk_167 0 4 (dk_at dksX4_doesReset_0 17 rfl rfl)
theorem dX4_doesReset_20 : decode cX4_doesReset 20 = .ok (.iconst 0, 1) := dk_3 (dk_at dksX4_doesReset_0 20 rfl rfl)
theorem dX4_doesReset_21 : decode cX4_doesReset 21 = .ok (.invokevirtual 189, 3) := dk_182 0 189 (dk_at dksX4_doesReset_0 21 rfl rfl)
theorem dX4_doesReset_24 : decode cX4_doesReset 24 = .ok (.ifCond .eq 22, 3) := dk_153 0 22 (dk_at dksX4_doesReset_1 0 rfl rfl)
theorem dX4_doesReset_27 : decode cX4_doesReset 27 = .ok (.aload_n 0, 1) := dk_42 (dk_at dksX4_doesReset_1 3 rfl rfl)
theorem dX4_doesReset_28 : decode cX4_doesReset 28 = .ok (.iload_n 1, 1) := dk_27 (dk_at dksX4_doesReset_1 4 rfl rfl)
theorem dX4_doesReset_29 : decode cX4_doesReset 29 = .ok (.bipush 8, 2) := dk_16 8 (dk_at dksX4_doesReset_1 5 rfl rfl)
theorem dX4_doesReset_31 : decode cX4_doesReset 31 = .ok (.invokevirtual 186, 3) := dk_182 0 186 (dk_at dksX4_doesReset_1 7 rfl rfl)
theorem dX4_doesReset_34 : decode cX4_doesReset 34 = .ok (.iload_n 2, 1) := dk_28 (dk_at dksX4_doesReset_1 10 rfl rfl)
theorem dX4_doesReset_35 : decode cX4_doesReset 35 = .ok (.ishr, 1) := dk_122 (dk_at dksX4_doesReset_1 11 rfl rfl)
theorem dX4_doesReset_36 : decode cX4_doesReset 36 = .ok (.iconst 1, 1) := dk_4 (dk_at dksX4_doesReset_1 12 rfl rfl)
theorem dX4_doesReset_37 : decode cX4_doesReset 37 = .ok (.iand, 1) := dk_126 (dk_at dksX4_doesReset_1 13 rfl rfl)
theorem dX4_doesReset_38 : decode cX4_doesReset 38 = .ok (.iconst 1, 1) := dk_4 (dk_at dksX4_doesReset_1 14 rfl rfl)
theorem dX4_doesReset_39 : decode cX4_doesReset 39 = .ok (.if_icmp .ne 7, 3) := dk_160 0 7 (dk_at dksX4_doesReset_1 15 rfl rfl)
theorem dX4_doesReset_42 : decode cX4_doesReset 42 = .ok (.iconst 1, 1) := dk_4 (dk_at dksX4_doesReset_1 18 rfl rfl)
theorem dX4_doesReset_43 : decode cX4_doesReset 43 = .ok (.goto 4, 3) := dk_167 0 4 (dk_at dksX4_doesReset_1 19 rfl rfl)
theorem dX4_doesReset_46 : decode cX4_doesReset 46 = .ok (.iconst 0, 1) := dk_3 (dk_at dksX4_doesReset_1 22 rfl rfl)
theorem dX4_doesReset_47 : decode cX4_doesReset 47 = .ok (.ireturn, 1) := dk_172 (dk_at dksX4_doesReset_1 23 rfl rfl)
abbrev cX4_reachable : ByteArray := prog_9_method_101_code
def yX4_reachable : MethodName := ⟨RX4, "reachable", "()I"⟩
def dkwX4_reachable_1 : List UInt8 := [162, 0, 20, 27, 4, 42, 180, 0, 34, 28, 46, 120, 128, 60, 132, 2, 1, 167, 255, 234, 27, 172]
abbrev dktX4_reachable_1 : List UInt8 := dkwX4_reachable_1 ++ []
def dkwX4_reachable_0 : List UInt8 := [42, 42, 182, 1, 2, 182, 0, 189, 154, 0, 5, 3, 172, 3, 60, 3, 61, 28, 42, 180, 0, 237]
abbrev dktX4_reachable_0 : List UInt8 := dkwX4_reachable_0 ++ dktX4_reachable_1
theorem dksX4_reachable_0 : cX4_reachable.data.toList.drop 0 = dktX4_reachable_0 := by decide +kernel
theorem dksX4_reachable_1 : cX4_reachable.data.toList.drop 22 = dktX4_reachable_1 := dk_seg dksX4_reachable_0 22 rfl rfl
theorem dX4_reachable_0 : decode cX4_reachable 0 = .ok (.aload_n 0, 1) := dk_42 (dk_at dksX4_reachable_0 0 rfl rfl)
theorem dX4_reachable_1 : decode cX4_reachable 1 = .ok (.aload_n 0, 1) := dk_42 (dk_at dksX4_reachable_0 1 rfl rfl)
theorem dX4_reachable_2 : decode cX4_reachable 2 = .ok (.invokevirtual 258, 3) := dk_182 1 2 (dk_at dksX4_reachable_0 2 rfl rfl)
theorem dX4_reachable_5 : decode cX4_reachable 5 = .ok (.invokevirtual 189, 3) := dk_182 0 189 (dk_at dksX4_reachable_0 5 rfl rfl)
theorem dX4_reachable_8 : decode cX4_reachable 8 = .ok (.ifCond .ne 5, 3) := dk_154 0 5 (dk_at dksX4_reachable_0 8 rfl rfl)
theorem dX4_reachable_11 : decode cX4_reachable 11 = .ok (.iconst 0, 1) := dk_3 (dk_at dksX4_reachable_0 11 rfl rfl)
theorem dX4_reachable_12 : decode cX4_reachable 12 = .ok (.ireturn, 1) := dk_172 (dk_at dksX4_reachable_0 12 rfl rfl)
theorem dX4_reachable_13 : decode cX4_reachable 13 = .ok (.iconst 0, 1) := dk_3 (dk_at dksX4_reachable_0 13 rfl rfl)
theorem dX4_reachable_14 : decode cX4_reachable 14 = .ok (.istore_n 1, 1) := dk_60 (dk_at dksX4_reachable_0 14 rfl rfl)
theorem dX4_reachable_15 : decode cX4_reachable 15 = .ok (.iconst 0, 1) := dk_3 (dk_at dksX4_reachable_0 15 rfl rfl)
theorem dX4_reachable_16 : decode cX4_reachable 16 = .ok (.istore_n 2, 1) := dk_61 (dk_at dksX4_reachable_0 16 rfl rfl)
theorem dX4_reachable_17 : decode cX4_reachable 17 = .ok (.iload_n 2, 1) := dk_28 (dk_at dksX4_reachable_0 17 rfl rfl)
theorem dX4_reachable_18 : decode cX4_reachable 18 = .ok (.aload_n 0, 1) := dk_42 (dk_at dksX4_reachable_0 18 rfl rfl)
theorem dX4_reachable_19 : decode cX4_reachable 19 = .ok (.getfield 237, 3) := dk_180 0 237 (dk_at dksX4_reachable_0 19 rfl rfl)
theorem dX4_reachable_22 : decode cX4_reachable 22 = .ok (.if_icmp .ge 20, 3) := dk_162 0 20 (dk_at dksX4_reachable_1 0 rfl rfl)
theorem dX4_reachable_25 : decode cX4_reachable 25 = .ok (.iload_n 1, 1) := dk_27 (dk_at dksX4_reachable_1 3 rfl rfl)
theorem dX4_reachable_26 : decode cX4_reachable 26 = .ok (.iconst 1, 1) := dk_4 (dk_at dksX4_reachable_1 4 rfl rfl)
theorem dX4_reachable_27 : decode cX4_reachable 27 = .ok (.aload_n 0, 1) := dk_42 (dk_at dksX4_reachable_1 5 rfl rfl)
theorem dX4_reachable_28 : decode cX4_reachable 28 = .ok (.getfield 34, 3) := dk_180 0 34 (dk_at dksX4_reachable_1 6 rfl rfl)
theorem dX4_reachable_31 : decode cX4_reachable 31 = .ok (.iload_n 2, 1) := dk_28 (dk_at dksX4_reachable_1 9 rfl rfl)
theorem dX4_reachable_32 : decode cX4_reachable 32 = .ok (.iaload, 1) := dk_46 (dk_at dksX4_reachable_1 10 rfl rfl)
theorem dX4_reachable_33 : decode cX4_reachable 33 = .ok (.ishl, 1) := dk_120 (dk_at dksX4_reachable_1 11 rfl rfl)
theorem dX4_reachable_34 : decode cX4_reachable 34 = .ok (.ior, 1) := dk_128 (dk_at dksX4_reachable_1 12 rfl rfl)
theorem dX4_reachable_35 : decode cX4_reachable 35 = .ok (.istore_n 1, 1) := dk_60 (dk_at dksX4_reachable_1 13 rfl rfl)
theorem dX4_reachable_36 : decode cX4_reachable 36 = .ok (.iinc 2 1, 3) := dk_132 2 1 (dk_at dksX4_reachable_1 14 rfl rfl)
theorem dX4_reachable_39 : decode cX4_reachable 39 = .ok (.goto (-22), 3) := dk_167 255 234 (dk_at dksX4_reachable_1 17 rfl rfl)
theorem dX4_reachable_42 : decode cX4_reachable 42 = .ok (.iload_n 1, 1) := dk_27 (dk_at dksX4_reachable_1 20 rfl rfl)
theorem dX4_reachable_43 : decode cX4_reachable 43 = .ok (.ireturn, 1) := dk_172 (dk_at dksX4_reachable_1 21 rfl rfl)
abbrev cX4_spreads : ByteArray := prog_9_method_100_code
def yX4_spreads : MethodName := ⟨RX4, "spreads", "()Z"⟩
def dkwX4_spreads_8 : List UInt8 := [16, 120, 163, 0, 7, 4, 167, 0, 4, 3, 172]
abbrev dktX4_spreads_8 : List UInt8 := dkwX4_spreads_8 ++ []
def dkwX4_spreads_7 : List UInt8 := [29, 46, 4, 96, 182, 0, 249, 132, 4, 1, 167, 255, 161, 132, 3, 1, 167, 255, 135, 42, 180, 0, 237]
abbrev dktX4_spreads_7 : List UInt8 := dkwX4_spreads_7 ++ dktX4_spreads_8
def dkwX4_spreads_6 : List UInt8 := [4, 167, 0, 4, 3, 54, 5, 21, 5, 153, 0, 22, 42, 42, 21, 4, 4, 182, 0, 186, 42, 180, 0, 37]
abbrev dktX4_spreads_6 : List UInt8 := dkwX4_spreads_6 ++ dktX4_spreads_7
def dkwX4_spreads_5 : List UInt8 := [42, 29, 21, 4, 182, 0, 252, 153, 0, 21, 42, 42, 21, 4, 4, 182, 0, 186, 182, 0, 255, 153, 0, 7]
abbrev dktX4_spreads_5 : List UInt8 := dkwX4_spreads_5 ++ dktX4_spreads_6
def dkwX4_spreads_4 : List UInt8 := [180, 0, 237, 16, 120, 163, 0, 80, 42, 21, 4, 3, 182, 0, 186, 42, 180, 0, 34, 29, 46, 160, 0, 31]
abbrev dktX4_spreads_4 : List UInt8 := dkwX4_spreads_4 ++ dktX4_spreads_5
def dkwX4_spreads_3 : List UInt8 := [180, 0, 237, 16, 120, 163, 0, 110, 3, 54, 4, 21, 4, 42, 180, 0, 7, 16, 102, 46, 162, 0, 89, 42]
abbrev dktX4_spreads_3 : List UInt8 := dkwX4_spreads_3 ++ dktX4_spreads_4
def dkwX4_spreads_2 : List UInt8 := [3, 61, 28, 153, 0, 9, 42, 3, 3, 182, 0, 249, 3, 62, 29, 42, 180, 0, 237, 162, 0, 119, 42]
abbrev dktX4_spreads_2 : List UInt8 := dkwX4_spreads_2 ++ dktX4_spreads_3
def dkwX4_spreads_1 : List UInt8 := [167, 255, 240, 42, 182, 0, 118, 60, 42, 3, 182, 0, 243, 153, 0, 11, 27, 155, 0, 7, 4, 167, 0, 4]
abbrev dktX4_spreads_1 : List UInt8 := dkwX4_spreads_1 ++ dktX4_spreads_2
def dkwX4_spreads_0 : List UInt8 := [42, 3, 181, 0, 237, 3, 60, 27, 16, 16, 162, 0, 16, 42, 180, 0, 25, 27, 3, 79, 132, 1, 1]
abbrev dktX4_spreads_0 : List UInt8 := dkwX4_spreads_0 ++ dktX4_spreads_1
theorem dksX4_spreads_0 : cX4_spreads.data.toList.drop 0 = dktX4_spreads_0 := by decide +kernel
theorem dksX4_spreads_1 : cX4_spreads.data.toList.drop 23 = dktX4_spreads_1 := dk_seg dksX4_spreads_0 23 rfl rfl
theorem dksX4_spreads_2 : cX4_spreads.data.toList.drop 47 = dktX4_spreads_2 := dk_seg dksX4_spreads_1 24 rfl rfl
theorem dksX4_spreads_3 : cX4_spreads.data.toList.drop 70 = dktX4_spreads_3 := dk_seg dksX4_spreads_2 23 rfl rfl
theorem dksX4_spreads_4 : cX4_spreads.data.toList.drop 94 = dktX4_spreads_4 := dk_seg dksX4_spreads_3 24 rfl rfl
theorem dksX4_spreads_5 : cX4_spreads.data.toList.drop 118 = dktX4_spreads_5 := dk_seg dksX4_spreads_4 24 rfl rfl
theorem dksX4_spreads_6 : cX4_spreads.data.toList.drop 142 = dktX4_spreads_6 := dk_seg dksX4_spreads_5 24 rfl rfl
theorem dksX4_spreads_7 : cX4_spreads.data.toList.drop 166 = dktX4_spreads_7 := dk_seg dksX4_spreads_6 24 rfl rfl
theorem dksX4_spreads_8 : cX4_spreads.data.toList.drop 189 = dktX4_spreads_8 := dk_seg dksX4_spreads_7 23 rfl rfl
theorem dX4_spreads_0 : decode cX4_spreads 0 = .ok (.aload_n 0, 1) := dk_42 (dk_at dksX4_spreads_0 0 rfl rfl)
theorem dX4_spreads_1 : decode cX4_spreads 1 = .ok (.iconst 0, 1) := dk_3 (dk_at dksX4_spreads_0 1 rfl rfl)
theorem dX4_spreads_2 : decode cX4_spreads 2 = .ok (.putfield 237, 3) := dk_181 0 237 (dk_at dksX4_spreads_0 2 rfl rfl)
theorem dX4_spreads_5 : decode cX4_spreads 5 = .ok (.iconst 0, 1) := dk_3 (dk_at dksX4_spreads_0 5 rfl rfl)
theorem dX4_spreads_6 : decode cX4_spreads 6 = .ok (.istore_n 1, 1) := dk_60 (dk_at dksX4_spreads_0 6 rfl rfl)
theorem dX4_spreads_7 : decode cX4_spreads 7 = .ok (.iload_n 1, 1) := dk_27 (dk_at dksX4_spreads_0 7 rfl rfl)
theorem dX4_spreads_8 : decode cX4_spreads 8 = .ok (.bipush 16, 2) := dk_16 16 (dk_at dksX4_spreads_0 8 rfl rfl)
theorem dX4_spreads_10 : decode cX4_spreads 10 = .ok (.if_icmp .ge 16, 3) := dk_162 0 16 (dk_at dksX4_spreads_0 10 rfl rfl)
theorem dX4_spreads_13 : decode cX4_spreads 13 = .ok (.aload_n 0, 1) := dk_42 (dk_at dksX4_spreads_0 13 rfl rfl)
theorem dX4_spreads_14 : decode cX4_spreads 14 = .ok (.getfield 25, 3) := dk_180 0 25 (dk_at dksX4_spreads_0 14 rfl rfl)
theorem dX4_spreads_17 : decode cX4_spreads 17 = .ok (.iload_n 1, 1) := dk_27 (dk_at dksX4_spreads_0 17 rfl rfl)
theorem dX4_spreads_18 : decode cX4_spreads 18 = .ok (.iconst 0, 1) := dk_3 (dk_at dksX4_spreads_0 18 rfl rfl)
theorem dX4_spreads_19 : decode cX4_spreads 19 = .ok (.iastore, 1) := dk_79 (dk_at dksX4_spreads_0 19 rfl rfl)
theorem dX4_spreads_20 : decode cX4_spreads 20 = .ok (.iinc 1 1, 3) := dk_132 1 1 (dk_at dksX4_spreads_0 20 rfl rfl)
theorem dX4_spreads_23 : decode cX4_spreads 23 = .ok (.goto (-16), 3) := dk_167 255 240 (dk_at dksX4_spreads_1 0 rfl rfl)
theorem dX4_spreads_26 : decode cX4_spreads 26 = .ok (.aload_n 0, 1) := dk_42 (dk_at dksX4_spreads_1 3 rfl rfl)
theorem dX4_spreads_27 : decode cX4_spreads 27 = .ok (.invokevirtual 118, 3) := dk_182 0 118 (dk_at dksX4_spreads_1 4 rfl rfl)
theorem dX4_spreads_30 : decode cX4_spreads 30 = .ok (.istore_n 1, 1) := dk_60 (dk_at dksX4_spreads_1 7 rfl rfl)
theorem dX4_spreads_31 : decode cX4_spreads 31 = .ok (.aload_n 0, 1) := dk_42 (dk_at dksX4_spreads_1 8 rfl rfl)
theorem dX4_spreads_32 : decode cX4_spreads 32 = .ok (.iconst 0, 1) := dk_3 (dk_at dksX4_spreads_1 9 rfl rfl)
theorem dX4_spreads_33 : decode cX4_spreads 33 = .ok (.invokevirtual 243, 3) := dk_182 0 243 (dk_at dksX4_spreads_1 10 rfl rfl)
theorem dX4_spreads_36 : decode cX4_spreads 36 = .ok (.ifCond .eq 11, 3) := dk_153 0 11 (dk_at dksX4_spreads_1 13 rfl rfl)
theorem dX4_spreads_39 : decode cX4_spreads 39 = .ok (.iload_n 1, 1) := dk_27 (dk_at dksX4_spreads_1 16 rfl rfl)
theorem dX4_spreads_40 : decode cX4_spreads 40 = .ok (.ifCond .lt 7, 3) := dk_155 0 7 (dk_at dksX4_spreads_1 17 rfl rfl)
theorem dX4_spreads_43 : decode cX4_spreads 43 = .ok (.iconst 1, 1) := dk_4 (dk_at dksX4_spreads_1 20 rfl rfl)
theorem dX4_spreads_44 : decode cX4_spreads 44 = .ok (.goto 4, 3) := dk_167 0 4 (dk_at dksX4_spreads_1 21 rfl rfl)
theorem dX4_spreads_47 : decode cX4_spreads 47 = .ok (.iconst 0, 1) := dk_3 (dk_at dksX4_spreads_2 0 rfl rfl)
theorem dX4_spreads_48 : decode cX4_spreads 48 = .ok (.istore_n 2, 1) := dk_61 (dk_at dksX4_spreads_2 1 rfl rfl)
theorem dX4_spreads_49 : decode cX4_spreads 49 = .ok (.iload_n 2, 1) := dk_28 (dk_at dksX4_spreads_2 2 rfl rfl)
theorem dX4_spreads_50 : decode cX4_spreads 50 = .ok (.ifCond .eq 9, 3) := dk_153 0 9 (dk_at dksX4_spreads_2 3 rfl rfl)
theorem dX4_spreads_53 : decode cX4_spreads 53 = .ok (.aload_n 0, 1) := dk_42 (dk_at dksX4_spreads_2 6 rfl rfl)
theorem dX4_spreads_54 : decode cX4_spreads 54 = .ok (.iconst 0, 1) := dk_3 (dk_at dksX4_spreads_2 7 rfl rfl)
theorem dX4_spreads_55 : decode cX4_spreads 55 = .ok (.iconst 0, 1) := dk_3 (dk_at dksX4_spreads_2 8 rfl rfl)
theorem dX4_spreads_56 : decode cX4_spreads 56 = .ok (.invokevirtual 249, 3) := dk_182 0 249 (dk_at dksX4_spreads_2 9 rfl rfl)
theorem dX4_spreads_59 : decode cX4_spreads 59 = .ok (.iconst 0, 1) := dk_3 (dk_at dksX4_spreads_2 12 rfl rfl)
theorem dX4_spreads_60 : decode cX4_spreads 60 = .ok (.istore_n 3, 1) := dk_62 (dk_at dksX4_spreads_2 13 rfl rfl)
theorem dX4_spreads_61 : decode cX4_spreads 61 = .ok (.iload_n 3, 1) := dk_29 (dk_at dksX4_spreads_2 14 rfl rfl)
theorem dX4_spreads_62 : decode cX4_spreads 62 = .ok (.aload_n 0, 1) := dk_42 (dk_at dksX4_spreads_2 15 rfl rfl)
theorem dX4_spreads_63 : decode cX4_spreads 63 = .ok (.getfield 237, 3) := dk_180 0 237 (dk_at dksX4_spreads_2 16 rfl rfl)
theorem dX4_spreads_66 : decode cX4_spreads 66 = .ok (.if_icmp .ge 119, 3) := dk_162 0 119 (dk_at dksX4_spreads_2 19 rfl rfl)
theorem dX4_spreads_69 : decode cX4_spreads 69 = .ok (.aload_n 0, 1) := dk_42 (dk_at dksX4_spreads_2 22 rfl rfl)
theorem dX4_spreads_70 : decode cX4_spreads 70 = .ok (.getfield 237, 3) := dk_180 0 237 (dk_at dksX4_spreads_3 0 rfl rfl)
theorem dX4_spreads_73 : decode cX4_spreads 73 = .ok (.bipush 120, 2) := dk_16 120 (dk_at dksX4_spreads_3 3 rfl rfl)
theorem dX4_spreads_75 : decode cX4_spreads 75 = .ok (.if_icmp .gt 110, 3) := dk_163 0 110 (dk_at dksX4_spreads_3 5 rfl rfl)
theorem dX4_spreads_78 : decode cX4_spreads 78 = .ok (.iconst 0, 1) := dk_3 (dk_at dksX4_spreads_3 8 rfl rfl)
theorem dX4_spreads_79 : decode cX4_spreads 79 = .ok (.istore 4, 2) := dk_54 4 (dk_at dksX4_spreads_3 9 rfl rfl)
theorem dX4_spreads_81 : decode cX4_spreads 81 = .ok (.iload 4, 2) := dk_21 4 (dk_at dksX4_spreads_3 11 rfl rfl)
theorem dX4_spreads_83 : decode cX4_spreads 83 = .ok (.aload_n 0, 1) := dk_42 (dk_at dksX4_spreads_3 13 rfl rfl)
theorem dX4_spreads_84 : decode cX4_spreads 84 = .ok (.getfield 7, 3) := dk_180 0 7 (dk_at dksX4_spreads_3 14 rfl rfl)
theorem dX4_spreads_87 : decode cX4_spreads 87 = .ok (.bipush 102, 2) := dk_16 102 (dk_at dksX4_spreads_3 17 rfl rfl)
theorem dX4_spreads_89 : decode cX4_spreads 89 = .ok (.iaload, 1) := dk_46 (dk_at dksX4_spreads_3 19 rfl rfl)
theorem dX4_spreads_90 : decode cX4_spreads 90 = .ok (.if_icmp .ge 89, 3) := dk_162 0 89 (dk_at dksX4_spreads_3 20 rfl rfl)
theorem dX4_spreads_93 : decode cX4_spreads 93 = .ok (.aload_n 0, 1) := dk_42 (dk_at dksX4_spreads_3 23 rfl rfl)
theorem dX4_spreads_94 : decode cX4_spreads 94 = .ok (.getfield 237, 3) := dk_180 0 237 (dk_at dksX4_spreads_4 0 rfl rfl)
theorem dX4_spreads_97 : decode cX4_spreads 97 = .ok (.bipush 120, 2) := dk_16 120 (dk_at dksX4_spreads_4 3 rfl rfl)
theorem dX4_spreads_99 : decode cX4_spreads 99 = .ok (.if_icmp .gt 80, 3) := dk_163 0 80 (dk_at dksX4_spreads_4 5 rfl rfl)
theorem dX4_spreads_102 : decode cX4_spreads 102 = .ok (.aload_n 0, 1) := dk_42 (dk_at dksX4_spreads_4 8 rfl rfl)
theorem dX4_spreads_103 : decode cX4_spreads 103 = .ok (.iload 4, 2) := dk_21 4 (dk_at dksX4_spreads_4 9 rfl rfl)
theorem dX4_spreads_105 : decode cX4_spreads 105 = .ok (.iconst 0, 1) := dk_3 (dk_at dksX4_spreads_4 11 rfl rfl)
theorem dX4_spreads_106 : decode cX4_spreads 106 = .ok (.invokevirtual 186, 3) := dk_182 0 186 (dk_at dksX4_spreads_4 12 rfl rfl)
theorem dX4_spreads_109 : decode cX4_spreads 109 = .ok (.aload_n 0, 1) := dk_42 (dk_at dksX4_spreads_4 15 rfl rfl)
theorem dX4_spreads_110 : decode cX4_spreads 110 = .ok (.getfield 34, 3) := dk_180 0 34 (dk_at dksX4_spreads_4 16 rfl rfl)
theorem dX4_spreads_113 : decode cX4_spreads 113 = .ok (.iload_n 3, 1) := dk_29 (dk_at dksX4_spreads_4 19 rfl rfl)
theorem dX4_spreads_114 : decode cX4_spreads 114 = .ok (.iaload, 1) := dk_46 (dk_at dksX4_spreads_4 20 rfl rfl)
theorem dX4_spreads_115 : decode cX4_spreads 115 = .ok (.if_icmp .ne 31, 3) := dk_160 0 31 (dk_at dksX4_spreads_4 21 rfl rfl)
theorem dX4_spreads_118 : decode cX4_spreads 118 = .ok (.aload_n 0, 1) := dk_42 (dk_at dksX4_spreads_5 0 rfl rfl)
theorem dX4_spreads_119 : decode cX4_spreads 119 = .ok (.iload_n 3, 1) := dk_29 (dk_at dksX4_spreads_5 1 rfl rfl)
theorem dX4_spreads_120 : decode cX4_spreads 120 = .ok (.iload 4, 2) := dk_21 4 (dk_at dksX4_spreads_5 2 rfl rfl)
theorem dX4_spreads_122 : decode cX4_spreads 122 = .ok (.invokevirtual 252, 3) := dk_182 0 252 (dk_at dksX4_spreads_5 4 rfl rfl)
theorem dX4_spreads_125 : decode cX4_spreads 125 = .ok (.ifCond .eq 21, 3) := dk_153 0 21 (dk_at dksX4_spreads_5 7 rfl rfl)
theorem dX4_spreads_128 : decode cX4_spreads 128 = .ok (.aload_n 0, 1) := dk_42 (dk_at dksX4_spreads_5 10 rfl rfl)
theorem dX4_spreads_129 : decode cX4_spreads 129 = .ok (.aload_n 0, 1) := dk_42 (dk_at dksX4_spreads_5 11 rfl rfl)
theorem dX4_spreads_130 : decode cX4_spreads 130 = .ok (.iload 4, 2) := dk_21 4 (dk_at dksX4_spreads_5 12 rfl rfl)
theorem dX4_spreads_132 : decode cX4_spreads 132 = .ok (.iconst 1, 1) := dk_4 (dk_at dksX4_spreads_5 14 rfl rfl)
theorem dX4_spreads_133 : decode cX4_spreads 133 = .ok (.invokevirtual 186, 3) := dk_182 0 186 (dk_at dksX4_spreads_5 15 rfl rfl)
theorem dX4_spreads_136 : decode cX4_spreads 136 = .ok (.invokevirtual 255, 3) := dk_182 0 255 (dk_at dksX4_spreads_5 18 rfl rfl)
theorem dX4_spreads_139 : decode cX4_spreads 139 = .ok (.ifCond .eq 7, 3) := dk_153 0 7 (dk_at dksX4_spreads_5 21 rfl rfl)
theorem dX4_spreads_142 : decode cX4_spreads 142 = .ok (.iconst 1, 1) := dk_4 (dk_at dksX4_spreads_6 0 rfl rfl)
theorem dX4_spreads_143 : decode cX4_spreads 143 = .ok (.goto 4, 3) := dk_167 0 4 (dk_at dksX4_spreads_6 1 rfl rfl)
theorem dX4_spreads_146 : decode cX4_spreads 146 = .ok (.iconst 0, 1) := dk_3 (dk_at dksX4_spreads_6 4 rfl rfl)
theorem dX4_spreads_147 : decode cX4_spreads 147 = .ok (.istore 5, 2) := dk_54 5 (dk_at dksX4_spreads_6 5 rfl rfl)
theorem dX4_spreads_149 : decode cX4_spreads 149 = .ok (.iload 5, 2) := dk_21 5 (dk_at dksX4_spreads_6 7 rfl rfl)
theorem dX4_spreads_151 : decode cX4_spreads 151 = .ok (.ifCond .eq 22, 3) := dk_153 0 22 (dk_at dksX4_spreads_6 9 rfl rfl)
theorem dX4_spreads_154 : decode cX4_spreads 154 = .ok (.aload_n 0, 1) := dk_42 (dk_at dksX4_spreads_6 12 rfl rfl)
theorem dX4_spreads_155 : decode cX4_spreads 155 = .ok (.aload_n 0, 1) := dk_42 (dk_at dksX4_spreads_6 13 rfl rfl)
theorem dX4_spreads_156 : decode cX4_spreads 156 = .ok (.iload 4, 2) := dk_21 4 (dk_at dksX4_spreads_6 14 rfl rfl)
theorem dX4_spreads_158 : decode cX4_spreads 158 = .ok (.iconst 1, 1) := dk_4 (dk_at dksX4_spreads_6 16 rfl rfl)
theorem dX4_spreads_159 : decode cX4_spreads 159 = .ok (.invokevirtual 186, 3) := dk_182 0 186 (dk_at dksX4_spreads_6 17 rfl rfl)
theorem dX4_spreads_162 : decode cX4_spreads 162 = .ok (.aload_n 0, 1) := dk_42 (dk_at dksX4_spreads_6 20 rfl rfl)
theorem dX4_spreads_163 : decode cX4_spreads 163 = .ok (.getfield 37, 3) := dk_180 0 37 (dk_at dksX4_spreads_6 21 rfl rfl)
theorem dX4_spreads_166 : decode cX4_spreads 166 = .ok (.iload_n 3, 1) := dk_29 (dk_at dksX4_spreads_7 0 rfl rfl)
theorem dX4_spreads_167 : decode cX4_spreads 167 = .ok (.iaload, 1) := dk_46 (dk_at dksX4_spreads_7 1 rfl rfl)
theorem dX4_spreads_168 : decode cX4_spreads 168 = .ok (.iconst 1, 1) := dk_4 (dk_at dksX4_spreads_7 2 rfl rfl)
theorem dX4_spreads_169 : decode cX4_spreads 169 = .ok (.iadd, 1) := dk_96 (dk_at dksX4_spreads_7 3 rfl rfl)
theorem dX4_spreads_170 : decode cX4_spreads 170 = .ok (.invokevirtual 249, 3) := dk_182 0 249 (dk_at dksX4_spreads_7 4 rfl rfl)
theorem dX4_spreads_173 : decode cX4_spreads 173 = .ok (.iinc 4 1, 3) := dk_132 4 1 (dk_at dksX4_spreads_7 7 rfl rfl)
theorem dX4_spreads_176 : decode cX4_spreads 176 = .ok (.goto (-95), 3) := dk_167 255 161 (dk_at dksX4_spreads_7 10 rfl rfl)
theorem dX4_spreads_179 : decode cX4_spreads 179 = .ok (.iinc 3 1, 3) := dk_132 3 1 (dk_at dksX4_spreads_7 13 rfl rfl)
theorem dX4_spreads_182 : decode cX4_spreads 182 = .ok (.goto (-121), 3) := dk_167 255 135 (dk_at dksX4_spreads_7 16 rfl rfl)
theorem dX4_spreads_185 : decode cX4_spreads 185 = .ok (.aload_n 0, 1) := dk_42 (dk_at dksX4_spreads_7 19 rfl rfl)
theorem dX4_spreads_186 : decode cX4_spreads 186 = .ok (.getfield 237, 3) := dk_180 0 237 (dk_at dksX4_spreads_7 20 rfl rfl)
theorem dX4_spreads_189 : decode cX4_spreads 189 = .ok (.bipush 120, 2) := dk_16 120 (dk_at dksX4_spreads_8 0 rfl rfl)
theorem dX4_spreads_191 : decode cX4_spreads 191 = .ok (.if_icmp .gt 7, 3) := dk_163 0 7 (dk_at dksX4_spreads_8 2 rfl rfl)
theorem dX4_spreads_194 : decode cX4_spreads 194 = .ok (.iconst 1, 1) := dk_4 (dk_at dksX4_spreads_8 5 rfl rfl)
theorem dX4_spreads_195 : decode cX4_spreads 195 = .ok (.goto 4, 3) := dk_167 0 4 (dk_at dksX4_spreads_8 6 rfl rfl)
theorem dX4_spreads_198 : decode cX4_spreads 198 = .ok (.iconst 0, 1) := dk_3 (dk_at dksX4_spreads_8 9 rfl rfl)
theorem dX4_spreads_199 : decode cX4_spreads 199 = .ok (.ireturn, 1) := dk_172 (dk_at dksX4_spreads_8 10 rfl rfl)
abbrev cX4_staysIn : ByteArray := prog_9_method_94_code
def yX4_staysIn : MethodName := ⟨RX4, "staysIn", "(I)Z"⟩
def dkwX4_staysIn_2 : List UInt8 := [104, 6, 96, 46, 29, 184, 0, 72, 79, 132, 2, 1, 167, 255, 198, 42, 180, 0, 25, 3, 184, 0, 78, 172]
abbrev dktX4_staysIn_2 : List UInt8 := dkwX4_staysIn_2 ++ []
def dkwX4_staysIn_1 : List UInt8 := [16, 10, 160, 0, 16, 42, 180, 0, 25, 7, 28, 104, 6, 96, 46, 167, 0, 17, 42, 180, 0, 25, 7, 28]
abbrev dktX4_staysIn_1 : List UInt8 := dkwX4_staysIn_1 ++ dktX4_staysIn_2
def dkwX4_staysIn_0 : List UInt8 := [3, 61, 28, 6, 162, 0, 59, 42, 27, 28, 182, 0, 234, 62, 42, 180, 0, 25, 7, 28, 104, 6, 96, 29]
abbrev dktX4_staysIn_0 : List UInt8 := dkwX4_staysIn_0 ++ dktX4_staysIn_1
theorem dksX4_staysIn_0 : cX4_staysIn.data.toList.drop 0 = dktX4_staysIn_0 := by decide +kernel
theorem dksX4_staysIn_1 : cX4_staysIn.data.toList.drop 24 = dktX4_staysIn_1 := dk_seg dksX4_staysIn_0 24 rfl rfl
theorem dksX4_staysIn_2 : cX4_staysIn.data.toList.drop 48 = dktX4_staysIn_2 := dk_seg dksX4_staysIn_1 24 rfl rfl
theorem dX4_staysIn_0 : decode cX4_staysIn 0 = .ok (.iconst 0, 1) := dk_3 (dk_at dksX4_staysIn_0 0 rfl rfl)
theorem dX4_staysIn_1 : decode cX4_staysIn 1 = .ok (.istore_n 2, 1) := dk_61 (dk_at dksX4_staysIn_0 1 rfl rfl)
theorem dX4_staysIn_2 : decode cX4_staysIn 2 = .ok (.iload_n 2, 1) := dk_28 (dk_at dksX4_staysIn_0 2 rfl rfl)
theorem dX4_staysIn_3 : decode cX4_staysIn 3 = .ok (.iconst 3, 1) := dk_6 (dk_at dksX4_staysIn_0 3 rfl rfl)
theorem dX4_staysIn_4 : decode cX4_staysIn 4 = .ok (.if_icmp .ge 59, 3) := dk_162 0 59 (dk_at dksX4_staysIn_0 4 rfl rfl)
theorem dX4_staysIn_7 : decode cX4_staysIn 7 = .ok (.aload_n 0, 1) := dk_42 (dk_at dksX4_staysIn_0 7 rfl rfl)
theorem dX4_staysIn_8 : decode cX4_staysIn 8 = .ok (.iload_n 1, 1) := dk_27 (dk_at dksX4_staysIn_0 8 rfl rfl)
theorem dX4_staysIn_9 : decode cX4_staysIn 9 = .ok (.iload_n 2, 1) := dk_28 (dk_at dksX4_staysIn_0 9 rfl rfl)
theorem dX4_staysIn_10 : decode cX4_staysIn 10 = .ok (.invokevirtual 234, 3) := dk_182 0 234 (dk_at dksX4_staysIn_0 10 rfl rfl)
theorem dX4_staysIn_13 : decode cX4_staysIn 13 = .ok (.istore_n 3, 1) := dk_62 (dk_at dksX4_staysIn_0 13 rfl rfl)
theorem dX4_staysIn_14 : decode cX4_staysIn 14 = .ok (.aload_n 0, 1) := dk_42 (dk_at dksX4_staysIn_0 14 rfl rfl)
theorem dX4_staysIn_15 : decode cX4_staysIn 15 = .ok (.getfield 25, 3) := dk_180 0 25 (dk_at dksX4_staysIn_0 15 rfl rfl)
theorem dX4_staysIn_18 : decode cX4_staysIn 18 = .ok (.iconst 4, 1) := dk_7 (dk_at dksX4_staysIn_0 18 rfl rfl)
theorem dX4_staysIn_19 : decode cX4_staysIn 19 = .ok (.iload_n 2, 1) := dk_28 (dk_at dksX4_staysIn_0 19 rfl rfl)
theorem dX4_staysIn_20 : decode cX4_staysIn 20 = .ok (.imul, 1) := dk_104 (dk_at dksX4_staysIn_0 20 rfl rfl)
theorem dX4_staysIn_21 : decode cX4_staysIn 21 = .ok (.iconst 3, 1) := dk_6 (dk_at dksX4_staysIn_0 21 rfl rfl)
theorem dX4_staysIn_22 : decode cX4_staysIn 22 = .ok (.iadd, 1) := dk_96 (dk_at dksX4_staysIn_0 22 rfl rfl)
theorem dX4_staysIn_23 : decode cX4_staysIn 23 = .ok (.iload_n 3, 1) := dk_29 (dk_at dksX4_staysIn_0 23 rfl rfl)
theorem dX4_staysIn_24 : decode cX4_staysIn 24 = .ok (.bipush 10, 2) := dk_16 10 (dk_at dksX4_staysIn_1 0 rfl rfl)
theorem dX4_staysIn_26 : decode cX4_staysIn 26 = .ok (.if_icmp .ne 16, 3) := dk_160 0 16 (dk_at dksX4_staysIn_1 2 rfl rfl)
theorem dX4_staysIn_29 : decode cX4_staysIn 29 = .ok (.aload_n 0, 1) := dk_42 (dk_at dksX4_staysIn_1 5 rfl rfl)
theorem dX4_staysIn_30 : decode cX4_staysIn 30 = .ok (.getfield 25, 3) := dk_180 0 25 (dk_at dksX4_staysIn_1 6 rfl rfl)
theorem dX4_staysIn_33 : decode cX4_staysIn 33 = .ok (.iconst 4, 1) := dk_7 (dk_at dksX4_staysIn_1 9 rfl rfl)
theorem dX4_staysIn_34 : decode cX4_staysIn 34 = .ok (.iload_n 2, 1) := dk_28 (dk_at dksX4_staysIn_1 10 rfl rfl)
theorem dX4_staysIn_35 : decode cX4_staysIn 35 = .ok (.imul, 1) := dk_104 (dk_at dksX4_staysIn_1 11 rfl rfl)
theorem dX4_staysIn_36 : decode cX4_staysIn 36 = .ok (.iconst 3, 1) := dk_6 (dk_at dksX4_staysIn_1 12 rfl rfl)
theorem dX4_staysIn_37 : decode cX4_staysIn 37 = .ok (.iadd, 1) := dk_96 (dk_at dksX4_staysIn_1 13 rfl rfl)
theorem dX4_staysIn_38 : decode cX4_staysIn 38 = .ok (.iaload, 1) := dk_46 (dk_at dksX4_staysIn_1 14 rfl rfl)
theorem dX4_staysIn_39 : decode cX4_staysIn 39 = .ok (.goto 17, 3) := dk_167 0 17 (dk_at dksX4_staysIn_1 15 rfl rfl)
theorem dX4_staysIn_42 : decode cX4_staysIn 42 = .ok (.aload_n 0, 1) := dk_42 (dk_at dksX4_staysIn_1 18 rfl rfl)
theorem dX4_staysIn_43 : decode cX4_staysIn 43 = .ok (.getfield 25, 3) := dk_180 0 25 (dk_at dksX4_staysIn_1 19 rfl rfl)
theorem dX4_staysIn_46 : decode cX4_staysIn 46 = .ok (.iconst 4, 1) := dk_7 (dk_at dksX4_staysIn_1 22 rfl rfl)
theorem dX4_staysIn_47 : decode cX4_staysIn 47 = .ok (.iload_n 2, 1) := dk_28 (dk_at dksX4_staysIn_1 23 rfl rfl)
theorem dX4_staysIn_48 : decode cX4_staysIn 48 = .ok (.imul, 1) := dk_104 (dk_at dksX4_staysIn_2 0 rfl rfl)
theorem dX4_staysIn_49 : decode cX4_staysIn 49 = .ok (.iconst 3, 1) := dk_6 (dk_at dksX4_staysIn_2 1 rfl rfl)
theorem dX4_staysIn_50 : decode cX4_staysIn 50 = .ok (.iadd, 1) := dk_96 (dk_at dksX4_staysIn_2 2 rfl rfl)
theorem dX4_staysIn_51 : decode cX4_staysIn 51 = .ok (.iaload, 1) := dk_46 (dk_at dksX4_staysIn_2 3 rfl rfl)
theorem dX4_staysIn_52 : decode cX4_staysIn 52 = .ok (.iload_n 3, 1) := dk_29 (dk_at dksX4_staysIn_2 4 rfl rfl)
theorem dX4_staysIn_53 : decode cX4_staysIn 53 = .ok (.invokestatic 72, 3) := dk_184 0 72 (dk_at dksX4_staysIn_2 5 rfl rfl)
theorem dX4_staysIn_56 : decode cX4_staysIn 56 = .ok (.iastore, 1) := dk_79 (dk_at dksX4_staysIn_2 8 rfl rfl)
theorem dX4_staysIn_57 : decode cX4_staysIn 57 = .ok (.iinc 2 1, 3) := dk_132 2 1 (dk_at dksX4_staysIn_2 9 rfl rfl)
theorem dX4_staysIn_60 : decode cX4_staysIn 60 = .ok (.goto (-58), 3) := dk_167 255 198 (dk_at dksX4_staysIn_2 12 rfl rfl)
theorem dX4_staysIn_63 : decode cX4_staysIn 63 = .ok (.aload_n 0, 1) := dk_42 (dk_at dksX4_staysIn_2 15 rfl rfl)
theorem dX4_staysIn_64 : decode cX4_staysIn 64 = .ok (.getfield 25, 3) := dk_180 0 25 (dk_at dksX4_staysIn_2 16 rfl rfl)
theorem dX4_staysIn_67 : decode cX4_staysIn 67 = .ok (.iconst 0, 1) := dk_3 (dk_at dksX4_staysIn_2 19 rfl rfl)
theorem dX4_staysIn_68 : decode cX4_staysIn 68 = .ok (.invokestatic 78, 3) := dk_184 0 78 (dk_at dksX4_staysIn_2 20 rfl rfl)
theorem dX4_staysIn_71 : decode cX4_staysIn 71 = .ok (.ireturn, 1) := dk_172 (dk_at dksX4_staysIn_2 23 rfl rfl)
abbrev cX4_adds : ByteArray := prog_9_method_98_code
def yX4_adds : MethodName := ⟨RX4, "adds", "(II)V"⟩
def dkwX4_adds_2 : List UInt8 := [181, 0, 237, 177]
abbrev dktX4_adds_2 : List UInt8 := dkwX4_adds_2 ++ []
def dkwX4_adds_1 : List UInt8 := [180, 0, 237, 27, 79, 42, 180, 0, 37, 42, 180, 0, 237, 28, 79, 42, 89, 180, 0, 237, 4, 96]
abbrev dktX4_adds_1 : List UInt8 := dkwX4_adds_1 ++ dktX4_adds_2
def dkwX4_adds_0 : List UInt8 := [42, 180, 0, 25, 3, 42, 180, 0, 31, 16, 16, 42, 180, 0, 237, 104, 184, 0, 75, 42, 180, 0, 34, 42]
abbrev dktX4_adds_0 : List UInt8 := dkwX4_adds_0 ++ dktX4_adds_1
theorem dksX4_adds_0 : cX4_adds.data.toList.drop 0 = dktX4_adds_0 := by decide +kernel
theorem dksX4_adds_1 : cX4_adds.data.toList.drop 24 = dktX4_adds_1 := dk_seg dksX4_adds_0 24 rfl rfl
theorem dksX4_adds_2 : cX4_adds.data.toList.drop 46 = dktX4_adds_2 := dk_seg dksX4_adds_1 22 rfl rfl
theorem dX4_adds_0 : decode cX4_adds 0 = .ok (.aload_n 0, 1) := dk_42 (dk_at dksX4_adds_0 0 rfl rfl)
theorem dX4_adds_1 : decode cX4_adds 1 = .ok (.getfield 25, 3) := dk_180 0 25 (dk_at dksX4_adds_0 1 rfl rfl)
theorem dX4_adds_4 : decode cX4_adds 4 = .ok (.iconst 0, 1) := dk_3 (dk_at dksX4_adds_0 4 rfl rfl)
theorem dX4_adds_5 : decode cX4_adds 5 = .ok (.aload_n 0, 1) := dk_42 (dk_at dksX4_adds_0 5 rfl rfl)
theorem dX4_adds_6 : decode cX4_adds 6 = .ok (.getfield 31, 3) := dk_180 0 31 (dk_at dksX4_adds_0 6 rfl rfl)
theorem dX4_adds_9 : decode cX4_adds 9 = .ok (.bipush 16, 2) := dk_16 16 (dk_at dksX4_adds_0 9 rfl rfl)
theorem dX4_adds_11 : decode cX4_adds 11 = .ok (.aload_n 0, 1) := dk_42 (dk_at dksX4_adds_0 11 rfl rfl)
theorem dX4_adds_12 : decode cX4_adds 12 = .ok (.getfield 237, 3) := dk_180 0 237 (dk_at dksX4_adds_0 12 rfl rfl)
theorem dX4_adds_15 : decode cX4_adds 15 = .ok (.imul, 1) := dk_104 (dk_at dksX4_adds_0 15 rfl rfl)
theorem dX4_adds_16 : decode cX4_adds 16 = .ok (.invokestatic 75, 3) := dk_184 0 75 (dk_at dksX4_adds_0 16 rfl rfl)
theorem dX4_adds_19 : decode cX4_adds 19 = .ok (.aload_n 0, 1) := dk_42 (dk_at dksX4_adds_0 19 rfl rfl)
theorem dX4_adds_20 : decode cX4_adds 20 = .ok (.getfield 34, 3) := dk_180 0 34 (dk_at dksX4_adds_0 20 rfl rfl)
theorem dX4_adds_23 : decode cX4_adds 23 = .ok (.aload_n 0, 1) := dk_42 (dk_at dksX4_adds_0 23 rfl rfl)
theorem dX4_adds_24 : decode cX4_adds 24 = .ok (.getfield 237, 3) := dk_180 0 237 (dk_at dksX4_adds_1 0 rfl rfl)
theorem dX4_adds_27 : decode cX4_adds 27 = .ok (.iload_n 1, 1) := dk_27 (dk_at dksX4_adds_1 3 rfl rfl)
theorem dX4_adds_28 : decode cX4_adds 28 = .ok (.iastore, 1) := dk_79 (dk_at dksX4_adds_1 4 rfl rfl)
theorem dX4_adds_29 : decode cX4_adds 29 = .ok (.aload_n 0, 1) := dk_42 (dk_at dksX4_adds_1 5 rfl rfl)
theorem dX4_adds_30 : decode cX4_adds 30 = .ok (.getfield 37, 3) := dk_180 0 37 (dk_at dksX4_adds_1 6 rfl rfl)
theorem dX4_adds_33 : decode cX4_adds 33 = .ok (.aload_n 0, 1) := dk_42 (dk_at dksX4_adds_1 9 rfl rfl)
theorem dX4_adds_34 : decode cX4_adds 34 = .ok (.getfield 237, 3) := dk_180 0 237 (dk_at dksX4_adds_1 10 rfl rfl)
theorem dX4_adds_37 : decode cX4_adds 37 = .ok (.iload_n 2, 1) := dk_28 (dk_at dksX4_adds_1 13 rfl rfl)
theorem dX4_adds_38 : decode cX4_adds 38 = .ok (.iastore, 1) := dk_79 (dk_at dksX4_adds_1 14 rfl rfl)
theorem dX4_adds_39 : decode cX4_adds 39 = .ok (.aload_n 0, 1) := dk_42 (dk_at dksX4_adds_1 15 rfl rfl)
theorem dX4_adds_40 : decode cX4_adds 40 = .ok (.dup, 1) := dk_89 (dk_at dksX4_adds_1 16 rfl rfl)
theorem dX4_adds_41 : decode cX4_adds 41 = .ok (.getfield 237, 3) := dk_180 0 237 (dk_at dksX4_adds_1 17 rfl rfl)
theorem dX4_adds_44 : decode cX4_adds 44 = .ok (.iconst 1, 1) := dk_4 (dk_at dksX4_adds_1 20 rfl rfl)
theorem dX4_adds_45 : decode cX4_adds 45 = .ok (.iadd, 1) := dk_96 (dk_at dksX4_adds_1 21 rfl rfl)
theorem dX4_adds_46 : decode cX4_adds 46 = .ok (.putfield 237, 3) := dk_181 0 237 (dk_at dksX4_adds_2 0 rfl rfl)
theorem dX4_adds_49 : decode cX4_adds 49 = .ok (.return_, 1) := dk_177 (dk_at dksX4_adds_2 3 rfl rfl)
abbrev cX4_goes : ByteArray := prog_9_method_99_code
def yX4_goes : MethodName := ⟨RX4, "goes", "(II)Z"⟩
def dkwX4_goes_4 : List UInt8 := [182, 0, 246, 21, 4, 153, 0, 11, 29, 155, 0, 7, 4, 167, 0, 4, 3, 172]
abbrev dktX4_goes_4 : List UInt8 := dkwX4_goes_4 ++ []
def dkwX4_goes_3 : List UInt8 := [154, 0, 5, 3, 172, 42, 182, 0, 118, 62, 42, 42, 28, 4, 182, 0, 186, 182, 0, 243, 54, 4, 42]
abbrev dktX4_goes_3 : List UInt8 := dkwX4_goes_3 ++ dktX4_goes_4
def dkwX4_goes_2 : List UInt8 := [42, 29, 3, 182, 0, 111, 132, 3, 1, 167, 255, 227, 42, 42, 28, 4, 182, 0, 186, 182, 0, 243]
abbrev dktX4_goes_2 : List UInt8 := dkwX4_goes_2 ++ dktX4_goes_3
def dkwX4_goes_1 : List UInt8 := [3, 172, 3, 62, 29, 6, 162, 0, 30, 42, 28, 16, 8, 182, 0, 186, 29, 122, 4, 126, 4, 160, 0, 9]
abbrev dktX4_goes_1 : List UInt8 := dkwX4_goes_1 ++ dktX4_goes_2
def dkwX4_goes_0 : List UInt8 := [42, 180, 0, 31, 16, 16, 27, 104, 42, 180, 0, 25, 3, 184, 0, 75, 42, 28, 182, 0, 240, 154, 0, 5]
abbrev dktX4_goes_0 : List UInt8 := dkwX4_goes_0 ++ dktX4_goes_1
theorem dksX4_goes_0 : cX4_goes.data.toList.drop 0 = dktX4_goes_0 := by decide +kernel
theorem dksX4_goes_1 : cX4_goes.data.toList.drop 24 = dktX4_goes_1 := dk_seg dksX4_goes_0 24 rfl rfl
theorem dksX4_goes_2 : cX4_goes.data.toList.drop 48 = dktX4_goes_2 := dk_seg dksX4_goes_1 24 rfl rfl
theorem dksX4_goes_3 : cX4_goes.data.toList.drop 70 = dktX4_goes_3 := dk_seg dksX4_goes_2 22 rfl rfl
theorem dksX4_goes_4 : cX4_goes.data.toList.drop 93 = dktX4_goes_4 := dk_seg dksX4_goes_3 23 rfl rfl
theorem dX4_goes_0 : decode cX4_goes 0 = .ok (.aload_n 0, 1) := dk_42 (dk_at dksX4_goes_0 0 rfl rfl)
theorem dX4_goes_1 : decode cX4_goes 1 = .ok (.getfield 31, 3) := dk_180 0 31 (dk_at dksX4_goes_0 1 rfl rfl)
theorem dX4_goes_4 : decode cX4_goes 4 = .ok (.bipush 16, 2) := dk_16 16 (dk_at dksX4_goes_0 4 rfl rfl)
theorem dX4_goes_6 : decode cX4_goes 6 = .ok (.iload_n 1, 1) := dk_27 (dk_at dksX4_goes_0 6 rfl rfl)
theorem dX4_goes_7 : decode cX4_goes 7 = .ok (.imul, 1) := dk_104 (dk_at dksX4_goes_0 7 rfl rfl)
theorem dX4_goes_8 : decode cX4_goes 8 = .ok (.aload_n 0, 1) := dk_42 (dk_at dksX4_goes_0 8 rfl rfl)
theorem dX4_goes_9 : decode cX4_goes 9 = .ok (.getfield 25, 3) := dk_180 0 25 (dk_at dksX4_goes_0 9 rfl rfl)
theorem dX4_goes_12 : decode cX4_goes 12 = .ok (.iconst 0, 1) := dk_3 (dk_at dksX4_goes_0 12 rfl rfl)
theorem dX4_goes_13 : decode cX4_goes 13 = .ok (.invokestatic 75, 3) := dk_184 0 75 (dk_at dksX4_goes_0 13 rfl rfl)
theorem dX4_goes_16 : decode cX4_goes 16 = .ok (.aload_n 0, 1) := dk_42 (dk_at dksX4_goes_0 16 rfl rfl)
theorem dX4_goes_17 : decode cX4_goes 17 = .ok (.iload_n 2, 1) := dk_28 (dk_at dksX4_goes_0 17 rfl rfl)
theorem dX4_goes_18 : decode cX4_goes 18 = .ok (.invokevirtual 240, 3) := dk_182 0 240 (dk_at dksX4_goes_0 18 rfl rfl)
theorem dX4_goes_21 : decode cX4_goes 21 = .ok (.ifCond .ne 5, 3) := dk_154 0 5 (dk_at dksX4_goes_0 21 rfl rfl)
theorem dX4_goes_24 : decode cX4_goes 24 = .ok (.iconst 0, 1) := dk_3 (dk_at dksX4_goes_1 0 rfl rfl)
theorem dX4_goes_25 : decode cX4_goes 25 = .ok (.ireturn, 1) := dk_172 (dk_at dksX4_goes_1 1 rfl rfl)
theorem dX4_goes_26 : decode cX4_goes 26 = .ok (.iconst 0, 1) := dk_3 (dk_at dksX4_goes_1 2 rfl rfl)
theorem dX4_goes_27 : decode cX4_goes 27 = .ok (.istore_n 3, 1) := dk_62 (dk_at dksX4_goes_1 3 rfl rfl)
theorem dX4_goes_28 : decode cX4_goes 28 = .ok (.iload_n 3, 1) := dk_29 (dk_at dksX4_goes_1 4 rfl rfl)
theorem dX4_goes_29 : decode cX4_goes 29 = .ok (.iconst 3, 1) := dk_6 (dk_at dksX4_goes_1 5 rfl rfl)
theorem dX4_goes_30 : decode cX4_goes 30 = .ok (.if_icmp .ge 30, 3) := dk_162 0 30 (dk_at dksX4_goes_1 6 rfl rfl)
theorem dX4_goes_33 : decode cX4_goes 33 = .ok (.aload_n 0, 1) := dk_42 (dk_at dksX4_goes_1 9 rfl rfl)
theorem dX4_goes_34 : decode cX4_goes 34 = .ok (.iload_n 2, 1) := dk_28 (dk_at dksX4_goes_1 10 rfl rfl)
theorem dX4_goes_35 : decode cX4_goes 35 = .ok (.bipush 8, 2) := dk_16 8 (dk_at dksX4_goes_1 11 rfl rfl)
theorem dX4_goes_37 : decode cX4_goes 37 = .ok (.invokevirtual 186, 3) := dk_182 0 186 (dk_at dksX4_goes_1 13 rfl rfl)
theorem dX4_goes_40 : decode cX4_goes 40 = .ok (.iload_n 3, 1) := dk_29 (dk_at dksX4_goes_1 16 rfl rfl)
theorem dX4_goes_41 : decode cX4_goes 41 = .ok (.ishr, 1) := dk_122 (dk_at dksX4_goes_1 17 rfl rfl)
theorem dX4_goes_42 : decode cX4_goes 42 = .ok (.iconst 1, 1) := dk_4 (dk_at dksX4_goes_1 18 rfl rfl)
theorem dX4_goes_43 : decode cX4_goes 43 = .ok (.iand, 1) := dk_126 (dk_at dksX4_goes_1 19 rfl rfl)
theorem dX4_goes_44 : decode cX4_goes 44 = .ok (.iconst 1, 1) := dk_4 (dk_at dksX4_goes_1 20 rfl rfl)
theorem dX4_goes_45 : decode cX4_goes 45 = .ok (.if_icmp .ne 9, 3) := dk_160 0 9 (dk_at dksX4_goes_1 21 rfl rfl)
theorem dX4_goes_48 : decode cX4_goes 48 = .ok (.aload_n 0, 1) := dk_42 (dk_at dksX4_goes_2 0 rfl rfl)
theorem dX4_goes_49 : decode cX4_goes 49 = .ok (.iload_n 3, 1) := dk_29 (dk_at dksX4_goes_2 1 rfl rfl)
theorem dX4_goes_50 : decode cX4_goes 50 = .ok (.iconst 0, 1) := dk_3 (dk_at dksX4_goes_2 2 rfl rfl)
theorem dX4_goes_51 : decode cX4_goes 51 = .ok (.invokevirtual 111, 3) := dk_182 0 111 (dk_at dksX4_goes_2 3 rfl rfl)
theorem dX4_goes_54 : decode cX4_goes 54 = .ok (.iinc 3 1, 3) := dk_132 3 1 (dk_at dksX4_goes_2 6 rfl rfl)
theorem dX4_goes_57 : decode cX4_goes 57 = .ok (.goto (-29), 3) := dk_167 255 227 (dk_at dksX4_goes_2 9 rfl rfl)
theorem dX4_goes_60 : decode cX4_goes 60 = .ok (.aload_n 0, 1) := dk_42 (dk_at dksX4_goes_2 12 rfl rfl)
theorem dX4_goes_61 : decode cX4_goes 61 = .ok (.aload_n 0, 1) := dk_42 (dk_at dksX4_goes_2 13 rfl rfl)
theorem dX4_goes_62 : decode cX4_goes 62 = .ok (.iload_n 2, 1) := dk_28 (dk_at dksX4_goes_2 14 rfl rfl)
theorem dX4_goes_63 : decode cX4_goes 63 = .ok (.iconst 1, 1) := dk_4 (dk_at dksX4_goes_2 15 rfl rfl)
theorem dX4_goes_64 : decode cX4_goes 64 = .ok (.invokevirtual 186, 3) := dk_182 0 186 (dk_at dksX4_goes_2 16 rfl rfl)
theorem dX4_goes_67 : decode cX4_goes 67 = .ok (.invokevirtual 243, 3) := dk_182 0 243 (dk_at dksX4_goes_2 19 rfl rfl)
theorem dX4_goes_70 : decode cX4_goes 70 = .ok (.ifCond .ne 5, 3) := dk_154 0 5 (dk_at dksX4_goes_3 0 rfl rfl)
theorem dX4_goes_73 : decode cX4_goes 73 = .ok (.iconst 0, 1) := dk_3 (dk_at dksX4_goes_3 3 rfl rfl)
theorem dX4_goes_74 : decode cX4_goes 74 = .ok (.ireturn, 1) := dk_172 (dk_at dksX4_goes_3 4 rfl rfl)
theorem dX4_goes_75 : decode cX4_goes 75 = .ok (.aload_n 0, 1) := dk_42 (dk_at dksX4_goes_3 5 rfl rfl)
theorem dX4_goes_76 : decode cX4_goes 76 = .ok (.invokevirtual 118, 3) := dk_182 0 118 (dk_at dksX4_goes_3 6 rfl rfl)
theorem dX4_goes_79 : decode cX4_goes 79 = .ok (.istore_n 3, 1) := dk_62 (dk_at dksX4_goes_3 9 rfl rfl)
theorem dX4_goes_80 : decode cX4_goes 80 = .ok (.aload_n 0, 1) := dk_42 (dk_at dksX4_goes_3 10 rfl rfl)
theorem dX4_goes_81 : decode cX4_goes 81 = .ok (.aload_n 0, 1) := dk_42 (dk_at dksX4_goes_3 11 rfl rfl)
theorem dX4_goes_82 : decode cX4_goes 82 = .ok (.iload_n 2, 1) := dk_28 (dk_at dksX4_goes_3 12 rfl rfl)
theorem dX4_goes_83 : decode cX4_goes 83 = .ok (.iconst 1, 1) := dk_4 (dk_at dksX4_goes_3 13 rfl rfl)
theorem dX4_goes_84 : decode cX4_goes 84 = .ok (.invokevirtual 186, 3) := dk_182 0 186 (dk_at dksX4_goes_3 14 rfl rfl)
theorem dX4_goes_87 : decode cX4_goes 87 = .ok (.invokevirtual 243, 3) := dk_182 0 243 (dk_at dksX4_goes_3 17 rfl rfl)
theorem dX4_goes_90 : decode cX4_goes 90 = .ok (.istore 4, 2) := dk_54 4 (dk_at dksX4_goes_3 20 rfl rfl)
theorem dX4_goes_92 : decode cX4_goes 92 = .ok (.aload_n 0, 1) := dk_42 (dk_at dksX4_goes_3 22 rfl rfl)
theorem dX4_goes_93 : decode cX4_goes 93 = .ok (.invokevirtual 246, 3) := dk_182 0 246 (dk_at dksX4_goes_4 0 rfl rfl)
theorem dX4_goes_96 : decode cX4_goes 96 = .ok (.iload 4, 2) := dk_21 4 (dk_at dksX4_goes_4 3 rfl rfl)
theorem dX4_goes_98 : decode cX4_goes 98 = .ok (.ifCond .eq 11, 3) := dk_153 0 11 (dk_at dksX4_goes_4 5 rfl rfl)
theorem dX4_goes_101 : decode cX4_goes 101 = .ok (.iload_n 3, 1) := dk_29 (dk_at dksX4_goes_4 8 rfl rfl)
theorem dX4_goes_102 : decode cX4_goes 102 = .ok (.ifCond .lt 7, 3) := dk_155 0 7 (dk_at dksX4_goes_4 9 rfl rfl)
theorem dX4_goes_105 : decode cX4_goes 105 = .ok (.iconst 1, 1) := dk_4 (dk_at dksX4_goes_4 12 rfl rfl)
theorem dX4_goes_106 : decode cX4_goes 106 = .ok (.goto 4, 3) := dk_167 0 4 (dk_at dksX4_goes_4 13 rfl rfl)
theorem dX4_goes_109 : decode cX4_goes 109 = .ok (.iconst 0, 1) := dk_3 (dk_at dksX4_goes_4 16 rfl rfl)
theorem dX4_goes_110 : decode cX4_goes 110 = .ok (.ireturn, 1) := dk_172 (dk_at dksX4_goes_4 17 rfl rfl)
abbrev cX4_needs : ByteArray := prog_9_method_95_code
def yX4_needs : MethodName := ⟨RX4, "needs", "(I)Z"⟩
def dkwX4_needs_4 : List UInt8 := [42, 180, 0, 25, 3, 184, 0, 78, 172]
abbrev dktX4_needs_4 : List UInt8 := dkwX4_needs_4 ++ []
def dkwX4_needs_3 : List UInt8 := [16, 12, 28, 96, 46, 42, 27, 5, 28, 96, 182, 0, 186, 116, 184, 0, 72, 79, 132, 2, 1, 167, 255, 166]
abbrev dktX4_needs_3 : List UInt8 := dkwX4_needs_3 ++ dktX4_needs_4
def dkwX4_needs_2 : List UInt8 := [7, 28, 104, 6, 96, 46, 29, 184, 0, 72, 79, 42, 180, 0, 25, 16, 12, 28, 96, 42, 180, 0, 25]
abbrev dktX4_needs_2 : List UInt8 := dkwX4_needs_2 ++ dktX4_needs_3
def dkwX4_needs_1 : List UInt8 := [96, 29, 16, 10, 160, 0, 16, 42, 180, 0, 25, 7, 28, 104, 6, 96, 46, 167, 0, 17, 42, 180, 0, 25]
abbrev dktX4_needs_1 : List UInt8 := dkwX4_needs_1 ++ dktX4_needs_2
def dkwX4_needs_0 : List UInt8 := [3, 61, 28, 6, 162, 0, 91, 42, 27, 8, 28, 96, 182, 0, 186, 62, 42, 180, 0, 25, 7, 28, 104, 6]
abbrev dktX4_needs_0 : List UInt8 := dkwX4_needs_0 ++ dktX4_needs_1
theorem dksX4_needs_0 : cX4_needs.data.toList.drop 0 = dktX4_needs_0 := by decide +kernel
theorem dksX4_needs_1 : cX4_needs.data.toList.drop 24 = dktX4_needs_1 := dk_seg dksX4_needs_0 24 rfl rfl
theorem dksX4_needs_2 : cX4_needs.data.toList.drop 48 = dktX4_needs_2 := dk_seg dksX4_needs_1 24 rfl rfl
theorem dksX4_needs_3 : cX4_needs.data.toList.drop 71 = dktX4_needs_3 := dk_seg dksX4_needs_2 23 rfl rfl
theorem dksX4_needs_4 : cX4_needs.data.toList.drop 95 = dktX4_needs_4 := dk_seg dksX4_needs_3 24 rfl rfl
theorem dX4_needs_0 : decode cX4_needs 0 = .ok (.iconst 0, 1) := dk_3 (dk_at dksX4_needs_0 0 rfl rfl)
theorem dX4_needs_1 : decode cX4_needs 1 = .ok (.istore_n 2, 1) := dk_61 (dk_at dksX4_needs_0 1 rfl rfl)
theorem dX4_needs_2 : decode cX4_needs 2 = .ok (.iload_n 2, 1) := dk_28 (dk_at dksX4_needs_0 2 rfl rfl)
theorem dX4_needs_3 : decode cX4_needs 3 = .ok (.iconst 3, 1) := dk_6 (dk_at dksX4_needs_0 3 rfl rfl)
theorem dX4_needs_4 : decode cX4_needs 4 = .ok (.if_icmp .ge 91, 3) := dk_162 0 91 (dk_at dksX4_needs_0 4 rfl rfl)
theorem dX4_needs_7 : decode cX4_needs 7 = .ok (.aload_n 0, 1) := dk_42 (dk_at dksX4_needs_0 7 rfl rfl)
theorem dX4_needs_8 : decode cX4_needs 8 = .ok (.iload_n 1, 1) := dk_27 (dk_at dksX4_needs_0 8 rfl rfl)
theorem dX4_needs_9 : decode cX4_needs 9 = .ok (.iconst 5, 1) := dk_8 (dk_at dksX4_needs_0 9 rfl rfl)
theorem dX4_needs_10 : decode cX4_needs 10 = .ok (.iload_n 2, 1) := dk_28 (dk_at dksX4_needs_0 10 rfl rfl)
theorem dX4_needs_11 : decode cX4_needs 11 = .ok (.iadd, 1) := dk_96 (dk_at dksX4_needs_0 11 rfl rfl)
theorem dX4_needs_12 : decode cX4_needs 12 = .ok (.invokevirtual 186, 3) := dk_182 0 186 (dk_at dksX4_needs_0 12 rfl rfl)
theorem dX4_needs_15 : decode cX4_needs 15 = .ok (.istore_n 3, 1) := dk_62 (dk_at dksX4_needs_0 15 rfl rfl)
theorem dX4_needs_16 : decode cX4_needs 16 = .ok (.aload_n 0, 1) := dk_42 (dk_at dksX4_needs_0 16 rfl rfl)
theorem dX4_needs_17 : decode cX4_needs 17 = .ok (.getfield 25, 3) := dk_180 0 25 (dk_at dksX4_needs_0 17 rfl rfl)
theorem dX4_needs_20 : decode cX4_needs 20 = .ok (.iconst 4, 1) := dk_7 (dk_at dksX4_needs_0 20 rfl rfl)
theorem dX4_needs_21 : decode cX4_needs 21 = .ok (.iload_n 2, 1) := dk_28 (dk_at dksX4_needs_0 21 rfl rfl)
theorem dX4_needs_22 : decode cX4_needs 22 = .ok (.imul, 1) := dk_104 (dk_at dksX4_needs_0 22 rfl rfl)
theorem dX4_needs_23 : decode cX4_needs 23 = .ok (.iconst 3, 1) := dk_6 (dk_at dksX4_needs_0 23 rfl rfl)
theorem dX4_needs_24 : decode cX4_needs 24 = .ok (.iadd, 1) := dk_96 (dk_at dksX4_needs_1 0 rfl rfl)
theorem dX4_needs_25 : decode cX4_needs 25 = .ok (.iload_n 3, 1) := dk_29 (dk_at dksX4_needs_1 1 rfl rfl)
theorem dX4_needs_26 : decode cX4_needs 26 = .ok (.bipush 10, 2) := dk_16 10 (dk_at dksX4_needs_1 2 rfl rfl)
theorem dX4_needs_28 : decode cX4_needs 28 = .ok (.if_icmp .ne 16, 3) := dk_160 0 16 (dk_at dksX4_needs_1 4 rfl rfl)
theorem dX4_needs_31 : decode cX4_needs 31 = .ok (.aload_n 0, 1) := dk_42 (dk_at dksX4_needs_1 7 rfl rfl)
theorem dX4_needs_32 : decode cX4_needs 32 = .ok (.getfield 25, 3) := dk_180 0 25 (dk_at dksX4_needs_1 8 rfl rfl)
theorem dX4_needs_35 : decode cX4_needs 35 = .ok (.iconst 4, 1) := dk_7 (dk_at dksX4_needs_1 11 rfl rfl)
theorem dX4_needs_36 : decode cX4_needs 36 = .ok (.iload_n 2, 1) := dk_28 (dk_at dksX4_needs_1 12 rfl rfl)
theorem dX4_needs_37 : decode cX4_needs 37 = .ok (.imul, 1) := dk_104 (dk_at dksX4_needs_1 13 rfl rfl)
theorem dX4_needs_38 : decode cX4_needs 38 = .ok (.iconst 3, 1) := dk_6 (dk_at dksX4_needs_1 14 rfl rfl)
theorem dX4_needs_39 : decode cX4_needs 39 = .ok (.iadd, 1) := dk_96 (dk_at dksX4_needs_1 15 rfl rfl)
theorem dX4_needs_40 : decode cX4_needs 40 = .ok (.iaload, 1) := dk_46 (dk_at dksX4_needs_1 16 rfl rfl)
theorem dX4_needs_41 : decode cX4_needs 41 = .ok (.goto 17, 3) := dk_167 0 17 (dk_at dksX4_needs_1 17 rfl rfl)
theorem dX4_needs_44 : decode cX4_needs 44 = .ok (.aload_n 0, 1) := dk_42 (dk_at dksX4_needs_1 20 rfl rfl)
theorem dX4_needs_45 : decode cX4_needs 45 = .ok (.getfield 25, 3) := dk_180 0 25 (dk_at dksX4_needs_1 21 rfl rfl)
theorem dX4_needs_48 : decode cX4_needs 48 = .ok (.iconst 4, 1) := dk_7 (dk_at dksX4_needs_2 0 rfl rfl)
theorem dX4_needs_49 : decode cX4_needs 49 = .ok (.iload_n 2, 1) := dk_28 (dk_at dksX4_needs_2 1 rfl rfl)
theorem dX4_needs_50 : decode cX4_needs 50 = .ok (.imul, 1) := dk_104 (dk_at dksX4_needs_2 2 rfl rfl)
theorem dX4_needs_51 : decode cX4_needs 51 = .ok (.iconst 3, 1) := dk_6 (dk_at dksX4_needs_2 3 rfl rfl)
theorem dX4_needs_52 : decode cX4_needs 52 = .ok (.iadd, 1) := dk_96 (dk_at dksX4_needs_2 4 rfl rfl)
theorem dX4_needs_53 : decode cX4_needs 53 = .ok (.iaload, 1) := dk_46 (dk_at dksX4_needs_2 5 rfl rfl)
theorem dX4_needs_54 : decode cX4_needs 54 = .ok (.iload_n 3, 1) := dk_29 (dk_at dksX4_needs_2 6 rfl rfl)
theorem dX4_needs_55 : decode cX4_needs 55 = .ok (.invokestatic 72, 3) := dk_184 0 72 (dk_at dksX4_needs_2 7 rfl rfl)
theorem dX4_needs_58 : decode cX4_needs 58 = .ok (.iastore, 1) := dk_79 (dk_at dksX4_needs_2 10 rfl rfl)
theorem dX4_needs_59 : decode cX4_needs 59 = .ok (.aload_n 0, 1) := dk_42 (dk_at dksX4_needs_2 11 rfl rfl)
theorem dX4_needs_60 : decode cX4_needs 60 = .ok (.getfield 25, 3) := dk_180 0 25 (dk_at dksX4_needs_2 12 rfl rfl)
theorem dX4_needs_63 : decode cX4_needs 63 = .ok (.bipush 12, 2) := dk_16 12 (dk_at dksX4_needs_2 15 rfl rfl)
theorem dX4_needs_65 : decode cX4_needs 65 = .ok (.iload_n 2, 1) := dk_28 (dk_at dksX4_needs_2 17 rfl rfl)
theorem dX4_needs_66 : decode cX4_needs 66 = .ok (.iadd, 1) := dk_96 (dk_at dksX4_needs_2 18 rfl rfl)
theorem dX4_needs_67 : decode cX4_needs 67 = .ok (.aload_n 0, 1) := dk_42 (dk_at dksX4_needs_2 19 rfl rfl)
theorem dX4_needs_68 : decode cX4_needs 68 = .ok (.getfield 25, 3) := dk_180 0 25 (dk_at dksX4_needs_2 20 rfl rfl)
theorem dX4_needs_71 : decode cX4_needs 71 = .ok (.bipush 12, 2) := dk_16 12 (dk_at dksX4_needs_3 0 rfl rfl)
theorem dX4_needs_73 : decode cX4_needs 73 = .ok (.iload_n 2, 1) := dk_28 (dk_at dksX4_needs_3 2 rfl rfl)
theorem dX4_needs_74 : decode cX4_needs 74 = .ok (.iadd, 1) := dk_96 (dk_at dksX4_needs_3 3 rfl rfl)
theorem dX4_needs_75 : decode cX4_needs 75 = .ok (.iaload, 1) := dk_46 (dk_at dksX4_needs_3 4 rfl rfl)
theorem dX4_needs_76 : decode cX4_needs 76 = .ok (.aload_n 0, 1) := dk_42 (dk_at dksX4_needs_3 5 rfl rfl)
theorem dX4_needs_77 : decode cX4_needs 77 = .ok (.iload_n 1, 1) := dk_27 (dk_at dksX4_needs_3 6 rfl rfl)
theorem dX4_needs_78 : decode cX4_needs 78 = .ok (.iconst 2, 1) := dk_5 (dk_at dksX4_needs_3 7 rfl rfl)
theorem dX4_needs_79 : decode cX4_needs 79 = .ok (.iload_n 2, 1) := dk_28 (dk_at dksX4_needs_3 8 rfl rfl)
theorem dX4_needs_80 : decode cX4_needs 80 = .ok (.iadd, 1) := dk_96 (dk_at dksX4_needs_3 9 rfl rfl)
theorem dX4_needs_81 : decode cX4_needs 81 = .ok (.invokevirtual 186, 3) := dk_182 0 186 (dk_at dksX4_needs_3 10 rfl rfl)
theorem dX4_needs_84 : decode cX4_needs 84 = .ok (.ineg, 1) := dk_116 (dk_at dksX4_needs_3 13 rfl rfl)
theorem dX4_needs_85 : decode cX4_needs 85 = .ok (.invokestatic 72, 3) := dk_184 0 72 (dk_at dksX4_needs_3 14 rfl rfl)
theorem dX4_needs_88 : decode cX4_needs 88 = .ok (.iastore, 1) := dk_79 (dk_at dksX4_needs_3 17 rfl rfl)
theorem dX4_needs_89 : decode cX4_needs 89 = .ok (.iinc 2 1, 3) := dk_132 2 1 (dk_at dksX4_needs_3 18 rfl rfl)
theorem dX4_needs_92 : decode cX4_needs 92 = .ok (.goto (-90), 3) := dk_167 255 166 (dk_at dksX4_needs_3 21 rfl rfl)
theorem dX4_needs_95 : decode cX4_needs 95 = .ok (.aload_n 0, 1) := dk_42 (dk_at dksX4_needs_4 0 rfl rfl)
theorem dX4_needs_96 : decode cX4_needs 96 = .ok (.getfield 25, 3) := dk_180 0 25 (dk_at dksX4_needs_4 1 rfl rfl)
theorem dX4_needs_99 : decode cX4_needs 99 = .ok (.iconst 0, 1) := dk_3 (dk_at dksX4_needs_4 4 rfl rfl)
theorem dX4_needs_100 : decode cX4_needs 100 = .ok (.invokestatic 78, 3) := dk_184 0 78 (dk_at dksX4_needs_4 5 rfl rfl)
theorem dX4_needs_103 : decode cX4_needs 103 = .ok (.ireturn, 1) := dk_172 (dk_at dksX4_needs_4 8 rfl rfl)
abbrev cX4_widens : ByteArray := prog_9_method_96_code
def yX4_widens : MethodName := ⟨RX4, "widens", "()V"⟩
def dkwX4_widens_3 : List UInt8 := [180, 0, 25, 3, 184, 0, 78, 87, 177]
abbrev dktX4_widens_3 : List UInt8 := dkwX4_widens_3 ++ []
def dkwX4_widens_2 : List UInt8 := [167, 0, 14, 42, 180, 0, 25, 27, 46, 16, 246, 184, 0, 173, 79, 132, 1, 1, 167, 255, 195, 42]
abbrev dktX4_widens_2 : List UInt8 := dkwX4_widens_2 ++ dktX4_widens_3
def dkwX4_widens_1 : List UInt8 := [16, 9, 164, 0, 7, 4, 167, 0, 4, 3, 61, 42, 180, 0, 25, 27, 28, 153, 0, 8, 18, 67]
abbrev dktX4_widens_1 : List UInt8 := dkwX4_widens_1 ++ dktX4_widens_2
def dkwX4_widens_0 : List UInt8 := [3, 60, 27, 16, 16, 162, 0, 61, 27, 7, 108, 27, 7, 112, 159, 0, 18, 42, 180, 0, 25, 27, 46]
abbrev dktX4_widens_0 : List UInt8 := dkwX4_widens_0 ++ dktX4_widens_1
theorem dksX4_widens_0 : cX4_widens.data.toList.drop 0 = dktX4_widens_0 := by decide +kernel
theorem dksX4_widens_1 : cX4_widens.data.toList.drop 23 = dktX4_widens_1 := dk_seg dksX4_widens_0 23 rfl rfl
theorem dksX4_widens_2 : cX4_widens.data.toList.drop 45 = dktX4_widens_2 := dk_seg dksX4_widens_1 22 rfl rfl
theorem dksX4_widens_3 : cX4_widens.data.toList.drop 67 = dktX4_widens_3 := dk_seg dksX4_widens_2 22 rfl rfl
theorem dX4_widens_0 : decode cX4_widens 0 = .ok (.iconst 0, 1) := dk_3 (dk_at dksX4_widens_0 0 rfl rfl)
theorem dX4_widens_1 : decode cX4_widens 1 = .ok (.istore_n 1, 1) := dk_60 (dk_at dksX4_widens_0 1 rfl rfl)
theorem dX4_widens_2 : decode cX4_widens 2 = .ok (.iload_n 1, 1) := dk_27 (dk_at dksX4_widens_0 2 rfl rfl)
theorem dX4_widens_3 : decode cX4_widens 3 = .ok (.bipush 16, 2) := dk_16 16 (dk_at dksX4_widens_0 3 rfl rfl)
theorem dX4_widens_5 : decode cX4_widens 5 = .ok (.if_icmp .ge 61, 3) := dk_162 0 61 (dk_at dksX4_widens_0 5 rfl rfl)
theorem dX4_widens_8 : decode cX4_widens 8 = .ok (.iload_n 1, 1) := dk_27 (dk_at dksX4_widens_0 8 rfl rfl)
theorem dX4_widens_9 : decode cX4_widens 9 = .ok (.iconst 4, 1) := dk_7 (dk_at dksX4_widens_0 9 rfl rfl)
theorem dX4_widens_10 : decode cX4_widens 10 = .ok (.idiv, 1) := dk_108 (dk_at dksX4_widens_0 10 rfl rfl)
theorem dX4_widens_11 : decode cX4_widens 11 = .ok (.iload_n 1, 1) := dk_27 (dk_at dksX4_widens_0 11 rfl rfl)
theorem dX4_widens_12 : decode cX4_widens 12 = .ok (.iconst 4, 1) := dk_7 (dk_at dksX4_widens_0 12 rfl rfl)
theorem dX4_widens_13 : decode cX4_widens 13 = .ok (.irem, 1) := dk_112 (dk_at dksX4_widens_0 13 rfl rfl)
theorem dX4_widens_14 : decode cX4_widens 14 = .ok (.if_icmp .eq 18, 3) := dk_159 0 18 (dk_at dksX4_widens_0 14 rfl rfl)
theorem dX4_widens_17 : decode cX4_widens 17 = .ok (.aload_n 0, 1) := dk_42 (dk_at dksX4_widens_0 17 rfl rfl)
theorem dX4_widens_18 : decode cX4_widens 18 = .ok (.getfield 25, 3) := dk_180 0 25 (dk_at dksX4_widens_0 18 rfl rfl)
theorem dX4_widens_21 : decode cX4_widens 21 = .ok (.iload_n 1, 1) := dk_27 (dk_at dksX4_widens_0 21 rfl rfl)
theorem dX4_widens_22 : decode cX4_widens 22 = .ok (.iaload, 1) := dk_46 (dk_at dksX4_widens_0 22 rfl rfl)
theorem dX4_widens_23 : decode cX4_widens 23 = .ok (.bipush 9, 2) := dk_16 9 (dk_at dksX4_widens_1 0 rfl rfl)
theorem dX4_widens_25 : decode cX4_widens 25 = .ok (.if_icmp .le 7, 3) := dk_164 0 7 (dk_at dksX4_widens_1 2 rfl rfl)
theorem dX4_widens_28 : decode cX4_widens 28 = .ok (.iconst 1, 1) := dk_4 (dk_at dksX4_widens_1 5 rfl rfl)
theorem dX4_widens_29 : decode cX4_widens 29 = .ok (.goto 4, 3) := dk_167 0 4 (dk_at dksX4_widens_1 6 rfl rfl)
theorem dX4_widens_32 : decode cX4_widens 32 = .ok (.iconst 0, 1) := dk_3 (dk_at dksX4_widens_1 9 rfl rfl)
theorem dX4_widens_33 : decode cX4_widens 33 = .ok (.istore_n 2, 1) := dk_61 (dk_at dksX4_widens_1 10 rfl rfl)
theorem dX4_widens_34 : decode cX4_widens 34 = .ok (.aload_n 0, 1) := dk_42 (dk_at dksX4_widens_1 11 rfl rfl)
theorem dX4_widens_35 : decode cX4_widens 35 = .ok (.getfield 25, 3) := dk_180 0 25 (dk_at dksX4_widens_1 12 rfl rfl)
theorem dX4_widens_38 : decode cX4_widens 38 = .ok (.iload_n 1, 1) := dk_27 (dk_at dksX4_widens_1 15 rfl rfl)
theorem dX4_widens_39 : decode cX4_widens 39 = .ok (.iload_n 2, 1) := dk_28 (dk_at dksX4_widens_1 16 rfl rfl)
theorem dX4_widens_40 : decode cX4_widens 40 = .ok (.ifCond .eq 8, 3) := dk_153 0 8 (dk_at dksX4_widens_1 17 rfl rfl)
theorem dX4_widens_43 : decode cX4_widens 43 = .ok (.ldc 67, 2) := dk_18 67 (dk_at dksX4_widens_1 20 rfl rfl)
theorem dX4_widens_45 : decode cX4_widens 45 = .ok (.goto 14, 3) := dk_167 0 14 (dk_at dksX4_widens_2 0 rfl rfl)
theorem dX4_widens_48 : decode cX4_widens 48 = .ok (.aload_n 0, 1) := dk_42 (dk_at dksX4_widens_2 3 rfl rfl)
theorem dX4_widens_49 : decode cX4_widens 49 = .ok (.getfield 25, 3) := dk_180 0 25 (dk_at dksX4_widens_2 4 rfl rfl)
theorem dX4_widens_52 : decode cX4_widens 52 = .ok (.iload_n 1, 1) := dk_27 (dk_at dksX4_widens_2 7 rfl rfl)
theorem dX4_widens_53 : decode cX4_widens 53 = .ok (.iaload, 1) := dk_46 (dk_at dksX4_widens_2 8 rfl rfl)
theorem dX4_widens_54 : decode cX4_widens 54 = .ok (.bipush (-10), 2) := dk_16 246 (dk_at dksX4_widens_2 9 rfl rfl)
theorem dX4_widens_56 : decode cX4_widens 56 = .ok (.invokestatic 173, 3) := dk_184 0 173 (dk_at dksX4_widens_2 11 rfl rfl)
theorem dX4_widens_59 : decode cX4_widens 59 = .ok (.iastore, 1) := dk_79 (dk_at dksX4_widens_2 14 rfl rfl)
theorem dX4_widens_60 : decode cX4_widens 60 = .ok (.iinc 1 1, 3) := dk_132 1 1 (dk_at dksX4_widens_2 15 rfl rfl)
theorem dX4_widens_63 : decode cX4_widens 63 = .ok (.goto (-61), 3) := dk_167 255 195 (dk_at dksX4_widens_2 18 rfl rfl)
theorem dX4_widens_66 : decode cX4_widens 66 = .ok (.aload_n 0, 1) := dk_42 (dk_at dksX4_widens_2 21 rfl rfl)
theorem dX4_widens_67 : decode cX4_widens 67 = .ok (.getfield 25, 3) := dk_180 0 25 (dk_at dksX4_widens_3 0 rfl rfl)
theorem dX4_widens_70 : decode cX4_widens 70 = .ok (.iconst 0, 1) := dk_3 (dk_at dksX4_widens_3 3 rfl rfl)
theorem dX4_widens_71 : decode cX4_widens 71 = .ok (.invokestatic 78, 3) := dk_184 0 78 (dk_at dksX4_widens_3 4 rfl rfl)
theorem dX4_widens_74 : decode cX4_widens 74 = .ok (.pop, 1) := dk_87 (dk_at dksX4_widens_3 7 rfl rfl)
theorem dX4_widens_75 : decode cX4_widens 75 = .ok (.return_, 1) := dk_177 (dk_at dksX4_widens_3 8 rfl rfl)
abbrev cX4_isNew : ByteArray := prog_9_method_97_code
def yX4_isNew : MethodName := ⟨RX4, "isNew", "(I)Z"⟩
def dkwX4_isNew_2 : List UInt8 := [167, 0, 4, 3, 61, 132, 3, 1, 167, 255, 206, 28, 172]
abbrev dktX4_isNew_2 : List UInt8 := dkwX4_isNew_2 ++ []
def dkwX4_isNew_1 : List UInt8 := [160, 0, 22, 42, 180, 0, 25, 3, 42, 180, 0, 31, 16, 16, 29, 104, 184, 0, 230, 154, 0, 7, 4]
abbrev dktX4_isNew_1 : List UInt8 := dkwX4_isNew_1 ++ dktX4_isNew_2
def dkwX4_isNew_0 : List UInt8 := [4, 61, 3, 62, 29, 42, 180, 0, 237, 162, 0, 48, 28, 153, 0, 36, 42, 180, 0, 34, 29, 46, 27]
abbrev dktX4_isNew_0 : List UInt8 := dkwX4_isNew_0 ++ dktX4_isNew_1
theorem dksX4_isNew_0 : cX4_isNew.data.toList.drop 0 = dktX4_isNew_0 := by decide +kernel
theorem dksX4_isNew_1 : cX4_isNew.data.toList.drop 23 = dktX4_isNew_1 := dk_seg dksX4_isNew_0 23 rfl rfl
theorem dksX4_isNew_2 : cX4_isNew.data.toList.drop 46 = dktX4_isNew_2 := dk_seg dksX4_isNew_1 23 rfl rfl
theorem dX4_isNew_0 : decode cX4_isNew 0 = .ok (.iconst 1, 1) := dk_4 (dk_at dksX4_isNew_0 0 rfl rfl)
theorem dX4_isNew_1 : decode cX4_isNew 1 = .ok (.istore_n 2, 1) := dk_61 (dk_at dksX4_isNew_0 1 rfl rfl)
theorem dX4_isNew_2 : decode cX4_isNew 2 = .ok (.iconst 0, 1) := dk_3 (dk_at dksX4_isNew_0 2 rfl rfl)
theorem dX4_isNew_3 : decode cX4_isNew 3 = .ok (.istore_n 3, 1) := dk_62 (dk_at dksX4_isNew_0 3 rfl rfl)
theorem dX4_isNew_4 : decode cX4_isNew 4 = .ok (.iload_n 3, 1) := dk_29 (dk_at dksX4_isNew_0 4 rfl rfl)
theorem dX4_isNew_5 : decode cX4_isNew 5 = .ok (.aload_n 0, 1) := dk_42 (dk_at dksX4_isNew_0 5 rfl rfl)
theorem dX4_isNew_6 : decode cX4_isNew 6 = .ok (.getfield 237, 3) := dk_180 0 237 (dk_at dksX4_isNew_0 6 rfl rfl)
theorem dX4_isNew_9 : decode cX4_isNew 9 = .ok (.if_icmp .ge 48, 3) := dk_162 0 48 (dk_at dksX4_isNew_0 9 rfl rfl)
theorem dX4_isNew_12 : decode cX4_isNew 12 = .ok (.iload_n 2, 1) := dk_28 (dk_at dksX4_isNew_0 12 rfl rfl)
theorem dX4_isNew_13 : decode cX4_isNew 13 = .ok (.ifCond .eq 36, 3) := dk_153 0 36 (dk_at dksX4_isNew_0 13 rfl rfl)
theorem dX4_isNew_16 : decode cX4_isNew 16 = .ok (.aload_n 0, 1) := dk_42 (dk_at dksX4_isNew_0 16 rfl rfl)
theorem dX4_isNew_17 : decode cX4_isNew 17 = .ok (.getfield 34, 3) := dk_180 0 34 (dk_at dksX4_isNew_0 17 rfl rfl)
theorem dX4_isNew_20 : decode cX4_isNew 20 = .ok (.iload_n 3, 1) := dk_29 (dk_at dksX4_isNew_0 20 rfl rfl)
theorem dX4_isNew_21 : decode cX4_isNew 21 = .ok (.iaload, 1) := dk_46 (dk_at dksX4_isNew_0 21 rfl rfl)
theorem dX4_isNew_22 : decode cX4_isNew 22 = .ok (.iload_n 1, 1) := dk_27 (dk_at dksX4_isNew_0 22 rfl rfl)
theorem dX4_isNew_23 : decode cX4_isNew 23 = .ok (.if_icmp .ne 22, 3) := dk_160 0 22 (dk_at dksX4_isNew_1 0 rfl rfl)
theorem dX4_isNew_26 : decode cX4_isNew 26 = .ok (.aload_n 0, 1) := dk_42 (dk_at dksX4_isNew_1 3 rfl rfl)
theorem dX4_isNew_27 : decode cX4_isNew 27 = .ok (.getfield 25, 3) := dk_180 0 25 (dk_at dksX4_isNew_1 4 rfl rfl)
theorem dX4_isNew_30 : decode cX4_isNew 30 = .ok (.iconst 0, 1) := dk_3 (dk_at dksX4_isNew_1 7 rfl rfl)
theorem dX4_isNew_31 : decode cX4_isNew 31 = .ok (.aload_n 0, 1) := dk_42 (dk_at dksX4_isNew_1 8 rfl rfl)
theorem dX4_isNew_32 : decode cX4_isNew 32 = .ok (.getfield 31, 3) := dk_180 0 31 (dk_at dksX4_isNew_1 9 rfl rfl)
theorem dX4_isNew_35 : decode cX4_isNew 35 = .ok (.bipush 16, 2) := dk_16 16 (dk_at dksX4_isNew_1 12 rfl rfl)
theorem dX4_isNew_37 : decode cX4_isNew 37 = .ok (.iload_n 3, 1) := dk_29 (dk_at dksX4_isNew_1 14 rfl rfl)
theorem dX4_isNew_38 : decode cX4_isNew 38 = .ok (.imul, 1) := dk_104 (dk_at dksX4_isNew_1 15 rfl rfl)
theorem dX4_isNew_39 : decode cX4_isNew 39 = .ok (.invokestatic 230, 3) := dk_184 0 230 (dk_at dksX4_isNew_1 16 rfl rfl)
theorem dX4_isNew_42 : decode cX4_isNew 42 = .ok (.ifCond .ne 7, 3) := dk_154 0 7 (dk_at dksX4_isNew_1 19 rfl rfl)
theorem dX4_isNew_45 : decode cX4_isNew 45 = .ok (.iconst 1, 1) := dk_4 (dk_at dksX4_isNew_1 22 rfl rfl)
theorem dX4_isNew_46 : decode cX4_isNew 46 = .ok (.goto 4, 3) := dk_167 0 4 (dk_at dksX4_isNew_2 0 rfl rfl)
theorem dX4_isNew_49 : decode cX4_isNew 49 = .ok (.iconst 0, 1) := dk_3 (dk_at dksX4_isNew_2 3 rfl rfl)
theorem dX4_isNew_50 : decode cX4_isNew 50 = .ok (.istore_n 2, 1) := dk_61 (dk_at dksX4_isNew_2 4 rfl rfl)
theorem dX4_isNew_51 : decode cX4_isNew 51 = .ok (.iinc 3 1, 3) := dk_132 3 1 (dk_at dksX4_isNew_2 5 rfl rfl)
theorem dX4_isNew_54 : decode cX4_isNew 54 = .ok (.goto (-50), 3) := dk_167 255 206 (dk_at dksX4_isNew_2 8 rfl rfl)
theorem dX4_isNew_57 : decode cX4_isNew 57 = .ok (.iload_n 2, 1) := dk_28 (dk_at dksX4_isNew_2 11 rfl rfl)
theorem dX4_isNew_58 : decode cX4_isNew 58 = .ok (.ireturn, 1) := dk_172 (dk_at dksX4_isNew_2 12 rfl rfl)
abbrev cX4_zones : ByteArray := prog_9_method_102_code
def yX4_zones : MethodName := ⟨RX4, "zones", "()I"⟩
def dkwX4_zones_0 : List UInt8 := [42, 42, 182, 1, 2, 182, 0, 189, 153, 0, 10, 42, 180, 0, 237, 167, 0, 4, 3, 172]
abbrev dktX4_zones_0 : List UInt8 := dkwX4_zones_0 ++ []
theorem dksX4_zones_0 : cX4_zones.data.toList.drop 0 = dktX4_zones_0 := by decide +kernel
theorem dX4_zones_0 : decode cX4_zones 0 = .ok (.aload_n 0, 1) := dk_42 (dk_at dksX4_zones_0 0 rfl rfl)
theorem dX4_zones_1 : decode cX4_zones 1 = .ok (.aload_n 0, 1) := dk_42 (dk_at dksX4_zones_0 1 rfl rfl)
theorem dX4_zones_2 : decode cX4_zones 2 = .ok (.invokevirtual 258, 3) := dk_182 1 2 (dk_at dksX4_zones_0 2 rfl rfl)
theorem dX4_zones_5 : decode cX4_zones 5 = .ok (.invokevirtual 189, 3) := dk_182 0 189 (dk_at dksX4_zones_0 5 rfl rfl)
theorem dX4_zones_8 : decode cX4_zones 8 = .ok (.ifCond .eq 10, 3) := dk_153 0 10 (dk_at dksX4_zones_0 8 rfl rfl)
theorem dX4_zones_11 : decode cX4_zones 11 = .ok (.aload_n 0, 1) := dk_42 (dk_at dksX4_zones_0 11 rfl rfl)
theorem dX4_zones_12 : decode cX4_zones 12 = .ok (.getfield 237, 3) := dk_180 0 237 (dk_at dksX4_zones_0 12 rfl rfl)
theorem dX4_zones_15 : decode cX4_zones 15 = .ok (.goto 4, 3) := dk_167 0 4 (dk_at dksX4_zones_0 15 rfl rfl)
theorem dX4_zones_18 : decode cX4_zones 18 = .ok (.iconst 0, 1) := dk_3 (dk_at dksX4_zones_0 18 rfl rfl)
theorem dX4_zones_19 : decode cX4_zones 19 = .ok (.ireturn, 1) := dk_172 (dk_at dksX4_zones_0 19 rfl rfl)
abbrev cX4_zonesOf : ByteArray := prog_9_method_104_code
def yX4_zonesOf : MethodName := ⟨RX4, "zonesOf", "(I)I"⟩
def dkwX4_zonesOf_1 : List UInt8 := [180, 0, 34, 29, 46, 27, 160, 0, 7, 4, 167, 0, 4, 3, 96, 61, 132, 3, 1, 167, 255, 227, 28, 172]
abbrev dktX4_zonesOf_1 : List UInt8 := dkwX4_zonesOf_1 ++ []
def dkwX4_zonesOf_0 : List UInt8 := [42, 27, 182, 1, 5, 154, 0, 5, 3, 172, 3, 61, 3, 62, 29, 42, 180, 0, 237, 162, 0, 27, 28, 42]
abbrev dktX4_zonesOf_0 : List UInt8 := dkwX4_zonesOf_0 ++ dktX4_zonesOf_1
theorem dksX4_zonesOf_0 : cX4_zonesOf.data.toList.drop 0 = dktX4_zonesOf_0 := by decide +kernel
theorem dksX4_zonesOf_1 : cX4_zonesOf.data.toList.drop 24 = dktX4_zonesOf_1 := dk_seg dksX4_zonesOf_0 24 rfl rfl
theorem dX4_zonesOf_0 : decode cX4_zonesOf 0 = .ok (.aload_n 0, 1) := dk_42 (dk_at dksX4_zonesOf_0 0 rfl rfl)
theorem dX4_zonesOf_1 : decode cX4_zonesOf 1 = .ok (.iload_n 1, 1) := dk_27 (dk_at dksX4_zonesOf_0 1 rfl rfl)
theorem dX4_zonesOf_2 : decode cX4_zonesOf 2 = .ok (.invokevirtual 261, 3) := dk_182 1 5 (dk_at dksX4_zonesOf_0 2 rfl rfl)
theorem dX4_zonesOf_5 : decode cX4_zonesOf 5 = .ok (.ifCond .ne 5, 3) := dk_154 0 5 (dk_at dksX4_zonesOf_0 5 rfl rfl)
theorem dX4_zonesOf_8 : decode cX4_zonesOf 8 = .ok (.iconst 0, 1) := dk_3 (dk_at dksX4_zonesOf_0 8 rfl rfl)
theorem dX4_zonesOf_9 : decode cX4_zonesOf 9 = .ok (.ireturn, 1) := dk_172 (dk_at dksX4_zonesOf_0 9 rfl rfl)
theorem dX4_zonesOf_10 : decode cX4_zonesOf 10 = .ok (.iconst 0, 1) := dk_3 (dk_at dksX4_zonesOf_0 10 rfl rfl)
theorem dX4_zonesOf_11 : decode cX4_zonesOf 11 = .ok (.istore_n 2, 1) := dk_61 (dk_at dksX4_zonesOf_0 11 rfl rfl)
theorem dX4_zonesOf_12 : decode cX4_zonesOf 12 = .ok (.iconst 0, 1) := dk_3 (dk_at dksX4_zonesOf_0 12 rfl rfl)
theorem dX4_zonesOf_13 : decode cX4_zonesOf 13 = .ok (.istore_n 3, 1) := dk_62 (dk_at dksX4_zonesOf_0 13 rfl rfl)
theorem dX4_zonesOf_14 : decode cX4_zonesOf 14 = .ok (.iload_n 3, 1) := dk_29 (dk_at dksX4_zonesOf_0 14 rfl rfl)
theorem dX4_zonesOf_15 : decode cX4_zonesOf 15 = .ok (.aload_n 0, 1) := dk_42 (dk_at dksX4_zonesOf_0 15 rfl rfl)
theorem dX4_zonesOf_16 : decode cX4_zonesOf 16 = .ok (.getfield 237, 3) := dk_180 0 237 (dk_at dksX4_zonesOf_0 16 rfl rfl)
theorem dX4_zonesOf_19 : decode cX4_zonesOf 19 = .ok (.if_icmp .ge 27, 3) := dk_162 0 27 (dk_at dksX4_zonesOf_0 19 rfl rfl)
theorem dX4_zonesOf_22 : decode cX4_zonesOf 22 = .ok (.iload_n 2, 1) := dk_28 (dk_at dksX4_zonesOf_0 22 rfl rfl)
theorem dX4_zonesOf_23 : decode cX4_zonesOf 23 = .ok (.aload_n 0, 1) := dk_42 (dk_at dksX4_zonesOf_0 23 rfl rfl)
theorem dX4_zonesOf_24 : decode cX4_zonesOf 24 = .ok (.getfield 34, 3) := dk_180 0 34 (dk_at dksX4_zonesOf_1 0 rfl rfl)
theorem dX4_zonesOf_27 : decode cX4_zonesOf 27 = .ok (.iload_n 3, 1) := dk_29 (dk_at dksX4_zonesOf_1 3 rfl rfl)
theorem dX4_zonesOf_28 : decode cX4_zonesOf 28 = .ok (.iaload, 1) := dk_46 (dk_at dksX4_zonesOf_1 4 rfl rfl)
theorem dX4_zonesOf_29 : decode cX4_zonesOf 29 = .ok (.iload_n 1, 1) := dk_27 (dk_at dksX4_zonesOf_1 5 rfl rfl)
theorem dX4_zonesOf_30 : decode cX4_zonesOf 30 = .ok (.if_icmp .ne 7, 3) := dk_160 0 7 (dk_at dksX4_zonesOf_1 6 rfl rfl)
theorem dX4_zonesOf_33 : decode cX4_zonesOf 33 = .ok (.iconst 1, 1) := dk_4 (dk_at dksX4_zonesOf_1 9 rfl rfl)
theorem dX4_zonesOf_34 : decode cX4_zonesOf 34 = .ok (.goto 4, 3) := dk_167 0 4 (dk_at dksX4_zonesOf_1 10 rfl rfl)
theorem dX4_zonesOf_37 : decode cX4_zonesOf 37 = .ok (.iconst 0, 1) := dk_3 (dk_at dksX4_zonesOf_1 13 rfl rfl)
theorem dX4_zonesOf_38 : decode cX4_zonesOf 38 = .ok (.iadd, 1) := dk_96 (dk_at dksX4_zonesOf_1 14 rfl rfl)
theorem dX4_zonesOf_39 : decode cX4_zonesOf 39 = .ok (.istore_n 2, 1) := dk_61 (dk_at dksX4_zonesOf_1 15 rfl rfl)
theorem dX4_zonesOf_40 : decode cX4_zonesOf 40 = .ok (.iinc 3 1, 3) := dk_132 3 1 (dk_at dksX4_zonesOf_1 16 rfl rfl)
theorem dX4_zonesOf_43 : decode cX4_zonesOf 43 = .ok (.goto (-29), 3) := dk_167 255 227 (dk_at dksX4_zonesOf_1 19 rfl rfl)
theorem dX4_zonesOf_46 : decode cX4_zonesOf 46 = .ok (.iload_n 2, 1) := dk_28 (dk_at dksX4_zonesOf_1 22 rfl rfl)
theorem dX4_zonesOf_47 : decode cX4_zonesOf 47 = .ok (.ireturn, 1) := dk_172 (dk_at dksX4_zonesOf_1 23 rfl rfl)
abbrev cX4_asksZones : ByteArray := prog_9_method_103_code
def yX4_asksZones : MethodName := ⟨RX4, "asksZones", "(I)Z"⟩
def dkwX4_asksZones_1 : List UInt8 := [167, 0, 4, 5, 181, 0, 49, 42, 180, 0, 49, 154, 0, 7, 4, 167, 0, 4, 3, 172]
abbrev dktX4_asksZones_1 : List UInt8 := dkwX4_asksZones_1 ++ []
def dkwX4_asksZones_0 : List UInt8 := [42, 27, 184, 0, 176, 182, 0, 189, 154, 0, 5, 3, 172, 42, 42, 182, 1, 2, 153, 0, 7, 3]
abbrev dktX4_asksZones_0 : List UInt8 := dkwX4_asksZones_0 ++ dktX4_asksZones_1
theorem dksX4_asksZones_0 : cX4_asksZones.data.toList.drop 0 = dktX4_asksZones_0 := by decide +kernel
theorem dksX4_asksZones_1 : cX4_asksZones.data.toList.drop 22 = dktX4_asksZones_1 := dk_seg dksX4_asksZones_0 22 rfl rfl
theorem dX4_asksZones_0 : decode cX4_asksZones 0 = .ok (.aload_n 0, 1) := dk_42 (dk_at dksX4_asksZones_0 0 rfl rfl)
theorem dX4_asksZones_1 : decode cX4_asksZones 1 = .ok (.iload_n 1, 1) := dk_27 (dk_at dksX4_asksZones_0 1 rfl rfl)
theorem dX4_asksZones_2 : decode cX4_asksZones 2 = .ok (.invokestatic 176, 3) := dk_184 0 176 (dk_at dksX4_asksZones_0 2 rfl rfl)
theorem dX4_asksZones_5 : decode cX4_asksZones 5 = .ok (.invokevirtual 189, 3) := dk_182 0 189 (dk_at dksX4_asksZones_0 5 rfl rfl)
theorem dX4_asksZones_8 : decode cX4_asksZones 8 = .ok (.ifCond .ne 5, 3) := dk_154 0 5 (dk_at dksX4_asksZones_0 8 rfl rfl)
theorem dX4_asksZones_11 : decode cX4_asksZones 11 = .ok (.iconst 0, 1) := dk_3 (dk_at dksX4_asksZones_0 11 rfl rfl)
theorem dX4_asksZones_12 : decode cX4_asksZones 12 = .ok (.ireturn, 1) := dk_172 (dk_at dksX4_asksZones_0 12 rfl rfl)
theorem dX4_asksZones_13 : decode cX4_asksZones 13 = .ok (.aload_n 0, 1) := dk_42 (dk_at dksX4_asksZones_0 13 rfl rfl)
theorem dX4_asksZones_14 : decode cX4_asksZones 14 = .ok (.aload_n 0, 1) := dk_42 (dk_at dksX4_asksZones_0 14 rfl rfl)
theorem dX4_asksZones_15 : decode cX4_asksZones 15 = .ok (.invokevirtual 258, 3) := dk_182 1 2 (dk_at dksX4_asksZones_0 15 rfl rfl)
theorem dX4_asksZones_18 : decode cX4_asksZones 18 = .ok (.ifCond .eq 7, 3) := dk_153 0 7 (dk_at dksX4_asksZones_0 18 rfl rfl)
theorem dX4_asksZones_21 : decode cX4_asksZones 21 = .ok (.iconst 0, 1) := dk_3 (dk_at dksX4_asksZones_0 21 rfl rfl)
theorem dX4_asksZones_22 : decode cX4_asksZones 22 = .ok (.goto 4, 3) := dk_167 0 4 (dk_at dksX4_asksZones_1 0 rfl rfl)
theorem dX4_asksZones_25 : decode cX4_asksZones 25 = .ok (.iconst 2, 1) := dk_5 (dk_at dksX4_asksZones_1 3 rfl rfl)
theorem dX4_asksZones_26 : decode cX4_asksZones 26 = .ok (.putfield 49, 3) := dk_181 0 49 (dk_at dksX4_asksZones_1 4 rfl rfl)
theorem dX4_asksZones_29 : decode cX4_asksZones 29 = .ok (.aload_n 0, 1) := dk_42 (dk_at dksX4_asksZones_1 7 rfl rfl)
theorem dX4_asksZones_30 : decode cX4_asksZones 30 = .ok (.getfield 49, 3) := dk_180 0 49 (dk_at dksX4_asksZones_1 8 rfl rfl)
theorem dX4_asksZones_33 : decode cX4_asksZones 33 = .ok (.ifCond .ne 7, 3) := dk_154 0 7 (dk_at dksX4_asksZones_1 11 rfl rfl)
theorem dX4_asksZones_36 : decode cX4_asksZones 36 = .ok (.iconst 1, 1) := dk_4 (dk_at dksX4_asksZones_1 14 rfl rfl)
theorem dX4_asksZones_37 : decode cX4_asksZones 37 = .ok (.goto 4, 3) := dk_167 0 4 (dk_at dksX4_asksZones_1 15 rfl rfl)
theorem dX4_asksZones_40 : decode cX4_asksZones 40 = .ok (.iconst 0, 1) := dk_3 (dk_at dksX4_asksZones_1 18 rfl rfl)
theorem dX4_asksZones_41 : decode cX4_asksZones 41 = .ok (.ireturn, 1) := dk_172 (dk_at dksX4_asksZones_1 19 rfl rfl)
abbrev cX4_fewestLines : ByteArray := prog_9_method_105_code
def yX4_fewestLines : MethodName := ⟨RX4, "fewestLines", "(I)I"⟩
def dkwX4_fewestLines_2 : List UInt8 := [132, 3, 1, 167, 255, 220, 28, 18, 67, 162, 0, 7, 28, 167, 0, 8, 42, 5, 182, 0, 60, 172]
abbrev dktX4_fewestLines_2 : List UInt8 := dkwX4_fewestLines_2 ++ []
def dkwX4_fewestLines_1 : List UInt8 := [180, 0, 34, 29, 46, 27, 160, 0, 16, 28, 42, 180, 0, 37, 29, 46, 184, 0, 72, 167, 0, 4, 28, 61]
abbrev dktX4_fewestLines_1 : List UInt8 := dkwX4_fewestLines_1 ++ dktX4_fewestLines_2
def dkwX4_fewestLines_0 : List UInt8 := [42, 27, 182, 1, 5, 154, 0, 5, 3, 172, 18, 67, 61, 3, 62, 29, 42, 180, 0, 237, 162, 0, 34, 42]
abbrev dktX4_fewestLines_0 : List UInt8 := dkwX4_fewestLines_0 ++ dktX4_fewestLines_1
theorem dksX4_fewestLines_0 : cX4_fewestLines.data.toList.drop 0 = dktX4_fewestLines_0 := by decide +kernel
theorem dksX4_fewestLines_1 : cX4_fewestLines.data.toList.drop 24 = dktX4_fewestLines_1 := dk_seg dksX4_fewestLines_0 24 rfl rfl
theorem dksX4_fewestLines_2 : cX4_fewestLines.data.toList.drop 48 = dktX4_fewestLines_2 := dk_seg dksX4_fewestLines_1 24 rfl rfl
theorem dX4_fewestLines_0 : decode cX4_fewestLines 0 = .ok (.aload_n 0, 1) := dk_42 (dk_at dksX4_fewestLines_0 0 rfl rfl)
theorem dX4_fewestLines_1 : decode cX4_fewestLines 1 = .ok (.iload_n 1, 1) := dk_27 (dk_at dksX4_fewestLines_0 1 rfl rfl)
theorem dX4_fewestLines_2 : decode cX4_fewestLines 2 = .ok (.invokevirtual 261, 3) := dk_182 1 5 (dk_at dksX4_fewestLines_0 2 rfl rfl)
theorem dX4_fewestLines_5 : decode cX4_fewestLines 5 = .ok (.ifCond .ne 5, 3) := dk_154 0 5 (dk_at dksX4_fewestLines_0 5 rfl rfl)
theorem dX4_fewestLines_8 : decode cX4_fewestLines 8 = .ok (.iconst 0, 1) := dk_3 (dk_at dksX4_fewestLines_0 8 rfl rfl)
theorem dX4_fewestLines_9 : decode cX4_fewestLines 9 = .ok (.ireturn, 1) := dk_172 (dk_at dksX4_fewestLines_0 9 rfl rfl)
theorem dX4_fewestLines_10 : decode cX4_fewestLines 10 = .ok (.ldc 67, 2) := dk_18 67 (dk_at dksX4_fewestLines_0 10 rfl rfl)
theorem dX4_fewestLines_12 : decode cX4_fewestLines 12 = .ok (.istore_n 2, 1) := dk_61 (dk_at dksX4_fewestLines_0 12 rfl rfl)
theorem dX4_fewestLines_13 : decode cX4_fewestLines 13 = .ok (.iconst 0, 1) := dk_3 (dk_at dksX4_fewestLines_0 13 rfl rfl)
theorem dX4_fewestLines_14 : decode cX4_fewestLines 14 = .ok (.istore_n 3, 1) := dk_62 (dk_at dksX4_fewestLines_0 14 rfl rfl)
theorem dX4_fewestLines_15 : decode cX4_fewestLines 15 = .ok (.iload_n 3, 1) := dk_29 (dk_at dksX4_fewestLines_0 15 rfl rfl)
theorem dX4_fewestLines_16 : decode cX4_fewestLines 16 = .ok (.aload_n 0, 1) := dk_42 (dk_at dksX4_fewestLines_0 16 rfl rfl)
theorem dX4_fewestLines_17 : decode cX4_fewestLines 17 = .ok (.getfield 237, 3) := dk_180 0 237 (dk_at dksX4_fewestLines_0 17 rfl rfl)
theorem dX4_fewestLines_20 : decode cX4_fewestLines 20 = .ok (.if_icmp .ge 34, 3) := dk_162 0 34 (dk_at dksX4_fewestLines_0 20 rfl rfl)
theorem dX4_fewestLines_23 : decode cX4_fewestLines 23 = .ok (.aload_n 0, 1) := dk_42 (dk_at dksX4_fewestLines_0 23 rfl rfl)
theorem dX4_fewestLines_24 : decode cX4_fewestLines 24 = .ok (.getfield 34, 3) := dk_180 0 34 (dk_at dksX4_fewestLines_1 0 rfl rfl)
theorem dX4_fewestLines_27 : decode cX4_fewestLines 27 = .ok (.iload_n 3, 1) := dk_29 (dk_at dksX4_fewestLines_1 3 rfl rfl)
theorem dX4_fewestLines_28 : decode cX4_fewestLines 28 = .ok (.iaload, 1) := dk_46 (dk_at dksX4_fewestLines_1 4 rfl rfl)
theorem dX4_fewestLines_29 : decode cX4_fewestLines 29 = .ok (.iload_n 1, 1) := dk_27 (dk_at dksX4_fewestLines_1 5 rfl rfl)
theorem dX4_fewestLines_30 : decode cX4_fewestLines 30 = .ok (.if_icmp .ne 16, 3) := dk_160 0 16 (dk_at dksX4_fewestLines_1 6 rfl rfl)
theorem dX4_fewestLines_33 : decode cX4_fewestLines 33 = .ok (.iload_n 2, 1) := dk_28 (dk_at dksX4_fewestLines_1 9 rfl rfl)
theorem dX4_fewestLines_34 : decode cX4_fewestLines 34 = .ok (.aload_n 0, 1) := dk_42 (dk_at dksX4_fewestLines_1 10 rfl rfl)
theorem dX4_fewestLines_35 : decode cX4_fewestLines 35 = .ok (.getfield 37, 3) := dk_180 0 37 (dk_at dksX4_fewestLines_1 11 rfl rfl)
theorem dX4_fewestLines_38 : decode cX4_fewestLines 38 = .ok (.iload_n 3, 1) := dk_29 (dk_at dksX4_fewestLines_1 14 rfl rfl)
theorem dX4_fewestLines_39 : decode cX4_fewestLines 39 = .ok (.iaload, 1) := dk_46 (dk_at dksX4_fewestLines_1 15 rfl rfl)
theorem dX4_fewestLines_40 : decode cX4_fewestLines 40 = .ok (.invokestatic 72, 3) := dk_184 0 72 (dk_at dksX4_fewestLines_1 16 rfl rfl)
theorem dX4_fewestLines_43 : decode cX4_fewestLines 43 = .ok (.goto 4, 3) := dk_167 0 4 (dk_at dksX4_fewestLines_1 19 rfl rfl)
theorem dX4_fewestLines_46 : decode cX4_fewestLines 46 = .ok (.iload_n 2, 1) := dk_28 (dk_at dksX4_fewestLines_1 22 rfl rfl)
theorem dX4_fewestLines_47 : decode cX4_fewestLines 47 = .ok (.istore_n 2, 1) := dk_61 (dk_at dksX4_fewestLines_1 23 rfl rfl)
theorem dX4_fewestLines_48 : decode cX4_fewestLines 48 = .ok (.iinc 3 1, 3) := dk_132 3 1 (dk_at dksX4_fewestLines_2 0 rfl rfl)
theorem dX4_fewestLines_51 : decode cX4_fewestLines 51 = .ok (.goto (-36), 3) := dk_167 255 220 (dk_at dksX4_fewestLines_2 3 rfl rfl)
theorem dX4_fewestLines_54 : decode cX4_fewestLines 54 = .ok (.iload_n 2, 1) := dk_28 (dk_at dksX4_fewestLines_2 6 rfl rfl)
theorem dX4_fewestLines_55 : decode cX4_fewestLines 55 = .ok (.ldc 67, 2) := dk_18 67 (dk_at dksX4_fewestLines_2 7 rfl rfl)
theorem dX4_fewestLines_57 : decode cX4_fewestLines 57 = .ok (.if_icmp .ge 7, 3) := dk_162 0 7 (dk_at dksX4_fewestLines_2 9 rfl rfl)
theorem dX4_fewestLines_60 : decode cX4_fewestLines 60 = .ok (.iload_n 2, 1) := dk_28 (dk_at dksX4_fewestLines_2 12 rfl rfl)
theorem dX4_fewestLines_61 : decode cX4_fewestLines 61 = .ok (.goto 8, 3) := dk_167 0 8 (dk_at dksX4_fewestLines_2 13 rfl rfl)
theorem dX4_fewestLines_64 : decode cX4_fewestLines 64 = .ok (.aload_n 0, 1) := dk_42 (dk_at dksX4_fewestLines_2 16 rfl rfl)
theorem dX4_fewestLines_65 : decode cX4_fewestLines 65 = .ok (.iconst 2, 1) := dk_5 (dk_at dksX4_fewestLines_2 17 rfl rfl)
theorem dX4_fewestLines_66 : decode cX4_fewestLines 66 = .ok (.invokevirtual 60, 3) := dk_182 0 60 (dk_at dksX4_fewestLines_2 18 rfl rfl)
theorem dX4_fewestLines_69 : decode cX4_fewestLines 69 = .ok (.ireturn, 1) := dk_172 (dk_at dksX4_fewestLines_2 21 rfl rfl)
abbrev cX4_reachableByMoments : ByteArray := prog_9_method_113_code
def yX4_reachableByMoments : MethodName := ⟨RX4, "reachableByMoments", "()I"⟩
def dkwX4_reachableByMoments_1 : List UInt8 := [180, 0, 43, 28, 46, 17, 5, 51, 108, 120, 128, 60, 132, 2, 1, 167, 255, 230, 27, 172]
abbrev dktX4_reachableByMoments_1 : List UInt8 := dkwX4_reachableByMoments_1 ++ []
def dkwX4_reachableByMoments_0 : List UInt8 := [42, 3, 181, 0, 49, 42, 182, 1, 30, 3, 60, 3, 61, 28, 42, 180, 1, 18, 162, 0, 24, 27, 4, 42]
abbrev dktX4_reachableByMoments_0 : List UInt8 := dkwX4_reachableByMoments_0 ++ dktX4_reachableByMoments_1
theorem dksX4_reachableByMoments_0 : cX4_reachableByMoments.data.toList.drop 0 = dktX4_reachableByMoments_0 := by decide +kernel
theorem dksX4_reachableByMoments_1 : cX4_reachableByMoments.data.toList.drop 24 = dktX4_reachableByMoments_1 := dk_seg dksX4_reachableByMoments_0 24 rfl rfl
theorem dX4_reachableByMoments_0 : decode cX4_reachableByMoments 0 = .ok (.aload_n 0, 1) := dk_42 (dk_at dksX4_reachableByMoments_0 0 rfl rfl)
theorem dX4_reachableByMoments_1 : decode cX4_reachableByMoments 1 = .ok (.iconst 0, 1) := dk_3 (dk_at dksX4_reachableByMoments_0 1 rfl rfl)
theorem dX4_reachableByMoments_2 : decode cX4_reachableByMoments 2 = .ok (.putfield 49, 3) := dk_181 0 49 (dk_at dksX4_reachableByMoments_0 2 rfl rfl)
theorem dX4_reachableByMoments_5 : decode cX4_reachableByMoments 5 = .ok (.aload_n 0, 1) := dk_42 (dk_at dksX4_reachableByMoments_0 5 rfl rfl)
theorem dX4_reachableByMoments_6 : decode cX4_reachableByMoments 6 = .ok (.invokevirtual 286, 3) := dk_182 1 30 (dk_at dksX4_reachableByMoments_0 6 rfl rfl)
theorem dX4_reachableByMoments_9 : decode cX4_reachableByMoments 9 = .ok (.iconst 0, 1) := dk_3 (dk_at dksX4_reachableByMoments_0 9 rfl rfl)
theorem dX4_reachableByMoments_10 : decode cX4_reachableByMoments 10 = .ok (.istore_n 1, 1) := dk_60 (dk_at dksX4_reachableByMoments_0 10 rfl rfl)
theorem dX4_reachableByMoments_11 : decode cX4_reachableByMoments 11 = .ok (.iconst 0, 1) := dk_3 (dk_at dksX4_reachableByMoments_0 11 rfl rfl)
theorem dX4_reachableByMoments_12 : decode cX4_reachableByMoments 12 = .ok (.istore_n 2, 1) := dk_61 (dk_at dksX4_reachableByMoments_0 12 rfl rfl)
theorem dX4_reachableByMoments_13 : decode cX4_reachableByMoments 13 = .ok (.iload_n 2, 1) := dk_28 (dk_at dksX4_reachableByMoments_0 13 rfl rfl)
theorem dX4_reachableByMoments_14 : decode cX4_reachableByMoments 14 = .ok (.aload_n 0, 1) := dk_42 (dk_at dksX4_reachableByMoments_0 14 rfl rfl)
theorem dX4_reachableByMoments_15 : decode cX4_reachableByMoments 15 = .ok (.getfield 274, 3) := dk_180 1 18 (dk_at dksX4_reachableByMoments_0 15 rfl rfl)
theorem dX4_reachableByMoments_18 : decode cX4_reachableByMoments 18 = .ok (.if_icmp .ge 24, 3) := dk_162 0 24 (dk_at dksX4_reachableByMoments_0 18 rfl rfl)
theorem dX4_reachableByMoments_21 : decode cX4_reachableByMoments 21 = .ok (.iload_n 1, 1) := dk_27 (dk_at dksX4_reachableByMoments_0 21 rfl rfl)
theorem dX4_reachableByMoments_22 : decode cX4_reachableByMoments 22 = .ok (.iconst 1, 1) := dk_4 (dk_at dksX4_reachableByMoments_0 22 rfl rfl)
theorem dX4_reachableByMoments_23 : decode cX4_reachableByMoments 23 = .ok (.aload_n 0, 1) := dk_42 (dk_at dksX4_reachableByMoments_0 23 rfl rfl)
theorem dX4_reachableByMoments_24 : decode cX4_reachableByMoments 24 = .ok (.getfield 43, 3) := dk_180 0 43 (dk_at dksX4_reachableByMoments_1 0 rfl rfl)
theorem dX4_reachableByMoments_27 : decode cX4_reachableByMoments 27 = .ok (.iload_n 2, 1) := dk_28 (dk_at dksX4_reachableByMoments_1 3 rfl rfl)
theorem dX4_reachableByMoments_28 : decode cX4_reachableByMoments 28 = .ok (.iaload, 1) := dk_46 (dk_at dksX4_reachableByMoments_1 4 rfl rfl)
theorem dX4_reachableByMoments_29 : decode cX4_reachableByMoments 29 = .ok (.sipush 1331, 3) := dk_17 5 51 (dk_at dksX4_reachableByMoments_1 5 rfl rfl)
theorem dX4_reachableByMoments_32 : decode cX4_reachableByMoments 32 = .ok (.idiv, 1) := dk_108 (dk_at dksX4_reachableByMoments_1 8 rfl rfl)
theorem dX4_reachableByMoments_33 : decode cX4_reachableByMoments 33 = .ok (.ishl, 1) := dk_120 (dk_at dksX4_reachableByMoments_1 9 rfl rfl)
theorem dX4_reachableByMoments_34 : decode cX4_reachableByMoments 34 = .ok (.ior, 1) := dk_128 (dk_at dksX4_reachableByMoments_1 10 rfl rfl)
theorem dX4_reachableByMoments_35 : decode cX4_reachableByMoments 35 = .ok (.istore_n 1, 1) := dk_60 (dk_at dksX4_reachableByMoments_1 11 rfl rfl)
theorem dX4_reachableByMoments_36 : decode cX4_reachableByMoments 36 = .ok (.iinc 2 1, 3) := dk_132 2 1 (dk_at dksX4_reachableByMoments_1 12 rfl rfl)
theorem dX4_reachableByMoments_39 : decode cX4_reachableByMoments 39 = .ok (.goto (-26), 3) := dk_167 255 230 (dk_at dksX4_reachableByMoments_1 15 rfl rfl)
theorem dX4_reachableByMoments_42 : decode cX4_reachableByMoments 42 = .ok (.iload_n 1, 1) := dk_27 (dk_at dksX4_reachableByMoments_1 18 rfl rfl)
theorem dX4_reachableByMoments_43 : decode cX4_reachableByMoments 43 = .ok (.ireturn, 1) := dk_172 (dk_at dksX4_reachableByMoments_1 19 rfl rfl)
abbrev cX4_rides : ByteArray := prog_9_method_112_code
def yX4_rides : MethodName := ⟨RX4, "rides", "()V"⟩
def dkwX4_rides_6 : List UInt8 := [96, 182, 1, 21, 132, 4, 1, 167, 255, 218, 29, 60, 167, 255, 138, 177]
abbrev dktX4_rides_6 : List UInt8 := dkwX4_rides_6 ++ []
def dkwX4_rides_5 : List UInt8 := [42, 42, 180, 0, 43, 21, 4, 46, 182, 1, 27, 42, 180, 0, 40, 42, 180, 0, 43, 21, 4, 46, 46, 4]
abbrev dktX4_rides_5 : List UInt8 := dkwX4_rides_5 ++ dktX4_rides_6
def dkwX4_rides_4 : List UInt8 := [167, 255, 224, 132, 2, 1, 167, 255, 200, 42, 180, 1, 18, 62, 27, 54, 4, 21, 4, 29, 162, 0, 38, 42]
abbrev dktX4_rides_4 : List UInt8 := dkwX4_rides_4 ++ dktX4_rides_5
def dkwX4_rides_3 : List UInt8 := [46, 162, 0, 26, 42, 42, 29, 21, 4, 182, 1, 24, 42, 180, 0, 40, 29, 46, 182, 1, 21, 132, 4, 1]
abbrev dktX4_rides_3 : List UInt8 := dkwX4_rides_3 ++ dktX4_rides_4
def dkwX4_rides_2 : List UInt8 := [180, 1, 18, 162, 0, 54, 42, 180, 0, 43, 28, 46, 62, 3, 54, 4, 21, 4, 42, 180, 0, 7, 16, 102]
abbrev dktX4_rides_2 : List UInt8 := dkwX4_rides_2 ++ dktX4_rides_3
def dkwX4_rides_1 : List UInt8 := [3, 181, 1, 18, 42, 3, 3, 182, 1, 21, 3, 60, 3, 61, 27, 42, 180, 1, 18, 162, 0, 116, 28, 42]
abbrev dktX4_rides_1 : List UInt8 := dkwX4_rides_1 ++ dktX4_rides_2
def dkwX4_rides_0 : List UInt8 := [3, 60, 27, 17, 31, 50, 162, 0, 17, 42, 180, 0, 40, 27, 18, 67, 79, 132, 1, 1, 167, 255, 238, 42]
abbrev dktX4_rides_0 : List UInt8 := dkwX4_rides_0 ++ dktX4_rides_1
theorem dksX4_rides_0 : cX4_rides.data.toList.drop 0 = dktX4_rides_0 := by decide +kernel
theorem dksX4_rides_1 : cX4_rides.data.toList.drop 24 = dktX4_rides_1 := dk_seg dksX4_rides_0 24 rfl rfl
theorem dksX4_rides_2 : cX4_rides.data.toList.drop 48 = dktX4_rides_2 := dk_seg dksX4_rides_1 24 rfl rfl
theorem dksX4_rides_3 : cX4_rides.data.toList.drop 72 = dktX4_rides_3 := dk_seg dksX4_rides_2 24 rfl rfl
theorem dksX4_rides_4 : cX4_rides.data.toList.drop 96 = dktX4_rides_4 := dk_seg dksX4_rides_3 24 rfl rfl
theorem dksX4_rides_5 : cX4_rides.data.toList.drop 120 = dktX4_rides_5 := dk_seg dksX4_rides_4 24 rfl rfl
theorem dksX4_rides_6 : cX4_rides.data.toList.drop 144 = dktX4_rides_6 := dk_seg dksX4_rides_5 24 rfl rfl
theorem dX4_rides_0 : decode cX4_rides 0 = .ok (.iconst 0, 1) := dk_3 (dk_at dksX4_rides_0 0 rfl rfl)
theorem dX4_rides_1 : decode cX4_rides 1 = .ok (.istore_n 1, 1) := dk_60 (dk_at dksX4_rides_0 1 rfl rfl)
theorem dX4_rides_2 : decode cX4_rides 2 = .ok (.iload_n 1, 1) := dk_27 (dk_at dksX4_rides_0 2 rfl rfl)
theorem dX4_rides_3 : decode cX4_rides 3 = .ok (.sipush 7986, 3) := dk_17 31 50 (dk_at dksX4_rides_0 3 rfl rfl)
theorem dX4_rides_6 : decode cX4_rides 6 = .ok (.if_icmp .ge 17, 3) := dk_162 0 17 (dk_at dksX4_rides_0 6 rfl rfl)
theorem dX4_rides_9 : decode cX4_rides 9 = .ok (.aload_n 0, 1) := dk_42 (dk_at dksX4_rides_0 9 rfl rfl)
theorem dX4_rides_10 : decode cX4_rides 10 = .ok (.getfield 40, 3) := dk_180 0 40 (dk_at dksX4_rides_0 10 rfl rfl)
theorem dX4_rides_13 : decode cX4_rides 13 = .ok (.iload_n 1, 1) := dk_27 (dk_at dksX4_rides_0 13 rfl rfl)
theorem dX4_rides_14 : decode cX4_rides 14 = .ok (.ldc 67, 2) := dk_18 67 (dk_at dksX4_rides_0 14 rfl rfl)
theorem dX4_rides_16 : decode cX4_rides 16 = .ok (.iastore, 1) := dk_79 (dk_at dksX4_rides_0 16 rfl rfl)
theorem dX4_rides_17 : decode cX4_rides 17 = .ok (.iinc 1 1, 3) := dk_132 1 1 (dk_at dksX4_rides_0 17 rfl rfl)
theorem dX4_rides_20 : decode cX4_rides 20 = .ok (.goto (-18), 3) := dk_167 255 238 (dk_at dksX4_rides_0 20 rfl rfl)
theorem dX4_rides_23 : decode cX4_rides 23 = .ok (.aload_n 0, 1) := dk_42 (dk_at dksX4_rides_0 23 rfl rfl)
theorem dX4_rides_24 : decode cX4_rides 24 = .ok (.iconst 0, 1) := dk_3 (dk_at dksX4_rides_1 0 rfl rfl)
theorem dX4_rides_25 : decode cX4_rides 25 = .ok (.putfield 274, 3) := dk_181 1 18 (dk_at dksX4_rides_1 1 rfl rfl)
theorem dX4_rides_28 : decode cX4_rides 28 = .ok (.aload_n 0, 1) := dk_42 (dk_at dksX4_rides_1 4 rfl rfl)
theorem dX4_rides_29 : decode cX4_rides 29 = .ok (.iconst 0, 1) := dk_3 (dk_at dksX4_rides_1 5 rfl rfl)
theorem dX4_rides_30 : decode cX4_rides 30 = .ok (.iconst 0, 1) := dk_3 (dk_at dksX4_rides_1 6 rfl rfl)
theorem dX4_rides_31 : decode cX4_rides 31 = .ok (.invokevirtual 277, 3) := dk_182 1 21 (dk_at dksX4_rides_1 7 rfl rfl)
theorem dX4_rides_34 : decode cX4_rides 34 = .ok (.iconst 0, 1) := dk_3 (dk_at dksX4_rides_1 10 rfl rfl)
theorem dX4_rides_35 : decode cX4_rides 35 = .ok (.istore_n 1, 1) := dk_60 (dk_at dksX4_rides_1 11 rfl rfl)
theorem dX4_rides_36 : decode cX4_rides 36 = .ok (.iconst 0, 1) := dk_3 (dk_at dksX4_rides_1 12 rfl rfl)
theorem dX4_rides_37 : decode cX4_rides 37 = .ok (.istore_n 2, 1) := dk_61 (dk_at dksX4_rides_1 13 rfl rfl)
theorem dX4_rides_38 : decode cX4_rides 38 = .ok (.iload_n 1, 1) := dk_27 (dk_at dksX4_rides_1 14 rfl rfl)
theorem dX4_rides_39 : decode cX4_rides 39 = .ok (.aload_n 0, 1) := dk_42 (dk_at dksX4_rides_1 15 rfl rfl)
theorem dX4_rides_40 : decode cX4_rides 40 = .ok (.getfield 274, 3) := dk_180 1 18 (dk_at dksX4_rides_1 16 rfl rfl)
theorem dX4_rides_43 : decode cX4_rides 43 = .ok (.if_icmp .ge 116, 3) := dk_162 0 116 (dk_at dksX4_rides_1 19 rfl rfl)
theorem dX4_rides_46 : decode cX4_rides 46 = .ok (.iload_n 2, 1) := dk_28 (dk_at dksX4_rides_1 22 rfl rfl)
theorem dX4_rides_47 : decode cX4_rides 47 = .ok (.aload_n 0, 1) := dk_42 (dk_at dksX4_rides_1 23 rfl rfl)
theorem dX4_rides_48 : decode cX4_rides 48 = .ok (.getfield 274, 3) := dk_180 1 18 (dk_at dksX4_rides_2 0 rfl rfl)
theorem dX4_rides_51 : decode cX4_rides 51 = .ok (.if_icmp .ge 54, 3) := dk_162 0 54 (dk_at dksX4_rides_2 3 rfl rfl)
theorem dX4_rides_54 : decode cX4_rides 54 = .ok (.aload_n 0, 1) := dk_42 (dk_at dksX4_rides_2 6 rfl rfl)
theorem dX4_rides_55 : decode cX4_rides 55 = .ok (.getfield 43, 3) := dk_180 0 43 (dk_at dksX4_rides_2 7 rfl rfl)
theorem dX4_rides_58 : decode cX4_rides 58 = .ok (.iload_n 2, 1) := dk_28 (dk_at dksX4_rides_2 10 rfl rfl)
theorem dX4_rides_59 : decode cX4_rides 59 = .ok (.iaload, 1) := dk_46 (dk_at dksX4_rides_2 11 rfl rfl)
theorem dX4_rides_60 : decode cX4_rides 60 = .ok (.istore_n 3, 1) := dk_62 (dk_at dksX4_rides_2 12 rfl rfl)
theorem dX4_rides_61 : decode cX4_rides 61 = .ok (.iconst 0, 1) := dk_3 (dk_at dksX4_rides_2 13 rfl rfl)
theorem dX4_rides_62 : decode cX4_rides 62 = .ok (.istore 4, 2) := dk_54 4 (dk_at dksX4_rides_2 14 rfl rfl)
theorem dX4_rides_64 : decode cX4_rides 64 = .ok (.iload 4, 2) := dk_21 4 (dk_at dksX4_rides_2 16 rfl rfl)
theorem dX4_rides_66 : decode cX4_rides 66 = .ok (.aload_n 0, 1) := dk_42 (dk_at dksX4_rides_2 18 rfl rfl)
theorem dX4_rides_67 : decode cX4_rides 67 = .ok (.getfield 7, 3) := dk_180 0 7 (dk_at dksX4_rides_2 19 rfl rfl)
theorem dX4_rides_70 : decode cX4_rides 70 = .ok (.bipush 102, 2) := dk_16 102 (dk_at dksX4_rides_2 22 rfl rfl)
theorem dX4_rides_72 : decode cX4_rides 72 = .ok (.iaload, 1) := dk_46 (dk_at dksX4_rides_3 0 rfl rfl)
theorem dX4_rides_73 : decode cX4_rides 73 = .ok (.if_icmp .ge 26, 3) := dk_162 0 26 (dk_at dksX4_rides_3 1 rfl rfl)
theorem dX4_rides_76 : decode cX4_rides 76 = .ok (.aload_n 0, 1) := dk_42 (dk_at dksX4_rides_3 4 rfl rfl)
theorem dX4_rides_77 : decode cX4_rides 77 = .ok (.aload_n 0, 1) := dk_42 (dk_at dksX4_rides_3 5 rfl rfl)
theorem dX4_rides_78 : decode cX4_rides 78 = .ok (.iload_n 3, 1) := dk_29 (dk_at dksX4_rides_3 6 rfl rfl)
theorem dX4_rides_79 : decode cX4_rides 79 = .ok (.iload 4, 2) := dk_21 4 (dk_at dksX4_rides_3 7 rfl rfl)
theorem dX4_rides_81 : decode cX4_rides 81 = .ok (.invokevirtual 280, 3) := dk_182 1 24 (dk_at dksX4_rides_3 9 rfl rfl)
theorem dX4_rides_84 : decode cX4_rides 84 = .ok (.aload_n 0, 1) := dk_42 (dk_at dksX4_rides_3 12 rfl rfl)
theorem dX4_rides_85 : decode cX4_rides 85 = .ok (.getfield 40, 3) := dk_180 0 40 (dk_at dksX4_rides_3 13 rfl rfl)
theorem dX4_rides_88 : decode cX4_rides 88 = .ok (.iload_n 3, 1) := dk_29 (dk_at dksX4_rides_3 16 rfl rfl)
theorem dX4_rides_89 : decode cX4_rides 89 = .ok (.iaload, 1) := dk_46 (dk_at dksX4_rides_3 17 rfl rfl)
theorem dX4_rides_90 : decode cX4_rides 90 = .ok (.invokevirtual 277, 3) := dk_182 1 21 (dk_at dksX4_rides_3 18 rfl rfl)
theorem dX4_rides_93 : decode cX4_rides 93 = .ok (.iinc 4 1, 3) := dk_132 4 1 (dk_at dksX4_rides_3 21 rfl rfl)
theorem dX4_rides_96 : decode cX4_rides 96 = .ok (.goto (-32), 3) := dk_167 255 224 (dk_at dksX4_rides_4 0 rfl rfl)
theorem dX4_rides_99 : decode cX4_rides 99 = .ok (.iinc 2 1, 3) := dk_132 2 1 (dk_at dksX4_rides_4 3 rfl rfl)
theorem dX4_rides_102 : decode cX4_rides 102 = .ok (.goto (-56), 3) := dk_167 255 200 (dk_at dksX4_rides_4 6 rfl rfl)
theorem dX4_rides_105 : decode cX4_rides 105 = .ok (.aload_n 0, 1) := dk_42 (dk_at dksX4_rides_4 9 rfl rfl)
theorem dX4_rides_106 : decode cX4_rides 106 = .ok (.getfield 274, 3) := dk_180 1 18 (dk_at dksX4_rides_4 10 rfl rfl)
theorem dX4_rides_109 : decode cX4_rides 109 = .ok (.istore_n 3, 1) := dk_62 (dk_at dksX4_rides_4 13 rfl rfl)
theorem dX4_rides_110 : decode cX4_rides 110 = .ok (.iload_n 1, 1) := dk_27 (dk_at dksX4_rides_4 14 rfl rfl)
theorem dX4_rides_111 : decode cX4_rides 111 = .ok (.istore 4, 2) := dk_54 4 (dk_at dksX4_rides_4 15 rfl rfl)
theorem dX4_rides_113 : decode cX4_rides 113 = .ok (.iload 4, 2) := dk_21 4 (dk_at dksX4_rides_4 17 rfl rfl)
theorem dX4_rides_115 : decode cX4_rides 115 = .ok (.iload_n 3, 1) := dk_29 (dk_at dksX4_rides_4 19 rfl rfl)
theorem dX4_rides_116 : decode cX4_rides 116 = .ok (.if_icmp .ge 38, 3) := dk_162 0 38 (dk_at dksX4_rides_4 20 rfl rfl)
theorem dX4_rides_119 : decode cX4_rides 119 = .ok (.aload_n 0, 1) := dk_42 (dk_at dksX4_rides_4 23 rfl rfl)
theorem dX4_rides_120 : decode cX4_rides 120 = .ok (.aload_n 0, 1) := dk_42 (dk_at dksX4_rides_5 0 rfl rfl)
theorem dX4_rides_121 : decode cX4_rides 121 = .ok (.aload_n 0, 1) := dk_42 (dk_at dksX4_rides_5 1 rfl rfl)
theorem dX4_rides_122 : decode cX4_rides 122 = .ok (.getfield 43, 3) := dk_180 0 43 (dk_at dksX4_rides_5 2 rfl rfl)
theorem dX4_rides_125 : decode cX4_rides 125 = .ok (.iload 4, 2) := dk_21 4 (dk_at dksX4_rides_5 5 rfl rfl)
theorem dX4_rides_127 : decode cX4_rides 127 = .ok (.iaload, 1) := dk_46 (dk_at dksX4_rides_5 7 rfl rfl)
theorem dX4_rides_128 : decode cX4_rides 128 = .ok (.invokevirtual 283, 3) := dk_182 1 27 (dk_at dksX4_rides_5 8 rfl rfl)
theorem dX4_rides_131 : decode cX4_rides 131 = .ok (.aload_n 0, 1) := dk_42 (dk_at dksX4_rides_5 11 rfl rfl)
theorem dX4_rides_132 : decode cX4_rides 132 = .ok (.getfield 40, 3) := dk_180 0 40 (dk_at dksX4_rides_5 12 rfl rfl)
theorem dX4_rides_135 : decode cX4_rides 135 = .ok (.aload_n 0, 1) := dk_42 (dk_at dksX4_rides_5 15 rfl rfl)
theorem dX4_rides_136 : decode cX4_rides 136 = .ok (.getfield 43, 3) := dk_180 0 43 (dk_at dksX4_rides_5 16 rfl rfl)
theorem dX4_rides_139 : decode cX4_rides 139 = .ok (.iload 4, 2) := dk_21 4 (dk_at dksX4_rides_5 19 rfl rfl)
theorem dX4_rides_141 : decode cX4_rides 141 = .ok (.iaload, 1) := dk_46 (dk_at dksX4_rides_5 21 rfl rfl)
theorem dX4_rides_142 : decode cX4_rides 142 = .ok (.iaload, 1) := dk_46 (dk_at dksX4_rides_5 22 rfl rfl)
theorem dX4_rides_143 : decode cX4_rides 143 = .ok (.iconst 1, 1) := dk_4 (dk_at dksX4_rides_5 23 rfl rfl)
theorem dX4_rides_144 : decode cX4_rides 144 = .ok (.iadd, 1) := dk_96 (dk_at dksX4_rides_6 0 rfl rfl)
theorem dX4_rides_145 : decode cX4_rides 145 = .ok (.invokevirtual 277, 3) := dk_182 1 21 (dk_at dksX4_rides_6 1 rfl rfl)
theorem dX4_rides_148 : decode cX4_rides 148 = .ok (.iinc 4 1, 3) := dk_132 4 1 (dk_at dksX4_rides_6 4 rfl rfl)
theorem dX4_rides_151 : decode cX4_rides 151 = .ok (.goto (-38), 3) := dk_167 255 218 (dk_at dksX4_rides_6 7 rfl rfl)
theorem dX4_rides_154 : decode cX4_rides 154 = .ok (.iload_n 3, 1) := dk_29 (dk_at dksX4_rides_6 10 rfl rfl)
theorem dX4_rides_155 : decode cX4_rides 155 = .ok (.istore_n 1, 1) := dk_60 (dk_at dksX4_rides_6 11 rfl rfl)
theorem dX4_rides_156 : decode cX4_rides 156 = .ok (.goto (-118), 3) := dk_167 255 138 (dk_at dksX4_rides_6 12 rfl rfl)
theorem dX4_rides_159 : decode cX4_rides 159 = .ok (.return_, 1) := dk_177 (dk_at dksX4_rides_6 15 rfl rfl)
abbrev cX4_comes : ByteArray := prog_9_method_111_code
def yX4_comes : MethodName := ⟨RX4, "comes", "(II)V"⟩
def dkwX4_comes_1 : List UInt8 := [180, 0, 43, 42, 180, 1, 18, 27, 79, 42, 89, 180, 1, 18, 4, 96, 181, 1, 18, 177]
abbrev dktX4_comes_1 : List UInt8 := dkwX4_comes_1 ++ []
def dkwX4_comes_0 : List UInt8 := [27, 155, 0, 41, 42, 180, 0, 40, 27, 46, 18, 67, 160, 0, 30, 42, 180, 0, 40, 27, 28, 79, 42]
abbrev dktX4_comes_0 : List UInt8 := dkwX4_comes_0 ++ dktX4_comes_1
theorem dksX4_comes_0 : cX4_comes.data.toList.drop 0 = dktX4_comes_0 := by decide +kernel
theorem dksX4_comes_1 : cX4_comes.data.toList.drop 23 = dktX4_comes_1 := dk_seg dksX4_comes_0 23 rfl rfl
theorem dX4_comes_0 : decode cX4_comes 0 = .ok (.iload_n 1, 1) := dk_27 (dk_at dksX4_comes_0 0 rfl rfl)
theorem dX4_comes_1 : decode cX4_comes 1 = .ok (.ifCond .lt 41, 3) := dk_155 0 41 (dk_at dksX4_comes_0 1 rfl rfl)
theorem dX4_comes_4 : decode cX4_comes 4 = .ok (.aload_n 0, 1) := dk_42 (dk_at dksX4_comes_0 4 rfl rfl)
theorem dX4_comes_5 : decode cX4_comes 5 = .ok (.getfield 40, 3) := dk_180 0 40 (dk_at dksX4_comes_0 5 rfl rfl)
theorem dX4_comes_8 : decode cX4_comes 8 = .ok (.iload_n 1, 1) := dk_27 (dk_at dksX4_comes_0 8 rfl rfl)
theorem dX4_comes_9 : decode cX4_comes 9 = .ok (.iaload, 1) := dk_46 (dk_at dksX4_comes_0 9 rfl rfl)
theorem dX4_comes_10 : decode cX4_comes 10 = .ok (.ldc 67, 2) := dk_18 67 (dk_at dksX4_comes_0 10 rfl rfl)
theorem dX4_comes_12 : decode cX4_comes 12 = .ok (.if_icmp .ne 30, 3) := dk_160 0 30 (dk_at dksX4_comes_0 12 rfl rfl)
theorem dX4_comes_15 : decode cX4_comes 15 = .ok (.aload_n 0, 1) := dk_42 (dk_at dksX4_comes_0 15 rfl rfl)
theorem dX4_comes_16 : decode cX4_comes 16 = .ok (.getfield 40, 3) := dk_180 0 40 (dk_at dksX4_comes_0 16 rfl rfl)
theorem dX4_comes_19 : decode cX4_comes 19 = .ok (.iload_n 1, 1) := dk_27 (dk_at dksX4_comes_0 19 rfl rfl)
theorem dX4_comes_20 : decode cX4_comes 20 = .ok (.iload_n 2, 1) := dk_28 (dk_at dksX4_comes_0 20 rfl rfl)
theorem dX4_comes_21 : decode cX4_comes 21 = .ok (.iastore, 1) := dk_79 (dk_at dksX4_comes_0 21 rfl rfl)
theorem dX4_comes_22 : decode cX4_comes 22 = .ok (.aload_n 0, 1) := dk_42 (dk_at dksX4_comes_0 22 rfl rfl)
theorem dX4_comes_23 : decode cX4_comes 23 = .ok (.getfield 43, 3) := dk_180 0 43 (dk_at dksX4_comes_1 0 rfl rfl)
theorem dX4_comes_26 : decode cX4_comes 26 = .ok (.aload_n 0, 1) := dk_42 (dk_at dksX4_comes_1 3 rfl rfl)
theorem dX4_comes_27 : decode cX4_comes 27 = .ok (.getfield 274, 3) := dk_180 1 18 (dk_at dksX4_comes_1 4 rfl rfl)
theorem dX4_comes_30 : decode cX4_comes 30 = .ok (.iload_n 1, 1) := dk_27 (dk_at dksX4_comes_1 7 rfl rfl)
theorem dX4_comes_31 : decode cX4_comes 31 = .ok (.iastore, 1) := dk_79 (dk_at dksX4_comes_1 8 rfl rfl)
theorem dX4_comes_32 : decode cX4_comes 32 = .ok (.aload_n 0, 1) := dk_42 (dk_at dksX4_comes_1 9 rfl rfl)
theorem dX4_comes_33 : decode cX4_comes 33 = .ok (.dup, 1) := dk_89 (dk_at dksX4_comes_1 10 rfl rfl)
theorem dX4_comes_34 : decode cX4_comes 34 = .ok (.getfield 274, 3) := dk_180 1 18 (dk_at dksX4_comes_1 11 rfl rfl)
theorem dX4_comes_37 : decode cX4_comes 37 = .ok (.iconst 1, 1) := dk_4 (dk_at dksX4_comes_1 14 rfl rfl)
theorem dX4_comes_38 : decode cX4_comes 38 = .ok (.iadd, 1) := dk_96 (dk_at dksX4_comes_1 15 rfl rfl)
theorem dX4_comes_39 : decode cX4_comes 39 = .ok (.putfield 274, 3) := dk_181 1 18 (dk_at dksX4_comes_1 16 rfl rfl)
theorem dX4_comes_42 : decode cX4_comes 42 = .ok (.return_, 1) := dk_177 (dk_at dksX4_comes_1 19 rfl rfl)
abbrev cX4_carried : ByteArray := prog_9_method_110_code
def yX4_carried : MethodName := ⟨RX4, "carried", "(II)I"⟩
def dkwX4_carried_3 : List UInt8 := [182, 0, 186, 29, 21, 4, 21, 5, 184, 1, 11, 167, 0, 4, 2, 172]
abbrev dktX4_carried_3 : List UInt8 := dkwX4_carried_3 ++ []
def dkwX4_carried_2 : List UInt8 := [155, 0, 12, 21, 5, 155, 0, 7, 4, 167, 0, 4, 3, 54, 6, 21, 6, 153, 0, 20, 42, 28, 4]
abbrev dktX4_carried_2 : List UInt8 := dkwX4_carried_2 ++ dktX4_carried_3
def dkwX4_carried_1 : List UInt8 := [54, 5, 42, 28, 3, 182, 0, 186, 27, 17, 5, 51, 108, 160, 0, 21, 29, 155, 0, 17, 21, 4]
abbrev dktX4_carried_1 : List UInt8 := dkwX4_carried_1 ++ dktX4_carried_2
def dkwX4_carried_0 : List UInt8 := [42, 27, 28, 3, 182, 1, 15, 62, 42, 27, 28, 4, 182, 1, 15, 54, 4, 42, 27, 28, 5, 182, 1, 15]
abbrev dktX4_carried_0 : List UInt8 := dkwX4_carried_0 ++ dktX4_carried_1
theorem dksX4_carried_0 : cX4_carried.data.toList.drop 0 = dktX4_carried_0 := by decide +kernel
theorem dksX4_carried_1 : cX4_carried.data.toList.drop 24 = dktX4_carried_1 := dk_seg dksX4_carried_0 24 rfl rfl
theorem dksX4_carried_2 : cX4_carried.data.toList.drop 46 = dktX4_carried_2 := dk_seg dksX4_carried_1 22 rfl rfl
theorem dksX4_carried_3 : cX4_carried.data.toList.drop 69 = dktX4_carried_3 := dk_seg dksX4_carried_2 23 rfl rfl
theorem dX4_carried_0 : decode cX4_carried 0 = .ok (.aload_n 0, 1) := dk_42 (dk_at dksX4_carried_0 0 rfl rfl)
theorem dX4_carried_1 : decode cX4_carried 1 = .ok (.iload_n 1, 1) := dk_27 (dk_at dksX4_carried_0 1 rfl rfl)
theorem dX4_carried_2 : decode cX4_carried 2 = .ok (.iload_n 2, 1) := dk_28 (dk_at dksX4_carried_0 2 rfl rfl)
theorem dX4_carried_3 : decode cX4_carried 3 = .ok (.iconst 0, 1) := dk_3 (dk_at dksX4_carried_0 3 rfl rfl)
theorem dX4_carried_4 : decode cX4_carried 4 = .ok (.invokevirtual 271, 3) := dk_182 1 15 (dk_at dksX4_carried_0 4 rfl rfl)
theorem dX4_carried_7 : decode cX4_carried 7 = .ok (.istore_n 3, 1) := dk_62 (dk_at dksX4_carried_0 7 rfl rfl)
theorem dX4_carried_8 : decode cX4_carried 8 = .ok (.aload_n 0, 1) := dk_42 (dk_at dksX4_carried_0 8 rfl rfl)
theorem dX4_carried_9 : decode cX4_carried 9 = .ok (.iload_n 1, 1) := dk_27 (dk_at dksX4_carried_0 9 rfl rfl)
theorem dX4_carried_10 : decode cX4_carried 10 = .ok (.iload_n 2, 1) := dk_28 (dk_at dksX4_carried_0 10 rfl rfl)
theorem dX4_carried_11 : decode cX4_carried 11 = .ok (.iconst 1, 1) := dk_4 (dk_at dksX4_carried_0 11 rfl rfl)
theorem dX4_carried_12 : decode cX4_carried 12 = .ok (.invokevirtual 271, 3) := dk_182 1 15 (dk_at dksX4_carried_0 12 rfl rfl)
theorem dX4_carried_15 : decode cX4_carried 15 = .ok (.istore 4, 2) := dk_54 4 (dk_at dksX4_carried_0 15 rfl rfl)
theorem dX4_carried_17 : decode cX4_carried 17 = .ok (.aload_n 0, 1) := dk_42 (dk_at dksX4_carried_0 17 rfl rfl)
theorem dX4_carried_18 : decode cX4_carried 18 = .ok (.iload_n 1, 1) := dk_27 (dk_at dksX4_carried_0 18 rfl rfl)
theorem dX4_carried_19 : decode cX4_carried 19 = .ok (.iload_n 2, 1) := dk_28 (dk_at dksX4_carried_0 19 rfl rfl)
theorem dX4_carried_20 : decode cX4_carried 20 = .ok (.iconst 2, 1) := dk_5 (dk_at dksX4_carried_0 20 rfl rfl)
theorem dX4_carried_21 : decode cX4_carried 21 = .ok (.invokevirtual 271, 3) := dk_182 1 15 (dk_at dksX4_carried_0 21 rfl rfl)
theorem dX4_carried_24 : decode cX4_carried 24 = .ok (.istore 5, 2) := dk_54 5 (dk_at dksX4_carried_1 0 rfl rfl)
theorem dX4_carried_26 : decode cX4_carried 26 = .ok (.aload_n 0, 1) := dk_42 (dk_at dksX4_carried_1 2 rfl rfl)
theorem dX4_carried_27 : decode cX4_carried 27 = .ok (.iload_n 2, 1) := dk_28 (dk_at dksX4_carried_1 3 rfl rfl)
theorem dX4_carried_28 : decode cX4_carried 28 = .ok (.iconst 0, 1) := dk_3 (dk_at dksX4_carried_1 4 rfl rfl)
theorem dX4_carried_29 : decode cX4_carried 29 = .ok (.invokevirtual 186, 3) := dk_182 0 186 (dk_at dksX4_carried_1 5 rfl rfl)
theorem dX4_carried_32 : decode cX4_carried 32 = .ok (.iload_n 1, 1) := dk_27 (dk_at dksX4_carried_1 8 rfl rfl)
theorem dX4_carried_33 : decode cX4_carried 33 = .ok (.sipush 1331, 3) := dk_17 5 51 (dk_at dksX4_carried_1 9 rfl rfl)
theorem dX4_carried_36 : decode cX4_carried 36 = .ok (.idiv, 1) := dk_108 (dk_at dksX4_carried_1 12 rfl rfl)
theorem dX4_carried_37 : decode cX4_carried 37 = .ok (.if_icmp .ne 21, 3) := dk_160 0 21 (dk_at dksX4_carried_1 13 rfl rfl)
theorem dX4_carried_40 : decode cX4_carried 40 = .ok (.iload_n 3, 1) := dk_29 (dk_at dksX4_carried_1 16 rfl rfl)
theorem dX4_carried_41 : decode cX4_carried 41 = .ok (.ifCond .lt 17, 3) := dk_155 0 17 (dk_at dksX4_carried_1 17 rfl rfl)
theorem dX4_carried_44 : decode cX4_carried 44 = .ok (.iload 4, 2) := dk_21 4 (dk_at dksX4_carried_1 20 rfl rfl)
theorem dX4_carried_46 : decode cX4_carried 46 = .ok (.ifCond .lt 12, 3) := dk_155 0 12 (dk_at dksX4_carried_2 0 rfl rfl)
theorem dX4_carried_49 : decode cX4_carried 49 = .ok (.iload 5, 2) := dk_21 5 (dk_at dksX4_carried_2 3 rfl rfl)
theorem dX4_carried_51 : decode cX4_carried 51 = .ok (.ifCond .lt 7, 3) := dk_155 0 7 (dk_at dksX4_carried_2 5 rfl rfl)
theorem dX4_carried_54 : decode cX4_carried 54 = .ok (.iconst 1, 1) := dk_4 (dk_at dksX4_carried_2 8 rfl rfl)
theorem dX4_carried_55 : decode cX4_carried 55 = .ok (.goto 4, 3) := dk_167 0 4 (dk_at dksX4_carried_2 9 rfl rfl)
theorem dX4_carried_58 : decode cX4_carried 58 = .ok (.iconst 0, 1) := dk_3 (dk_at dksX4_carried_2 12 rfl rfl)
theorem dX4_carried_59 : decode cX4_carried 59 = .ok (.istore 6, 2) := dk_54 6 (dk_at dksX4_carried_2 13 rfl rfl)
theorem dX4_carried_61 : decode cX4_carried 61 = .ok (.iload 6, 2) := dk_21 6 (dk_at dksX4_carried_2 15 rfl rfl)
theorem dX4_carried_63 : decode cX4_carried 63 = .ok (.ifCond .eq 20, 3) := dk_153 0 20 (dk_at dksX4_carried_2 17 rfl rfl)
theorem dX4_carried_66 : decode cX4_carried 66 = .ok (.aload_n 0, 1) := dk_42 (dk_at dksX4_carried_2 20 rfl rfl)
theorem dX4_carried_67 : decode cX4_carried 67 = .ok (.iload_n 2, 1) := dk_28 (dk_at dksX4_carried_2 21 rfl rfl)
theorem dX4_carried_68 : decode cX4_carried 68 = .ok (.iconst 1, 1) := dk_4 (dk_at dksX4_carried_2 22 rfl rfl)
theorem dX4_carried_69 : decode cX4_carried 69 = .ok (.invokevirtual 186, 3) := dk_182 0 186 (dk_at dksX4_carried_3 0 rfl rfl)
theorem dX4_carried_72 : decode cX4_carried 72 = .ok (.iload_n 3, 1) := dk_29 (dk_at dksX4_carried_3 3 rfl rfl)
theorem dX4_carried_73 : decode cX4_carried 73 = .ok (.iload 4, 2) := dk_21 4 (dk_at dksX4_carried_3 4 rfl rfl)
theorem dX4_carried_75 : decode cX4_carried 75 = .ok (.iload 5, 2) := dk_21 5 (dk_at dksX4_carried_3 6 rfl rfl)
theorem dX4_carried_77 : decode cX4_carried 77 = .ok (.invokestatic 267, 3) := dk_184 1 11 (dk_at dksX4_carried_3 8 rfl rfl)
theorem dX4_carried_80 : decode cX4_carried 80 = .ok (.goto 4, 3) := dk_167 0 4 (dk_at dksX4_carried_3 11 rfl rfl)
theorem dX4_carried_83 : decode cX4_carried 83 = .ok (.iconst (-1), 1) := dk_2 (dk_at dksX4_carried_3 14 rfl rfl)
theorem dX4_carried_84 : decode cX4_carried 84 = .ok (.ireturn, 1) := dk_172 (dk_at dksX4_carried_3 15 rfl rfl)
abbrev cX4_behind : ByteArray := prog_9_method_109_code
def yX4_behind : MethodName := ⟨RX4, "behind", "(III)I"⟩
def dkwX4_behind_4 : List UInt8 := [2, 167, 0, 5, 21, 6, 172]
abbrev dktX4_behind_4 : List UInt8 := dkwX4_behind_4 ++ []
def dkwX4_behind_3 : List UInt8 := [4, 182, 0, 186, 29, 182, 0, 234, 54, 7, 21, 7, 16, 10, 159, 0, 14, 21, 6, 21, 7, 164, 0, 7]
abbrev dktX4_behind_3 : List UInt8 := dkwX4_behind_3 ++ dktX4_behind_4
def dkwX4_behind_2 : List UInt8 := [16, 8, 182, 0, 186, 29, 122, 4, 126, 4, 160, 0, 7, 3, 167, 0, 5, 21, 4, 54, 6, 42, 42, 28]
abbrev dktX4_behind_2 : List UInt8 := dkwX4_behind_2 ++ dktX4_behind_3
def dkwX4_behind_1 : List UInt8 := [182, 0, 186, 161, 0, 17, 21, 5, 16, 10, 159, 0, 12, 21, 4, 21, 5, 164, 0, 5, 2, 172, 42, 28]
abbrev dktX4_behind_1 : List UInt8 := dkwX4_behind_1 ++ dktX4_behind_2
def dkwX4_behind_0 : List UInt8 := [27, 29, 184, 1, 8, 54, 4, 42, 28, 8, 29, 96, 182, 0, 186, 54, 5, 21, 4, 42, 28, 5, 29, 96]
abbrev dktX4_behind_0 : List UInt8 := dkwX4_behind_0 ++ dktX4_behind_1
theorem dksX4_behind_0 : cX4_behind.data.toList.drop 0 = dktX4_behind_0 := by decide +kernel
theorem dksX4_behind_1 : cX4_behind.data.toList.drop 24 = dktX4_behind_1 := dk_seg dksX4_behind_0 24 rfl rfl
theorem dksX4_behind_2 : cX4_behind.data.toList.drop 48 = dktX4_behind_2 := dk_seg dksX4_behind_1 24 rfl rfl
theorem dksX4_behind_3 : cX4_behind.data.toList.drop 72 = dktX4_behind_3 := dk_seg dksX4_behind_2 24 rfl rfl
theorem dksX4_behind_4 : cX4_behind.data.toList.drop 96 = dktX4_behind_4 := dk_seg dksX4_behind_3 24 rfl rfl
theorem dX4_behind_0 : decode cX4_behind 0 = .ok (.iload_n 1, 1) := dk_27 (dk_at dksX4_behind_0 0 rfl rfl)
theorem dX4_behind_1 : decode cX4_behind 1 = .ok (.iload_n 3, 1) := dk_29 (dk_at dksX4_behind_0 1 rfl rfl)
theorem dX4_behind_2 : decode cX4_behind 2 = .ok (.invokestatic 264, 3) := dk_184 1 8 (dk_at dksX4_behind_0 2 rfl rfl)
theorem dX4_behind_5 : decode cX4_behind 5 = .ok (.istore 4, 2) := dk_54 4 (dk_at dksX4_behind_0 5 rfl rfl)
theorem dX4_behind_7 : decode cX4_behind 7 = .ok (.aload_n 0, 1) := dk_42 (dk_at dksX4_behind_0 7 rfl rfl)
theorem dX4_behind_8 : decode cX4_behind 8 = .ok (.iload_n 2, 1) := dk_28 (dk_at dksX4_behind_0 8 rfl rfl)
theorem dX4_behind_9 : decode cX4_behind 9 = .ok (.iconst 5, 1) := dk_8 (dk_at dksX4_behind_0 9 rfl rfl)
theorem dX4_behind_10 : decode cX4_behind 10 = .ok (.iload_n 3, 1) := dk_29 (dk_at dksX4_behind_0 10 rfl rfl)
theorem dX4_behind_11 : decode cX4_behind 11 = .ok (.iadd, 1) := dk_96 (dk_at dksX4_behind_0 11 rfl rfl)
theorem dX4_behind_12 : decode cX4_behind 12 = .ok (.invokevirtual 186, 3) := dk_182 0 186 (dk_at dksX4_behind_0 12 rfl rfl)
theorem dX4_behind_15 : decode cX4_behind 15 = .ok (.istore 5, 2) := dk_54 5 (dk_at dksX4_behind_0 15 rfl rfl)
theorem dX4_behind_17 : decode cX4_behind 17 = .ok (.iload 4, 2) := dk_21 4 (dk_at dksX4_behind_0 17 rfl rfl)
theorem dX4_behind_19 : decode cX4_behind 19 = .ok (.aload_n 0, 1) := dk_42 (dk_at dksX4_behind_0 19 rfl rfl)
theorem dX4_behind_20 : decode cX4_behind 20 = .ok (.iload_n 2, 1) := dk_28 (dk_at dksX4_behind_0 20 rfl rfl)
theorem dX4_behind_21 : decode cX4_behind 21 = .ok (.iconst 2, 1) := dk_5 (dk_at dksX4_behind_0 21 rfl rfl)
theorem dX4_behind_22 : decode cX4_behind 22 = .ok (.iload_n 3, 1) := dk_29 (dk_at dksX4_behind_0 22 rfl rfl)
theorem dX4_behind_23 : decode cX4_behind 23 = .ok (.iadd, 1) := dk_96 (dk_at dksX4_behind_0 23 rfl rfl)
theorem dX4_behind_24 : decode cX4_behind 24 = .ok (.invokevirtual 186, 3) := dk_182 0 186 (dk_at dksX4_behind_1 0 rfl rfl)
theorem dX4_behind_27 : decode cX4_behind 27 = .ok (.if_icmp .lt 17, 3) := dk_161 0 17 (dk_at dksX4_behind_1 3 rfl rfl)
theorem dX4_behind_30 : decode cX4_behind 30 = .ok (.iload 5, 2) := dk_21 5 (dk_at dksX4_behind_1 6 rfl rfl)
theorem dX4_behind_32 : decode cX4_behind 32 = .ok (.bipush 10, 2) := dk_16 10 (dk_at dksX4_behind_1 8 rfl rfl)
theorem dX4_behind_34 : decode cX4_behind 34 = .ok (.if_icmp .eq 12, 3) := dk_159 0 12 (dk_at dksX4_behind_1 10 rfl rfl)
theorem dX4_behind_37 : decode cX4_behind 37 = .ok (.iload 4, 2) := dk_21 4 (dk_at dksX4_behind_1 13 rfl rfl)
theorem dX4_behind_39 : decode cX4_behind 39 = .ok (.iload 5, 2) := dk_21 5 (dk_at dksX4_behind_1 15 rfl rfl)
theorem dX4_behind_41 : decode cX4_behind 41 = .ok (.if_icmp .le 5, 3) := dk_164 0 5 (dk_at dksX4_behind_1 17 rfl rfl)
theorem dX4_behind_44 : decode cX4_behind 44 = .ok (.iconst (-1), 1) := dk_2 (dk_at dksX4_behind_1 20 rfl rfl)
theorem dX4_behind_45 : decode cX4_behind 45 = .ok (.ireturn, 1) := dk_172 (dk_at dksX4_behind_1 21 rfl rfl)
theorem dX4_behind_46 : decode cX4_behind 46 = .ok (.aload_n 0, 1) := dk_42 (dk_at dksX4_behind_1 22 rfl rfl)
theorem dX4_behind_47 : decode cX4_behind 47 = .ok (.iload_n 2, 1) := dk_28 (dk_at dksX4_behind_1 23 rfl rfl)
theorem dX4_behind_48 : decode cX4_behind 48 = .ok (.bipush 8, 2) := dk_16 8 (dk_at dksX4_behind_2 0 rfl rfl)
theorem dX4_behind_50 : decode cX4_behind 50 = .ok (.invokevirtual 186, 3) := dk_182 0 186 (dk_at dksX4_behind_2 2 rfl rfl)
theorem dX4_behind_53 : decode cX4_behind 53 = .ok (.iload_n 3, 1) := dk_29 (dk_at dksX4_behind_2 5 rfl rfl)
theorem dX4_behind_54 : decode cX4_behind 54 = .ok (.ishr, 1) := dk_122 (dk_at dksX4_behind_2 6 rfl rfl)
theorem dX4_behind_55 : decode cX4_behind 55 = .ok (.iconst 1, 1) := dk_4 (dk_at dksX4_behind_2 7 rfl rfl)
theorem dX4_behind_56 : decode cX4_behind 56 = .ok (.iand, 1) := dk_126 (dk_at dksX4_behind_2 8 rfl rfl)
theorem dX4_behind_57 : decode cX4_behind 57 = .ok (.iconst 1, 1) := dk_4 (dk_at dksX4_behind_2 9 rfl rfl)
theorem dX4_behind_58 : decode cX4_behind 58 = .ok (.if_icmp .ne 7, 3) := dk_160 0 7 (dk_at dksX4_behind_2 10 rfl rfl)
theorem dX4_behind_61 : decode cX4_behind 61 = .ok (.iconst 0, 1) := dk_3 (dk_at dksX4_behind_2 13 rfl rfl)
theorem dX4_behind_62 : decode cX4_behind 62 = .ok (.goto 5, 3) := dk_167 0 5 (dk_at dksX4_behind_2 14 rfl rfl)
theorem dX4_behind_65 : decode cX4_behind 65 = .ok (.iload 4, 2) := dk_21 4 (dk_at dksX4_behind_2 17 rfl rfl)
theorem dX4_behind_67 : decode cX4_behind 67 = .ok (.istore 6, 2) := dk_54 6 (dk_at dksX4_behind_2 19 rfl rfl)
theorem dX4_behind_69 : decode cX4_behind 69 = .ok (.aload_n 0, 1) := dk_42 (dk_at dksX4_behind_2 21 rfl rfl)
theorem dX4_behind_70 : decode cX4_behind 70 = .ok (.aload_n 0, 1) := dk_42 (dk_at dksX4_behind_2 22 rfl rfl)
theorem dX4_behind_71 : decode cX4_behind 71 = .ok (.iload_n 2, 1) := dk_28 (dk_at dksX4_behind_2 23 rfl rfl)
theorem dX4_behind_72 : decode cX4_behind 72 = .ok (.iconst 1, 1) := dk_4 (dk_at dksX4_behind_3 0 rfl rfl)
theorem dX4_behind_73 : decode cX4_behind 73 = .ok (.invokevirtual 186, 3) := dk_182 0 186 (dk_at dksX4_behind_3 1 rfl rfl)
theorem dX4_behind_76 : decode cX4_behind 76 = .ok (.iload_n 3, 1) := dk_29 (dk_at dksX4_behind_3 4 rfl rfl)
theorem dX4_behind_77 : decode cX4_behind 77 = .ok (.invokevirtual 234, 3) := dk_182 0 234 (dk_at dksX4_behind_3 5 rfl rfl)
theorem dX4_behind_80 : decode cX4_behind 80 = .ok (.istore 7, 2) := dk_54 7 (dk_at dksX4_behind_3 8 rfl rfl)
theorem dX4_behind_82 : decode cX4_behind 82 = .ok (.iload 7, 2) := dk_21 7 (dk_at dksX4_behind_3 10 rfl rfl)
theorem dX4_behind_84 : decode cX4_behind 84 = .ok (.bipush 10, 2) := dk_16 10 (dk_at dksX4_behind_3 12 rfl rfl)
theorem dX4_behind_86 : decode cX4_behind 86 = .ok (.if_icmp .eq 14, 3) := dk_159 0 14 (dk_at dksX4_behind_3 14 rfl rfl)
theorem dX4_behind_89 : decode cX4_behind 89 = .ok (.iload 6, 2) := dk_21 6 (dk_at dksX4_behind_3 17 rfl rfl)
theorem dX4_behind_91 : decode cX4_behind 91 = .ok (.iload 7, 2) := dk_21 7 (dk_at dksX4_behind_3 19 rfl rfl)
theorem dX4_behind_93 : decode cX4_behind 93 = .ok (.if_icmp .le 7, 3) := dk_164 0 7 (dk_at dksX4_behind_3 21 rfl rfl)
theorem dX4_behind_96 : decode cX4_behind 96 = .ok (.iconst (-1), 1) := dk_2 (dk_at dksX4_behind_4 0 rfl rfl)
theorem dX4_behind_97 : decode cX4_behind 97 = .ok (.goto 5, 3) := dk_167 0 5 (dk_at dksX4_behind_4 1 rfl rfl)
theorem dX4_behind_100 : decode cX4_behind 100 = .ok (.iload 6, 2) := dk_21 6 (dk_at dksX4_behind_4 4 rfl rfl)
theorem dX4_behind_102 : decode cX4_behind 102 = .ok (.ireturn, 1) := dk_172 (dk_at dksX4_behind_4 6 rfl rfl)
abbrev cX4_clockAt : ByteArray := prog_9_method_107_code
def yX4_clockAt : MethodName := ⟨RX4, "clockAt", "(II)I"⟩
def dkwX4_clockAt_1 : List UInt8 := [16, 11, 112, 167, 0, 7, 26, 16, 11, 112, 172]
abbrev dktX4_clockAt_1 : List UInt8 := dkwX4_clockAt_1 ++ []
def dkwX4_clockAt_0 : List UInt8 := [27, 154, 0, 13, 26, 16, 121, 108, 16, 11, 112, 167, 0, 22, 27, 4, 160, 0, 13, 26, 16, 11, 108]
abbrev dktX4_clockAt_0 : List UInt8 := dkwX4_clockAt_0 ++ dktX4_clockAt_1
theorem dksX4_clockAt_0 : cX4_clockAt.data.toList.drop 0 = dktX4_clockAt_0 := by decide +kernel
theorem dksX4_clockAt_1 : cX4_clockAt.data.toList.drop 23 = dktX4_clockAt_1 := dk_seg dksX4_clockAt_0 23 rfl rfl
theorem dX4_clockAt_0 : decode cX4_clockAt 0 = .ok (.iload_n 1, 1) := dk_27 (dk_at dksX4_clockAt_0 0 rfl rfl)
theorem dX4_clockAt_1 : decode cX4_clockAt 1 = .ok (.ifCond .ne 13, 3) := dk_154 0 13 (dk_at dksX4_clockAt_0 1 rfl rfl)
theorem dX4_clockAt_4 : decode cX4_clockAt 4 = .ok (.iload_n 0, 1) := dk_26 (dk_at dksX4_clockAt_0 4 rfl rfl)
theorem dX4_clockAt_5 : decode cX4_clockAt 5 = .ok (.bipush 121, 2) := dk_16 121 (dk_at dksX4_clockAt_0 5 rfl rfl)
theorem dX4_clockAt_7 : decode cX4_clockAt 7 = .ok (.idiv, 1) := dk_108 (dk_at dksX4_clockAt_0 7 rfl rfl)
theorem dX4_clockAt_8 : decode cX4_clockAt 8 = .ok (.bipush 11, 2) := dk_16 11 (dk_at dksX4_clockAt_0 8 rfl rfl)
theorem dX4_clockAt_10 : decode cX4_clockAt 10 = .ok (.irem, 1) := dk_112 (dk_at dksX4_clockAt_0 10 rfl rfl)
theorem dX4_clockAt_11 : decode cX4_clockAt 11 = .ok (.goto 22, 3) := dk_167 0 22 (dk_at dksX4_clockAt_0 11 rfl rfl)
theorem dX4_clockAt_14 : decode cX4_clockAt 14 = .ok (.iload_n 1, 1) := dk_27 (dk_at dksX4_clockAt_0 14 rfl rfl)
theorem dX4_clockAt_15 : decode cX4_clockAt 15 = .ok (.iconst 1, 1) := dk_4 (dk_at dksX4_clockAt_0 15 rfl rfl)
theorem dX4_clockAt_16 : decode cX4_clockAt 16 = .ok (.if_icmp .ne 13, 3) := dk_160 0 13 (dk_at dksX4_clockAt_0 16 rfl rfl)
theorem dX4_clockAt_19 : decode cX4_clockAt 19 = .ok (.iload_n 0, 1) := dk_26 (dk_at dksX4_clockAt_0 19 rfl rfl)
theorem dX4_clockAt_20 : decode cX4_clockAt 20 = .ok (.bipush 11, 2) := dk_16 11 (dk_at dksX4_clockAt_0 20 rfl rfl)
theorem dX4_clockAt_22 : decode cX4_clockAt 22 = .ok (.idiv, 1) := dk_108 (dk_at dksX4_clockAt_0 22 rfl rfl)
theorem dX4_clockAt_23 : decode cX4_clockAt 23 = .ok (.bipush 11, 2) := dk_16 11 (dk_at dksX4_clockAt_1 0 rfl rfl)
theorem dX4_clockAt_25 : decode cX4_clockAt 25 = .ok (.irem, 1) := dk_112 (dk_at dksX4_clockAt_1 2 rfl rfl)
theorem dX4_clockAt_26 : decode cX4_clockAt 26 = .ok (.goto 7, 3) := dk_167 0 7 (dk_at dksX4_clockAt_1 3 rfl rfl)
theorem dX4_clockAt_29 : decode cX4_clockAt 29 = .ok (.iload_n 0, 1) := dk_26 (dk_at dksX4_clockAt_1 6 rfl rfl)
theorem dX4_clockAt_30 : decode cX4_clockAt 30 = .ok (.bipush 11, 2) := dk_16 11 (dk_at dksX4_clockAt_1 7 rfl rfl)
theorem dX4_clockAt_32 : decode cX4_clockAt 32 = .ok (.irem, 1) := dk_112 (dk_at dksX4_clockAt_1 9 rfl rfl)
theorem dX4_clockAt_33 : decode cX4_clockAt 33 = .ok (.ireturn, 1) := dk_172 (dk_at dksX4_clockAt_1 10 rfl rfl)
abbrev cX4_momentAt : ByteArray := prog_9_method_106_code
def yX4_momentAt : MethodName := ⟨RX4, "momentAt", "(IIII)I"⟩
def dkwX4_momentAt_0 : List UInt8 := [26, 16, 11, 104, 27, 96, 16, 11, 104, 28, 96, 16, 11, 104, 29, 96, 172]
abbrev dktX4_momentAt_0 : List UInt8 := dkwX4_momentAt_0 ++ []
theorem dksX4_momentAt_0 : cX4_momentAt.data.toList.drop 0 = dktX4_momentAt_0 := by decide +kernel
theorem dX4_momentAt_0 : decode cX4_momentAt 0 = .ok (.iload_n 0, 1) := dk_26 (dk_at dksX4_momentAt_0 0 rfl rfl)
theorem dX4_momentAt_1 : decode cX4_momentAt 1 = .ok (.bipush 11, 2) := dk_16 11 (dk_at dksX4_momentAt_0 1 rfl rfl)
theorem dX4_momentAt_3 : decode cX4_momentAt 3 = .ok (.imul, 1) := dk_104 (dk_at dksX4_momentAt_0 3 rfl rfl)
theorem dX4_momentAt_4 : decode cX4_momentAt 4 = .ok (.iload_n 1, 1) := dk_27 (dk_at dksX4_momentAt_0 4 rfl rfl)
theorem dX4_momentAt_5 : decode cX4_momentAt 5 = .ok (.iadd, 1) := dk_96 (dk_at dksX4_momentAt_0 5 rfl rfl)
theorem dX4_momentAt_6 : decode cX4_momentAt 6 = .ok (.bipush 11, 2) := dk_16 11 (dk_at dksX4_momentAt_0 6 rfl rfl)
theorem dX4_momentAt_8 : decode cX4_momentAt 8 = .ok (.imul, 1) := dk_104 (dk_at dksX4_momentAt_0 8 rfl rfl)
theorem dX4_momentAt_9 : decode cX4_momentAt 9 = .ok (.iload_n 2, 1) := dk_28 (dk_at dksX4_momentAt_0 9 rfl rfl)
theorem dX4_momentAt_10 : decode cX4_momentAt 10 = .ok (.iadd, 1) := dk_96 (dk_at dksX4_momentAt_0 10 rfl rfl)
theorem dX4_momentAt_11 : decode cX4_momentAt 11 = .ok (.bipush 11, 2) := dk_16 11 (dk_at dksX4_momentAt_0 11 rfl rfl)
theorem dX4_momentAt_13 : decode cX4_momentAt 13 = .ok (.imul, 1) := dk_104 (dk_at dksX4_momentAt_0 13 rfl rfl)
theorem dX4_momentAt_14 : decode cX4_momentAt 14 = .ok (.iload_n 3, 1) := dk_29 (dk_at dksX4_momentAt_0 14 rfl rfl)
theorem dX4_momentAt_15 : decode cX4_momentAt 15 = .ok (.iadd, 1) := dk_96 (dk_at dksX4_momentAt_0 15 rfl rfl)
theorem dX4_momentAt_16 : decode cX4_momentAt 16 = .ok (.ireturn, 1) := dk_172 (dk_at dksX4_momentAt_0 16 rfl rfl)
abbrev cX4_ticked : ByteArray := prog_9_method_108_code
def yX4_ticked : MethodName := ⟨RX4, "ticked", "(I)I"⟩
def dkwX4_ticked_5 : List UInt8 := [21, 6, 184, 1, 11, 167, 0, 4, 2, 172]
abbrev dktX4_ticked_5 : List UInt8 := dkwX4_ticked_5 ++ []
def dkwX4_ticked_4 : List UInt8 := [16, 10, 27, 5, 184, 1, 8, 4, 96, 184, 0, 72, 54, 6, 29, 153, 0, 16, 28, 21, 4, 21, 5]
abbrev dktX4_ticked_4 : List UInt8 := dkwX4_ticked_4 ++ dktX4_ticked_5
def dkwX4_ticked_3 : List UInt8 := [184, 1, 8, 4, 96, 184, 0, 72, 54, 4, 16, 10, 27, 4, 184, 1, 8, 4, 96, 184, 0, 72, 54, 5]
abbrev dktX4_ticked_3 : List UInt8 := dkwX4_ticked_3 ++ dktX4_ticked_4
def dkwX4_ticked_2 : List UInt8 := [182, 0, 234, 163, 0, 7, 4, 167, 0, 4, 3, 62, 132, 4, 1, 167, 255, 207, 16, 10, 27, 3]
abbrev dktX4_ticked_2 : List UInt8 := dkwX4_ticked_2 ++ dktX4_ticked_3
def dkwX4_ticked_1 : List UInt8 := [21, 4, 182, 0, 234, 16, 10, 159, 0, 21, 27, 21, 4, 184, 1, 8, 4, 96, 42, 28, 21, 4]
abbrev dktX4_ticked_1 : List UInt8 := dkwX4_ticked_1 ++ dktX4_ticked_2
def dkwX4_ticked_0 : List UInt8 := [27, 17, 5, 51, 108, 61, 4, 62, 3, 54, 4, 21, 4, 6, 162, 0, 49, 29, 153, 0, 37, 42, 28]
abbrev dktX4_ticked_0 : List UInt8 := dkwX4_ticked_0 ++ dktX4_ticked_1
theorem dksX4_ticked_0 : cX4_ticked.data.toList.drop 0 = dktX4_ticked_0 := by decide +kernel
theorem dksX4_ticked_1 : cX4_ticked.data.toList.drop 23 = dktX4_ticked_1 := dk_seg dksX4_ticked_0 23 rfl rfl
theorem dksX4_ticked_2 : cX4_ticked.data.toList.drop 45 = dktX4_ticked_2 := dk_seg dksX4_ticked_1 22 rfl rfl
theorem dksX4_ticked_3 : cX4_ticked.data.toList.drop 67 = dktX4_ticked_3 := dk_seg dksX4_ticked_2 22 rfl rfl
theorem dksX4_ticked_4 : cX4_ticked.data.toList.drop 91 = dktX4_ticked_4 := dk_seg dksX4_ticked_3 24 rfl rfl
theorem dksX4_ticked_5 : cX4_ticked.data.toList.drop 114 = dktX4_ticked_5 := dk_seg dksX4_ticked_4 23 rfl rfl
theorem dX4_ticked_0 : decode cX4_ticked 0 = .ok (.iload_n 1, 1) := dk_27 (dk_at dksX4_ticked_0 0 rfl rfl)
theorem dX4_ticked_1 : decode cX4_ticked 1 = .ok (.sipush 1331, 3) := dk_17 5 51 (dk_at dksX4_ticked_0 1 rfl rfl)
theorem dX4_ticked_4 : decode cX4_ticked 4 = .ok (.idiv, 1) := dk_108 (dk_at dksX4_ticked_0 4 rfl rfl)
theorem dX4_ticked_5 : decode cX4_ticked 5 = .ok (.istore_n 2, 1) := dk_61 (dk_at dksX4_ticked_0 5 rfl rfl)
theorem dX4_ticked_6 : decode cX4_ticked 6 = .ok (.iconst 1, 1) := dk_4 (dk_at dksX4_ticked_0 6 rfl rfl)
theorem dX4_ticked_7 : decode cX4_ticked 7 = .ok (.istore_n 3, 1) := dk_62 (dk_at dksX4_ticked_0 7 rfl rfl)
theorem dX4_ticked_8 : decode cX4_ticked 8 = .ok (.iconst 0, 1) := dk_3 (dk_at dksX4_ticked_0 8 rfl rfl)
theorem dX4_ticked_9 : decode cX4_ticked 9 = .ok (.istore 4, 2) := dk_54 4 (dk_at dksX4_ticked_0 9 rfl rfl)
theorem dX4_ticked_11 : decode cX4_ticked 11 = .ok (.iload 4, 2) := dk_21 4 (dk_at dksX4_ticked_0 11 rfl rfl)
theorem dX4_ticked_13 : decode cX4_ticked 13 = .ok (.iconst 3, 1) := dk_6 (dk_at dksX4_ticked_0 13 rfl rfl)
theorem dX4_ticked_14 : decode cX4_ticked 14 = .ok (.if_icmp .ge 49, 3) := dk_162 0 49 (dk_at dksX4_ticked_0 14 rfl rfl)
theorem dX4_ticked_17 : decode cX4_ticked 17 = .ok (.iload_n 3, 1) := dk_29 (dk_at dksX4_ticked_0 17 rfl rfl)
theorem dX4_ticked_18 : decode cX4_ticked 18 = .ok (.ifCond .eq 37, 3) := dk_153 0 37 (dk_at dksX4_ticked_0 18 rfl rfl)
theorem dX4_ticked_21 : decode cX4_ticked 21 = .ok (.aload_n 0, 1) := dk_42 (dk_at dksX4_ticked_0 21 rfl rfl)
theorem dX4_ticked_22 : decode cX4_ticked 22 = .ok (.iload_n 2, 1) := dk_28 (dk_at dksX4_ticked_0 22 rfl rfl)
theorem dX4_ticked_23 : decode cX4_ticked 23 = .ok (.iload 4, 2) := dk_21 4 (dk_at dksX4_ticked_1 0 rfl rfl)
theorem dX4_ticked_25 : decode cX4_ticked 25 = .ok (.invokevirtual 234, 3) := dk_182 0 234 (dk_at dksX4_ticked_1 2 rfl rfl)
theorem dX4_ticked_28 : decode cX4_ticked 28 = .ok (.bipush 10, 2) := dk_16 10 (dk_at dksX4_ticked_1 5 rfl rfl)
theorem dX4_ticked_30 : decode cX4_ticked 30 = .ok (.if_icmp .eq 21, 3) := dk_159 0 21 (dk_at dksX4_ticked_1 7 rfl rfl)
theorem dX4_ticked_33 : decode cX4_ticked 33 = .ok (.iload_n 1, 1) := dk_27 (dk_at dksX4_ticked_1 10 rfl rfl)
theorem dX4_ticked_34 : decode cX4_ticked 34 = .ok (.iload 4, 2) := dk_21 4 (dk_at dksX4_ticked_1 11 rfl rfl)
theorem dX4_ticked_36 : decode cX4_ticked 36 = .ok (.invokestatic 264, 3) := dk_184 1 8 (dk_at dksX4_ticked_1 13 rfl rfl)
theorem dX4_ticked_39 : decode cX4_ticked 39 = .ok (.iconst 1, 1) := dk_4 (dk_at dksX4_ticked_1 16 rfl rfl)
theorem dX4_ticked_40 : decode cX4_ticked 40 = .ok (.iadd, 1) := dk_96 (dk_at dksX4_ticked_1 17 rfl rfl)
theorem dX4_ticked_41 : decode cX4_ticked 41 = .ok (.aload_n 0, 1) := dk_42 (dk_at dksX4_ticked_1 18 rfl rfl)
theorem dX4_ticked_42 : decode cX4_ticked 42 = .ok (.iload_n 2, 1) := dk_28 (dk_at dksX4_ticked_1 19 rfl rfl)
theorem dX4_ticked_43 : decode cX4_ticked 43 = .ok (.iload 4, 2) := dk_21 4 (dk_at dksX4_ticked_1 20 rfl rfl)
theorem dX4_ticked_45 : decode cX4_ticked 45 = .ok (.invokevirtual 234, 3) := dk_182 0 234 (dk_at dksX4_ticked_2 0 rfl rfl)
theorem dX4_ticked_48 : decode cX4_ticked 48 = .ok (.if_icmp .gt 7, 3) := dk_163 0 7 (dk_at dksX4_ticked_2 3 rfl rfl)
theorem dX4_ticked_51 : decode cX4_ticked 51 = .ok (.iconst 1, 1) := dk_4 (dk_at dksX4_ticked_2 6 rfl rfl)
theorem dX4_ticked_52 : decode cX4_ticked 52 = .ok (.goto 4, 3) := dk_167 0 4 (dk_at dksX4_ticked_2 7 rfl rfl)
theorem dX4_ticked_55 : decode cX4_ticked 55 = .ok (.iconst 0, 1) := dk_3 (dk_at dksX4_ticked_2 10 rfl rfl)
theorem dX4_ticked_56 : decode cX4_ticked 56 = .ok (.istore_n 3, 1) := dk_62 (dk_at dksX4_ticked_2 11 rfl rfl)
theorem dX4_ticked_57 : decode cX4_ticked 57 = .ok (.iinc 4 1, 3) := dk_132 4 1 (dk_at dksX4_ticked_2 12 rfl rfl)
theorem dX4_ticked_60 : decode cX4_ticked 60 = .ok (.goto (-49), 3) := dk_167 255 207 (dk_at dksX4_ticked_2 15 rfl rfl)
theorem dX4_ticked_63 : decode cX4_ticked 63 = .ok (.bipush 10, 2) := dk_16 10 (dk_at dksX4_ticked_2 18 rfl rfl)
theorem dX4_ticked_65 : decode cX4_ticked 65 = .ok (.iload_n 1, 1) := dk_27 (dk_at dksX4_ticked_2 20 rfl rfl)
theorem dX4_ticked_66 : decode cX4_ticked 66 = .ok (.iconst 0, 1) := dk_3 (dk_at dksX4_ticked_2 21 rfl rfl)
theorem dX4_ticked_67 : decode cX4_ticked 67 = .ok (.invokestatic 264, 3) := dk_184 1 8 (dk_at dksX4_ticked_3 0 rfl rfl)
theorem dX4_ticked_70 : decode cX4_ticked 70 = .ok (.iconst 1, 1) := dk_4 (dk_at dksX4_ticked_3 3 rfl rfl)
theorem dX4_ticked_71 : decode cX4_ticked 71 = .ok (.iadd, 1) := dk_96 (dk_at dksX4_ticked_3 4 rfl rfl)
theorem dX4_ticked_72 : decode cX4_ticked 72 = .ok (.invokestatic 72, 3) := dk_184 0 72 (dk_at dksX4_ticked_3 5 rfl rfl)
theorem dX4_ticked_75 : decode cX4_ticked 75 = .ok (.istore 4, 2) := dk_54 4 (dk_at dksX4_ticked_3 8 rfl rfl)
theorem dX4_ticked_77 : decode cX4_ticked 77 = .ok (.bipush 10, 2) := dk_16 10 (dk_at dksX4_ticked_3 10 rfl rfl)
theorem dX4_ticked_79 : decode cX4_ticked 79 = .ok (.iload_n 1, 1) := dk_27 (dk_at dksX4_ticked_3 12 rfl rfl)
theorem dX4_ticked_80 : decode cX4_ticked 80 = .ok (.iconst 1, 1) := dk_4 (dk_at dksX4_ticked_3 13 rfl rfl)
theorem dX4_ticked_81 : decode cX4_ticked 81 = .ok (.invokestatic 264, 3) := dk_184 1 8 (dk_at dksX4_ticked_3 14 rfl rfl)
theorem dX4_ticked_84 : decode cX4_ticked 84 = .ok (.iconst 1, 1) := dk_4 (dk_at dksX4_ticked_3 17 rfl rfl)
theorem dX4_ticked_85 : decode cX4_ticked 85 = .ok (.iadd, 1) := dk_96 (dk_at dksX4_ticked_3 18 rfl rfl)
theorem dX4_ticked_86 : decode cX4_ticked 86 = .ok (.invokestatic 72, 3) := dk_184 0 72 (dk_at dksX4_ticked_3 19 rfl rfl)
theorem dX4_ticked_89 : decode cX4_ticked 89 = .ok (.istore 5, 2) := dk_54 5 (dk_at dksX4_ticked_3 22 rfl rfl)
theorem dX4_ticked_91 : decode cX4_ticked 91 = .ok (.bipush 10, 2) := dk_16 10 (dk_at dksX4_ticked_4 0 rfl rfl)
theorem dX4_ticked_93 : decode cX4_ticked 93 = .ok (.iload_n 1, 1) := dk_27 (dk_at dksX4_ticked_4 2 rfl rfl)
theorem dX4_ticked_94 : decode cX4_ticked 94 = .ok (.iconst 2, 1) := dk_5 (dk_at dksX4_ticked_4 3 rfl rfl)
theorem dX4_ticked_95 : decode cX4_ticked 95 = .ok (.invokestatic 264, 3) := dk_184 1 8 (dk_at dksX4_ticked_4 4 rfl rfl)
theorem dX4_ticked_98 : decode cX4_ticked 98 = .ok (.iconst 1, 1) := dk_4 (dk_at dksX4_ticked_4 7 rfl rfl)
theorem dX4_ticked_99 : decode cX4_ticked 99 = .ok (.iadd, 1) := dk_96 (dk_at dksX4_ticked_4 8 rfl rfl)
theorem dX4_ticked_100 : decode cX4_ticked 100 = .ok (.invokestatic 72, 3) := dk_184 0 72 (dk_at dksX4_ticked_4 9 rfl rfl)
theorem dX4_ticked_103 : decode cX4_ticked 103 = .ok (.istore 6, 2) := dk_54 6 (dk_at dksX4_ticked_4 12 rfl rfl)
theorem dX4_ticked_105 : decode cX4_ticked 105 = .ok (.iload_n 3, 1) := dk_29 (dk_at dksX4_ticked_4 14 rfl rfl)
theorem dX4_ticked_106 : decode cX4_ticked 106 = .ok (.ifCond .eq 16, 3) := dk_153 0 16 (dk_at dksX4_ticked_4 15 rfl rfl)
theorem dX4_ticked_109 : decode cX4_ticked 109 = .ok (.iload_n 2, 1) := dk_28 (dk_at dksX4_ticked_4 18 rfl rfl)
theorem dX4_ticked_110 : decode cX4_ticked 110 = .ok (.iload 4, 2) := dk_21 4 (dk_at dksX4_ticked_4 19 rfl rfl)
theorem dX4_ticked_112 : decode cX4_ticked 112 = .ok (.iload 5, 2) := dk_21 5 (dk_at dksX4_ticked_4 21 rfl rfl)
theorem dX4_ticked_114 : decode cX4_ticked 114 = .ok (.iload 6, 2) := dk_21 6 (dk_at dksX4_ticked_5 0 rfl rfl)
theorem dX4_ticked_116 : decode cX4_ticked 116 = .ok (.invokestatic 267, 3) := dk_184 1 11 (dk_at dksX4_ticked_5 2 rfl rfl)
theorem dX4_ticked_119 : decode cX4_ticked 119 = .ok (.goto 4, 3) := dk_167 0 4 (dk_at dksX4_ticked_5 5 rfl rfl)
theorem dX4_ticked_122 : decode cX4_ticked 122 = .ok (.iconst (-1), 1) := dk_2 (dk_at dksX4_ticked_5 8 rfl rfl)
theorem dX4_ticked_123 : decode cX4_ticked 123 = .ok (.ireturn, 1) := dk_172 (dk_at dksX4_ticked_5 9 rfl rfl)
abbrev cX4_fewestTicks : ByteArray := prog_9_method_114_code
def yX4_fewestTicks : MethodName := ⟨RX4, "fewestTicks", "(I)I"⟩
def dkwX4_fewestTicks_3 : List UInt8 := [28, 18, 67, 162, 0, 7, 28, 167, 0, 8, 42, 5, 182, 0, 60, 172]
abbrev dktX4_fewestTicks_3 : List UInt8 := dkwX4_fewestTicks_3 ++ []
def dkwX4_fewestTicks_2 : List UInt8 := [180, 0, 40, 42, 180, 0, 43, 29, 46, 46, 184, 0, 72, 167, 0, 4, 28, 61, 132, 3, 1, 167, 255, 211]
abbrev dktX4_fewestTicks_2 : List UInt8 := dkwX4_fewestTicks_2 ++ dktX4_fewestTicks_3
def dkwX4_fewestTicks_1 : List UInt8 := [180, 1, 18, 162, 0, 43, 42, 180, 0, 43, 29, 46, 17, 5, 51, 108, 27, 160, 0, 21, 28, 42]
abbrev dktX4_fewestTicks_1 : List UInt8 := dkwX4_fewestTicks_1 ++ dktX4_fewestTicks_2
def dkwX4_fewestTicks_0 : List UInt8 := [42, 27, 184, 0, 176, 182, 0, 189, 154, 0, 5, 3, 172, 42, 182, 1, 30, 18, 67, 61, 3, 62, 29, 42]
abbrev dktX4_fewestTicks_0 : List UInt8 := dkwX4_fewestTicks_0 ++ dktX4_fewestTicks_1
theorem dksX4_fewestTicks_0 : cX4_fewestTicks.data.toList.drop 0 = dktX4_fewestTicks_0 := by decide +kernel
theorem dksX4_fewestTicks_1 : cX4_fewestTicks.data.toList.drop 24 = dktX4_fewestTicks_1 := dk_seg dksX4_fewestTicks_0 24 rfl rfl
theorem dksX4_fewestTicks_2 : cX4_fewestTicks.data.toList.drop 46 = dktX4_fewestTicks_2 := dk_seg dksX4_fewestTicks_1 22 rfl rfl
theorem dksX4_fewestTicks_3 : cX4_fewestTicks.data.toList.drop 70 = dktX4_fewestTicks_3 := dk_seg dksX4_fewestTicks_2 24 rfl rfl
theorem dX4_fewestTicks_0 : decode cX4_fewestTicks 0 = .ok (.aload_n 0, 1) := dk_42 (dk_at dksX4_fewestTicks_0 0 rfl rfl)
theorem dX4_fewestTicks_1 : decode cX4_fewestTicks 1 = .ok (.iload_n 1, 1) := dk_27 (dk_at dksX4_fewestTicks_0 1 rfl rfl)
theorem dX4_fewestTicks_2 : decode cX4_fewestTicks 2 = .ok (.invokestatic 176, 3) := dk_184 0 176 (dk_at dksX4_fewestTicks_0 2 rfl rfl)
theorem dX4_fewestTicks_5 : decode cX4_fewestTicks 5 = .ok (.invokevirtual 189, 3) := dk_182 0 189 (dk_at dksX4_fewestTicks_0 5 rfl rfl)
theorem dX4_fewestTicks_8 : decode cX4_fewestTicks 8 = .ok (.ifCond .ne 5, 3) := dk_154 0 5 (dk_at dksX4_fewestTicks_0 8 rfl rfl)
theorem dX4_fewestTicks_11 : decode cX4_fewestTicks 11 = .ok (.iconst 0, 1) := dk_3 (dk_at dksX4_fewestTicks_0 11 rfl rfl)
theorem dX4_fewestTicks_12 : decode cX4_fewestTicks 12 = .ok (.ireturn, 1) := dk_172 (dk_at dksX4_fewestTicks_0 12 rfl rfl)
theorem dX4_fewestTicks_13 : decode cX4_fewestTicks 13 = .ok (.aload_n 0, 1) := dk_42 (dk_at dksX4_fewestTicks_0 13 rfl rfl)
theorem dX4_fewestTicks_14 : decode cX4_fewestTicks 14 = .ok (.invokevirtual 286, 3) := dk_182 1 30 (dk_at dksX4_fewestTicks_0 14 rfl rfl)
theorem dX4_fewestTicks_17 : decode cX4_fewestTicks 17 = .ok (.ldc 67, 2) := dk_18 67 (dk_at dksX4_fewestTicks_0 17 rfl rfl)
theorem dX4_fewestTicks_19 : decode cX4_fewestTicks 19 = .ok (.istore_n 2, 1) := dk_61 (dk_at dksX4_fewestTicks_0 19 rfl rfl)
theorem dX4_fewestTicks_20 : decode cX4_fewestTicks 20 = .ok (.iconst 0, 1) := dk_3 (dk_at dksX4_fewestTicks_0 20 rfl rfl)
theorem dX4_fewestTicks_21 : decode cX4_fewestTicks 21 = .ok (.istore_n 3, 1) := dk_62 (dk_at dksX4_fewestTicks_0 21 rfl rfl)
theorem dX4_fewestTicks_22 : decode cX4_fewestTicks 22 = .ok (.iload_n 3, 1) := dk_29 (dk_at dksX4_fewestTicks_0 22 rfl rfl)
theorem dX4_fewestTicks_23 : decode cX4_fewestTicks 23 = .ok (.aload_n 0, 1) := dk_42 (dk_at dksX4_fewestTicks_0 23 rfl rfl)
theorem dX4_fewestTicks_24 : decode cX4_fewestTicks 24 = .ok (.getfield 274, 3) := dk_180 1 18 (dk_at dksX4_fewestTicks_1 0 rfl rfl)
theorem dX4_fewestTicks_27 : decode cX4_fewestTicks 27 = .ok (.if_icmp .ge 43, 3) := dk_162 0 43 (dk_at dksX4_fewestTicks_1 3 rfl rfl)
theorem dX4_fewestTicks_30 : decode cX4_fewestTicks 30 = .ok (.aload_n 0, 1) := dk_42 (dk_at dksX4_fewestTicks_1 6 rfl rfl)
theorem dX4_fewestTicks_31 : decode cX4_fewestTicks 31 = .ok (.getfield 43, 3) := dk_180 0 43 (dk_at dksX4_fewestTicks_1 7 rfl rfl)
theorem dX4_fewestTicks_34 : decode cX4_fewestTicks 34 = .ok (.iload_n 3, 1) := dk_29 (dk_at dksX4_fewestTicks_1 10 rfl rfl)
theorem dX4_fewestTicks_35 : decode cX4_fewestTicks 35 = .ok (.iaload, 1) := dk_46 (dk_at dksX4_fewestTicks_1 11 rfl rfl)
theorem dX4_fewestTicks_36 : decode cX4_fewestTicks 36 = .ok (.sipush 1331, 3) := dk_17 5 51 (dk_at dksX4_fewestTicks_1 12 rfl rfl)
theorem dX4_fewestTicks_39 : decode cX4_fewestTicks 39 = .ok (.idiv, 1) := dk_108 (dk_at dksX4_fewestTicks_1 15 rfl rfl)
theorem dX4_fewestTicks_40 : decode cX4_fewestTicks 40 = .ok (.iload_n 1, 1) := dk_27 (dk_at dksX4_fewestTicks_1 16 rfl rfl)
theorem dX4_fewestTicks_41 : decode cX4_fewestTicks 41 = .ok (.if_icmp .ne 21, 3) := dk_160 0 21 (dk_at dksX4_fewestTicks_1 17 rfl rfl)
theorem dX4_fewestTicks_44 : decode cX4_fewestTicks 44 = .ok (.iload_n 2, 1) := dk_28 (dk_at dksX4_fewestTicks_1 20 rfl rfl)
theorem dX4_fewestTicks_45 : decode cX4_fewestTicks 45 = .ok (.aload_n 0, 1) := dk_42 (dk_at dksX4_fewestTicks_1 21 rfl rfl)
theorem dX4_fewestTicks_46 : decode cX4_fewestTicks 46 = .ok (.getfield 40, 3) := dk_180 0 40 (dk_at dksX4_fewestTicks_2 0 rfl rfl)
theorem dX4_fewestTicks_49 : decode cX4_fewestTicks 49 = .ok (.aload_n 0, 1) := dk_42 (dk_at dksX4_fewestTicks_2 3 rfl rfl)
theorem dX4_fewestTicks_50 : decode cX4_fewestTicks 50 = .ok (.getfield 43, 3) := dk_180 0 43 (dk_at dksX4_fewestTicks_2 4 rfl rfl)
theorem dX4_fewestTicks_53 : decode cX4_fewestTicks 53 = .ok (.iload_n 3, 1) := dk_29 (dk_at dksX4_fewestTicks_2 7 rfl rfl)
theorem dX4_fewestTicks_54 : decode cX4_fewestTicks 54 = .ok (.iaload, 1) := dk_46 (dk_at dksX4_fewestTicks_2 8 rfl rfl)
theorem dX4_fewestTicks_55 : decode cX4_fewestTicks 55 = .ok (.iaload, 1) := dk_46 (dk_at dksX4_fewestTicks_2 9 rfl rfl)
theorem dX4_fewestTicks_56 : decode cX4_fewestTicks 56 = .ok (.invokestatic 72, 3) := dk_184 0 72 (dk_at dksX4_fewestTicks_2 10 rfl rfl)
theorem dX4_fewestTicks_59 : decode cX4_fewestTicks 59 = .ok (.goto 4, 3) := dk_167 0 4 (dk_at dksX4_fewestTicks_2 13 rfl rfl)
theorem dX4_fewestTicks_62 : decode cX4_fewestTicks 62 = .ok (.iload_n 2, 1) := dk_28 (dk_at dksX4_fewestTicks_2 16 rfl rfl)
theorem dX4_fewestTicks_63 : decode cX4_fewestTicks 63 = .ok (.istore_n 2, 1) := dk_61 (dk_at dksX4_fewestTicks_2 17 rfl rfl)
theorem dX4_fewestTicks_64 : decode cX4_fewestTicks 64 = .ok (.iinc 3 1, 3) := dk_132 3 1 (dk_at dksX4_fewestTicks_2 18 rfl rfl)
theorem dX4_fewestTicks_67 : decode cX4_fewestTicks 67 = .ok (.goto (-45), 3) := dk_167 255 211 (dk_at dksX4_fewestTicks_2 21 rfl rfl)
theorem dX4_fewestTicks_70 : decode cX4_fewestTicks 70 = .ok (.iload_n 2, 1) := dk_28 (dk_at dksX4_fewestTicks_3 0 rfl rfl)
theorem dX4_fewestTicks_71 : decode cX4_fewestTicks 71 = .ok (.ldc 67, 2) := dk_18 67 (dk_at dksX4_fewestTicks_3 1 rfl rfl)
theorem dX4_fewestTicks_73 : decode cX4_fewestTicks 73 = .ok (.if_icmp .ge 7, 3) := dk_162 0 7 (dk_at dksX4_fewestTicks_3 3 rfl rfl)
theorem dX4_fewestTicks_76 : decode cX4_fewestTicks 76 = .ok (.iload_n 2, 1) := dk_28 (dk_at dksX4_fewestTicks_3 6 rfl rfl)
theorem dX4_fewestTicks_77 : decode cX4_fewestTicks 77 = .ok (.goto 8, 3) := dk_167 0 8 (dk_at dksX4_fewestTicks_3 7 rfl rfl)
theorem dX4_fewestTicks_80 : decode cX4_fewestTicks 80 = .ok (.aload_n 0, 1) := dk_42 (dk_at dksX4_fewestTicks_3 10 rfl rfl)
theorem dX4_fewestTicks_81 : decode cX4_fewestTicks 81 = .ok (.iconst 2, 1) := dk_5 (dk_at dksX4_fewestTicks_3 11 rfl rfl)
theorem dX4_fewestTicks_82 : decode cX4_fewestTicks 82 = .ok (.invokevirtual 60, 3) := dk_182 0 60 (dk_at dksX4_fewestTicks_3 12 rfl rfl)
theorem dX4_fewestTicks_85 : decode cX4_fewestTicks 85 = .ok (.ireturn, 1) := dk_172 (dk_at dksX4_fewestTicks_3 15 rfl rfl)
abbrev cX4_stuckIn : ByteArray := prog_9_method_116_code
def yX4_stuckIn : MethodName := ⟨RX4, "stuckIn", "()I"⟩
def dkwX4_stuckIn_3 : List UInt8 := [167, 0, 4, 3, 128, 60, 132, 2, 1, 167, 255, 190, 27, 172]
abbrev dktX4_stuckIn_3 : List UInt8 := dkwX4_stuckIn_3 ++ []
def dkwX4_stuckIn_2 : List UInt8 := [4, 167, 0, 4, 3, 62, 27, 29, 153, 0, 18, 4, 42, 180, 0, 43, 28, 46, 17, 5, 51, 108, 120]
abbrev dktX4_stuckIn_2 : List UInt8 := dkwX4_stuckIn_2 ++ dktX4_stuckIn_3
def dkwX4_stuckIn_1 : List UInt8 := [180, 0, 43, 28, 46, 182, 1, 27, 156, 0, 20, 42, 42, 180, 0, 43, 28, 46, 182, 1, 33, 154, 0, 7]
abbrev dktX4_stuckIn_1 : List UInt8 := dkwX4_stuckIn_1 ++ dktX4_stuckIn_2
def dkwX4_stuckIn_0 : List UInt8 := [42, 3, 181, 0, 49, 42, 182, 1, 30, 3, 60, 3, 61, 28, 42, 180, 1, 18, 162, 0, 64, 42, 42]
abbrev dktX4_stuckIn_0 : List UInt8 := dkwX4_stuckIn_0 ++ dktX4_stuckIn_1
theorem dksX4_stuckIn_0 : cX4_stuckIn.data.toList.drop 0 = dktX4_stuckIn_0 := by decide +kernel
theorem dksX4_stuckIn_1 : cX4_stuckIn.data.toList.drop 23 = dktX4_stuckIn_1 := dk_seg dksX4_stuckIn_0 23 rfl rfl
theorem dksX4_stuckIn_2 : cX4_stuckIn.data.toList.drop 47 = dktX4_stuckIn_2 := dk_seg dksX4_stuckIn_1 24 rfl rfl
theorem dksX4_stuckIn_3 : cX4_stuckIn.data.toList.drop 70 = dktX4_stuckIn_3 := dk_seg dksX4_stuckIn_2 23 rfl rfl
theorem dX4_stuckIn_0 : decode cX4_stuckIn 0 = .ok (.aload_n 0, 1) := dk_42 (dk_at dksX4_stuckIn_0 0 rfl rfl)
theorem dX4_stuckIn_1 : decode cX4_stuckIn 1 = .ok (.iconst 0, 1) := dk_3 (dk_at dksX4_stuckIn_0 1 rfl rfl)
theorem dX4_stuckIn_2 : decode cX4_stuckIn 2 = .ok (.putfield 49, 3) := dk_181 0 49 (dk_at dksX4_stuckIn_0 2 rfl rfl)
theorem dX4_stuckIn_5 : decode cX4_stuckIn 5 = .ok (.aload_n 0, 1) := dk_42 (dk_at dksX4_stuckIn_0 5 rfl rfl)
theorem dX4_stuckIn_6 : decode cX4_stuckIn 6 = .ok (.invokevirtual 286, 3) := dk_182 1 30 (dk_at dksX4_stuckIn_0 6 rfl rfl)
theorem dX4_stuckIn_9 : decode cX4_stuckIn 9 = .ok (.iconst 0, 1) := dk_3 (dk_at dksX4_stuckIn_0 9 rfl rfl)
theorem dX4_stuckIn_10 : decode cX4_stuckIn 10 = .ok (.istore_n 1, 1) := dk_60 (dk_at dksX4_stuckIn_0 10 rfl rfl)
theorem dX4_stuckIn_11 : decode cX4_stuckIn 11 = .ok (.iconst 0, 1) := dk_3 (dk_at dksX4_stuckIn_0 11 rfl rfl)
theorem dX4_stuckIn_12 : decode cX4_stuckIn 12 = .ok (.istore_n 2, 1) := dk_61 (dk_at dksX4_stuckIn_0 12 rfl rfl)
theorem dX4_stuckIn_13 : decode cX4_stuckIn 13 = .ok (.iload_n 2, 1) := dk_28 (dk_at dksX4_stuckIn_0 13 rfl rfl)
theorem dX4_stuckIn_14 : decode cX4_stuckIn 14 = .ok (.aload_n 0, 1) := dk_42 (dk_at dksX4_stuckIn_0 14 rfl rfl)
theorem dX4_stuckIn_15 : decode cX4_stuckIn 15 = .ok (.getfield 274, 3) := dk_180 1 18 (dk_at dksX4_stuckIn_0 15 rfl rfl)
theorem dX4_stuckIn_18 : decode cX4_stuckIn 18 = .ok (.if_icmp .ge 64, 3) := dk_162 0 64 (dk_at dksX4_stuckIn_0 18 rfl rfl)
theorem dX4_stuckIn_21 : decode cX4_stuckIn 21 = .ok (.aload_n 0, 1) := dk_42 (dk_at dksX4_stuckIn_0 21 rfl rfl)
theorem dX4_stuckIn_22 : decode cX4_stuckIn 22 = .ok (.aload_n 0, 1) := dk_42 (dk_at dksX4_stuckIn_0 22 rfl rfl)
theorem dX4_stuckIn_23 : decode cX4_stuckIn 23 = .ok (.getfield 43, 3) := dk_180 0 43 (dk_at dksX4_stuckIn_1 0 rfl rfl)
theorem dX4_stuckIn_26 : decode cX4_stuckIn 26 = .ok (.iload_n 2, 1) := dk_28 (dk_at dksX4_stuckIn_1 3 rfl rfl)
theorem dX4_stuckIn_27 : decode cX4_stuckIn 27 = .ok (.iaload, 1) := dk_46 (dk_at dksX4_stuckIn_1 4 rfl rfl)
theorem dX4_stuckIn_28 : decode cX4_stuckIn 28 = .ok (.invokevirtual 283, 3) := dk_182 1 27 (dk_at dksX4_stuckIn_1 5 rfl rfl)
theorem dX4_stuckIn_31 : decode cX4_stuckIn 31 = .ok (.ifCond .ge 20, 3) := dk_156 0 20 (dk_at dksX4_stuckIn_1 8 rfl rfl)
theorem dX4_stuckIn_34 : decode cX4_stuckIn 34 = .ok (.aload_n 0, 1) := dk_42 (dk_at dksX4_stuckIn_1 11 rfl rfl)
theorem dX4_stuckIn_35 : decode cX4_stuckIn 35 = .ok (.aload_n 0, 1) := dk_42 (dk_at dksX4_stuckIn_1 12 rfl rfl)
theorem dX4_stuckIn_36 : decode cX4_stuckIn 36 = .ok (.getfield 43, 3) := dk_180 0 43 (dk_at dksX4_stuckIn_1 13 rfl rfl)
theorem dX4_stuckIn_39 : decode cX4_stuckIn 39 = .ok (.iload_n 2, 1) := dk_28 (dk_at dksX4_stuckIn_1 16 rfl rfl)
theorem dX4_stuckIn_40 : decode cX4_stuckIn 40 = .ok (.iaload, 1) := dk_46 (dk_at dksX4_stuckIn_1 17 rfl rfl)
theorem dX4_stuckIn_41 : decode cX4_stuckIn 41 = .ok (.invokevirtual 289, 3) := dk_182 1 33 (dk_at dksX4_stuckIn_1 18 rfl rfl)
theorem dX4_stuckIn_44 : decode cX4_stuckIn 44 = .ok (.ifCond .ne 7, 3) := dk_154 0 7 (dk_at dksX4_stuckIn_1 21 rfl rfl)
theorem dX4_stuckIn_47 : decode cX4_stuckIn 47 = .ok (.iconst 1, 1) := dk_4 (dk_at dksX4_stuckIn_2 0 rfl rfl)
theorem dX4_stuckIn_48 : decode cX4_stuckIn 48 = .ok (.goto 4, 3) := dk_167 0 4 (dk_at dksX4_stuckIn_2 1 rfl rfl)
theorem dX4_stuckIn_51 : decode cX4_stuckIn 51 = .ok (.iconst 0, 1) := dk_3 (dk_at dksX4_stuckIn_2 4 rfl rfl)
theorem dX4_stuckIn_52 : decode cX4_stuckIn 52 = .ok (.istore_n 3, 1) := dk_62 (dk_at dksX4_stuckIn_2 5 rfl rfl)
theorem dX4_stuckIn_53 : decode cX4_stuckIn 53 = .ok (.iload_n 1, 1) := dk_27 (dk_at dksX4_stuckIn_2 6 rfl rfl)
theorem dX4_stuckIn_54 : decode cX4_stuckIn 54 = .ok (.iload_n 3, 1) := dk_29 (dk_at dksX4_stuckIn_2 7 rfl rfl)
theorem dX4_stuckIn_55 : decode cX4_stuckIn 55 = .ok (.ifCond .eq 18, 3) := dk_153 0 18 (dk_at dksX4_stuckIn_2 8 rfl rfl)
theorem dX4_stuckIn_58 : decode cX4_stuckIn 58 = .ok (.iconst 1, 1) := dk_4 (dk_at dksX4_stuckIn_2 11 rfl rfl)
theorem dX4_stuckIn_59 : decode cX4_stuckIn 59 = .ok (.aload_n 0, 1) := dk_42 (dk_at dksX4_stuckIn_2 12 rfl rfl)
theorem dX4_stuckIn_60 : decode cX4_stuckIn 60 = .ok (.getfield 43, 3) := dk_180 0 43 (dk_at dksX4_stuckIn_2 13 rfl rfl)
theorem dX4_stuckIn_63 : decode cX4_stuckIn 63 = .ok (.iload_n 2, 1) := dk_28 (dk_at dksX4_stuckIn_2 16 rfl rfl)
theorem dX4_stuckIn_64 : decode cX4_stuckIn 64 = .ok (.iaload, 1) := dk_46 (dk_at dksX4_stuckIn_2 17 rfl rfl)
theorem dX4_stuckIn_65 : decode cX4_stuckIn 65 = .ok (.sipush 1331, 3) := dk_17 5 51 (dk_at dksX4_stuckIn_2 18 rfl rfl)
theorem dX4_stuckIn_68 : decode cX4_stuckIn 68 = .ok (.idiv, 1) := dk_108 (dk_at dksX4_stuckIn_2 21 rfl rfl)
theorem dX4_stuckIn_69 : decode cX4_stuckIn 69 = .ok (.ishl, 1) := dk_120 (dk_at dksX4_stuckIn_2 22 rfl rfl)
theorem dX4_stuckIn_70 : decode cX4_stuckIn 70 = .ok (.goto 4, 3) := dk_167 0 4 (dk_at dksX4_stuckIn_3 0 rfl rfl)
theorem dX4_stuckIn_73 : decode cX4_stuckIn 73 = .ok (.iconst 0, 1) := dk_3 (dk_at dksX4_stuckIn_3 3 rfl rfl)
theorem dX4_stuckIn_74 : decode cX4_stuckIn 74 = .ok (.ior, 1) := dk_128 (dk_at dksX4_stuckIn_3 4 rfl rfl)
theorem dX4_stuckIn_75 : decode cX4_stuckIn 75 = .ok (.istore_n 1, 1) := dk_60 (dk_at dksX4_stuckIn_3 5 rfl rfl)
theorem dX4_stuckIn_76 : decode cX4_stuckIn 76 = .ok (.iinc 2 1, 3) := dk_132 2 1 (dk_at dksX4_stuckIn_3 6 rfl rfl)
theorem dX4_stuckIn_79 : decode cX4_stuckIn 79 = .ok (.goto (-66), 3) := dk_167 255 190 (dk_at dksX4_stuckIn_3 9 rfl rfl)
theorem dX4_stuckIn_82 : decode cX4_stuckIn 82 = .ok (.iload_n 1, 1) := dk_27 (dk_at dksX4_stuckIn_3 12 rfl rfl)
theorem dX4_stuckIn_83 : decode cX4_stuckIn 83 = .ok (.ireturn, 1) := dk_172 (dk_at dksX4_stuckIn_3 13 rfl rfl)
abbrev cX4_linesAt : ByteArray := prog_9_method_115_code
def yX4_linesAt : MethodName := ⟨RX4, "linesAt", "(I)I"⟩
def dkwX4_linesAt_1 : List UInt8 := [155, 0, 9, 4, 29, 120, 167, 0, 4, 3, 128, 61, 132, 3, 1, 167, 255, 223, 28, 172]
abbrev dktX4_linesAt_1 : List UInt8 := dkwX4_linesAt_1 ++ []
def dkwX4_linesAt_0 : List UInt8 := [3, 61, 3, 62, 29, 42, 180, 0, 7, 16, 102, 46, 162, 0, 28, 28, 42, 27, 29, 182, 1, 24]
abbrev dktX4_linesAt_0 : List UInt8 := dkwX4_linesAt_0 ++ dktX4_linesAt_1
theorem dksX4_linesAt_0 : cX4_linesAt.data.toList.drop 0 = dktX4_linesAt_0 := by decide +kernel
theorem dksX4_linesAt_1 : cX4_linesAt.data.toList.drop 22 = dktX4_linesAt_1 := dk_seg dksX4_linesAt_0 22 rfl rfl
theorem dX4_linesAt_0 : decode cX4_linesAt 0 = .ok (.iconst 0, 1) := dk_3 (dk_at dksX4_linesAt_0 0 rfl rfl)
theorem dX4_linesAt_1 : decode cX4_linesAt 1 = .ok (.istore_n 2, 1) := dk_61 (dk_at dksX4_linesAt_0 1 rfl rfl)
theorem dX4_linesAt_2 : decode cX4_linesAt 2 = .ok (.iconst 0, 1) := dk_3 (dk_at dksX4_linesAt_0 2 rfl rfl)
theorem dX4_linesAt_3 : decode cX4_linesAt 3 = .ok (.istore_n 3, 1) := dk_62 (dk_at dksX4_linesAt_0 3 rfl rfl)
theorem dX4_linesAt_4 : decode cX4_linesAt 4 = .ok (.iload_n 3, 1) := dk_29 (dk_at dksX4_linesAt_0 4 rfl rfl)
theorem dX4_linesAt_5 : decode cX4_linesAt 5 = .ok (.aload_n 0, 1) := dk_42 (dk_at dksX4_linesAt_0 5 rfl rfl)
theorem dX4_linesAt_6 : decode cX4_linesAt 6 = .ok (.getfield 7, 3) := dk_180 0 7 (dk_at dksX4_linesAt_0 6 rfl rfl)
theorem dX4_linesAt_9 : decode cX4_linesAt 9 = .ok (.bipush 102, 2) := dk_16 102 (dk_at dksX4_linesAt_0 9 rfl rfl)
theorem dX4_linesAt_11 : decode cX4_linesAt 11 = .ok (.iaload, 1) := dk_46 (dk_at dksX4_linesAt_0 11 rfl rfl)
theorem dX4_linesAt_12 : decode cX4_linesAt 12 = .ok (.if_icmp .ge 28, 3) := dk_162 0 28 (dk_at dksX4_linesAt_0 12 rfl rfl)
theorem dX4_linesAt_15 : decode cX4_linesAt 15 = .ok (.iload_n 2, 1) := dk_28 (dk_at dksX4_linesAt_0 15 rfl rfl)
theorem dX4_linesAt_16 : decode cX4_linesAt 16 = .ok (.aload_n 0, 1) := dk_42 (dk_at dksX4_linesAt_0 16 rfl rfl)
theorem dX4_linesAt_17 : decode cX4_linesAt 17 = .ok (.iload_n 1, 1) := dk_27 (dk_at dksX4_linesAt_0 17 rfl rfl)
theorem dX4_linesAt_18 : decode cX4_linesAt 18 = .ok (.iload_n 3, 1) := dk_29 (dk_at dksX4_linesAt_0 18 rfl rfl)
theorem dX4_linesAt_19 : decode cX4_linesAt 19 = .ok (.invokevirtual 280, 3) := dk_182 1 24 (dk_at dksX4_linesAt_0 19 rfl rfl)
theorem dX4_linesAt_22 : decode cX4_linesAt 22 = .ok (.ifCond .lt 9, 3) := dk_155 0 9 (dk_at dksX4_linesAt_1 0 rfl rfl)
theorem dX4_linesAt_25 : decode cX4_linesAt 25 = .ok (.iconst 1, 1) := dk_4 (dk_at dksX4_linesAt_1 3 rfl rfl)
theorem dX4_linesAt_26 : decode cX4_linesAt 26 = .ok (.iload_n 3, 1) := dk_29 (dk_at dksX4_linesAt_1 4 rfl rfl)
theorem dX4_linesAt_27 : decode cX4_linesAt 27 = .ok (.ishl, 1) := dk_120 (dk_at dksX4_linesAt_1 5 rfl rfl)
theorem dX4_linesAt_28 : decode cX4_linesAt 28 = .ok (.goto 4, 3) := dk_167 0 4 (dk_at dksX4_linesAt_1 6 rfl rfl)
theorem dX4_linesAt_31 : decode cX4_linesAt 31 = .ok (.iconst 0, 1) := dk_3 (dk_at dksX4_linesAt_1 9 rfl rfl)
theorem dX4_linesAt_32 : decode cX4_linesAt 32 = .ok (.ior, 1) := dk_128 (dk_at dksX4_linesAt_1 10 rfl rfl)
theorem dX4_linesAt_33 : decode cX4_linesAt 33 = .ok (.istore_n 2, 1) := dk_61 (dk_at dksX4_linesAt_1 11 rfl rfl)
theorem dX4_linesAt_34 : decode cX4_linesAt 34 = .ok (.iinc 3 1, 3) := dk_132 3 1 (dk_at dksX4_linesAt_1 12 rfl rfl)
theorem dX4_linesAt_37 : decode cX4_linesAt 37 = .ok (.goto (-33), 3) := dk_167 255 223 (dk_at dksX4_linesAt_1 15 rfl rfl)
theorem dX4_linesAt_40 : decode cX4_linesAt 40 = .ok (.iload_n 2, 1) := dk_28 (dk_at dksX4_linesAt_1 18 rfl rfl)
theorem dX4_linesAt_41 : decode cX4_linesAt 41 = .ok (.ireturn, 1) := dk_172 (dk_at dksX4_linesAt_1 19 rfl rfl)
abbrev cX4_usableLines : ByteArray := prog_9_method_117_code
def yX4_usableLines : MethodName := ⟨RX4, "usableLines", "()I"⟩
def dkwX4_usableLines_1 : List UInt8 := [180, 0, 43, 28, 46, 182, 1, 33, 128, 60, 132, 2, 1, 167, 255, 232, 27, 172]
abbrev dktX4_usableLines_1 : List UInt8 := dkwX4_usableLines_1 ++ []
def dkwX4_usableLines_0 : List UInt8 := [42, 3, 181, 0, 49, 42, 182, 1, 30, 3, 60, 3, 61, 28, 42, 180, 1, 18, 162, 0, 22, 27, 42, 42]
abbrev dktX4_usableLines_0 : List UInt8 := dkwX4_usableLines_0 ++ dktX4_usableLines_1
theorem dksX4_usableLines_0 : cX4_usableLines.data.toList.drop 0 = dktX4_usableLines_0 := by decide +kernel
theorem dksX4_usableLines_1 : cX4_usableLines.data.toList.drop 24 = dktX4_usableLines_1 := dk_seg dksX4_usableLines_0 24 rfl rfl
theorem dX4_usableLines_0 : decode cX4_usableLines 0 = .ok (.aload_n 0, 1) := dk_42 (dk_at dksX4_usableLines_0 0 rfl rfl)
theorem dX4_usableLines_1 : decode cX4_usableLines 1 = .ok (.iconst 0, 1) := dk_3 (dk_at dksX4_usableLines_0 1 rfl rfl)
theorem dX4_usableLines_2 : decode cX4_usableLines 2 = .ok (.putfield 49, 3) := dk_181 0 49 (dk_at dksX4_usableLines_0 2 rfl rfl)
theorem dX4_usableLines_5 : decode cX4_usableLines 5 = .ok (.aload_n 0, 1) := dk_42 (dk_at dksX4_usableLines_0 5 rfl rfl)
theorem dX4_usableLines_6 : decode cX4_usableLines 6 = .ok (.invokevirtual 286, 3) := dk_182 1 30 (dk_at dksX4_usableLines_0 6 rfl rfl)
theorem dX4_usableLines_9 : decode cX4_usableLines 9 = .ok (.iconst 0, 1) := dk_3 (dk_at dksX4_usableLines_0 9 rfl rfl)
theorem dX4_usableLines_10 : decode cX4_usableLines 10 = .ok (.istore_n 1, 1) := dk_60 (dk_at dksX4_usableLines_0 10 rfl rfl)
theorem dX4_usableLines_11 : decode cX4_usableLines 11 = .ok (.iconst 0, 1) := dk_3 (dk_at dksX4_usableLines_0 11 rfl rfl)
theorem dX4_usableLines_12 : decode cX4_usableLines 12 = .ok (.istore_n 2, 1) := dk_61 (dk_at dksX4_usableLines_0 12 rfl rfl)
theorem dX4_usableLines_13 : decode cX4_usableLines 13 = .ok (.iload_n 2, 1) := dk_28 (dk_at dksX4_usableLines_0 13 rfl rfl)
theorem dX4_usableLines_14 : decode cX4_usableLines 14 = .ok (.aload_n 0, 1) := dk_42 (dk_at dksX4_usableLines_0 14 rfl rfl)
theorem dX4_usableLines_15 : decode cX4_usableLines 15 = .ok (.getfield 274, 3) := dk_180 1 18 (dk_at dksX4_usableLines_0 15 rfl rfl)
theorem dX4_usableLines_18 : decode cX4_usableLines 18 = .ok (.if_icmp .ge 22, 3) := dk_162 0 22 (dk_at dksX4_usableLines_0 18 rfl rfl)
theorem dX4_usableLines_21 : decode cX4_usableLines 21 = .ok (.iload_n 1, 1) := dk_27 (dk_at dksX4_usableLines_0 21 rfl rfl)
theorem dX4_usableLines_22 : decode cX4_usableLines 22 = .ok (.aload_n 0, 1) := dk_42 (dk_at dksX4_usableLines_0 22 rfl rfl)
theorem dX4_usableLines_23 : decode cX4_usableLines 23 = .ok (.aload_n 0, 1) := dk_42 (dk_at dksX4_usableLines_0 23 rfl rfl)
theorem dX4_usableLines_24 : decode cX4_usableLines 24 = .ok (.getfield 43, 3) := dk_180 0 43 (dk_at dksX4_usableLines_1 0 rfl rfl)
theorem dX4_usableLines_27 : decode cX4_usableLines 27 = .ok (.iload_n 2, 1) := dk_28 (dk_at dksX4_usableLines_1 3 rfl rfl)
theorem dX4_usableLines_28 : decode cX4_usableLines 28 = .ok (.iaload, 1) := dk_46 (dk_at dksX4_usableLines_1 4 rfl rfl)
theorem dX4_usableLines_29 : decode cX4_usableLines 29 = .ok (.invokevirtual 289, 3) := dk_182 1 33 (dk_at dksX4_usableLines_1 5 rfl rfl)
theorem dX4_usableLines_32 : decode cX4_usableLines 32 = .ok (.ior, 1) := dk_128 (dk_at dksX4_usableLines_1 8 rfl rfl)
theorem dX4_usableLines_33 : decode cX4_usableLines 33 = .ok (.istore_n 1, 1) := dk_60 (dk_at dksX4_usableLines_1 9 rfl rfl)
theorem dX4_usableLines_34 : decode cX4_usableLines 34 = .ok (.iinc 2 1, 3) := dk_132 2 1 (dk_at dksX4_usableLines_1 10 rfl rfl)
theorem dX4_usableLines_37 : decode cX4_usableLines 37 = .ok (.goto (-24), 3) := dk_167 255 232 (dk_at dksX4_usableLines_1 13 rfl rfl)
theorem dX4_usableLines_40 : decode cX4_usableLines 40 = .ok (.iload_n 1, 1) := dk_27 (dk_at dksX4_usableLines_1 16 rfl rfl)
theorem dX4_usableLines_41 : decode cX4_usableLines 41 = .ok (.ireturn, 1) := dk_172 (dk_at dksX4_usableLines_1 17 rfl rfl)
abbrev cX4_share : ByteArray := prog_9_method_119_code
def yX4_share : MethodName := ⟨RX4, "share", "()F"⟩
theorem dX4_share_0 : decode cX4_share 0 = .ok (.aload_n 0, 1) := by decide +kernel
theorem dX4_share_1 : decode cX4_share 1 = .ok (.invokevirtual 293, 3) := by decide +kernel
theorem dX4_share_4 : decode cX4_share 4 = .ok (.freturn, 1) := by decide +kernel
abbrev cX4_part : ByteArray := prog_9_method_118_code
def yX4_part : MethodName := ⟨RX4, "part", "()F"⟩
def dkwX4_part_0 : List UInt8 := [42, 3, 181, 0, 49, 42, 182, 0, 217, 134, 19, 1, 36, 110, 174]
abbrev dktX4_part_0 : List UInt8 := dkwX4_part_0 ++ []
theorem dksX4_part_0 : cX4_part.data.toList.drop 0 = dktX4_part_0 := by decide +kernel
theorem dX4_part_0 : decode cX4_part 0 = .ok (.aload_n 0, 1) := dk_42 (dk_at dksX4_part_0 0 rfl rfl)
theorem dX4_part_1 : decode cX4_part 1 = .ok (.iconst 0, 1) := dk_3 (dk_at dksX4_part_0 1 rfl rfl)
theorem dX4_part_2 : decode cX4_part 2 = .ok (.putfield 49, 3) := dk_181 0 49 (dk_at dksX4_part_0 2 rfl rfl)
theorem dX4_part_5 : decode cX4_part 5 = .ok (.aload_n 0, 1) := dk_42 (dk_at dksX4_part_0 5 rfl rfl)
theorem dX4_part_6 : decode cX4_part 6 = .ok (.invokevirtual 217, 3) := dk_182 0 217 (dk_at dksX4_part_0 6 rfl rfl)
theorem dX4_part_9 : decode cX4_part 9 = .ok (.i2f, 1) := dk_134 (dk_at dksX4_part_0 9 rfl rfl)
theorem dX4_part_10 : decode cX4_part 10 = .ok (.ldc_w 292, 3) := dk_19 1 36 (dk_at dksX4_part_0 10 rfl rfl)
theorem dX4_part_13 : decode cX4_part 13 = .ok (.fdiv, 1) := dk_110 (dk_at dksX4_part_0 13 rfl rfl)
theorem dX4_part_14 : decode cX4_part 14 = .ok (.freturn, 1) := dk_174 (dk_at dksX4_part_0 14 rfl rfl)
abbrev cX4_shareBits : ByteArray := prog_9_method_120_code
def yX4_shareBits : MethodName := ⟨RX4, "shareBits", "()I"⟩
def dkwX4_shareBits_0 : List UInt8 := [42, 182, 1, 37, 184, 1, 41, 172]
abbrev dktX4_shareBits_0 : List UInt8 := dkwX4_shareBits_0 ++ []
theorem dksX4_shareBits_0 : cX4_shareBits.data.toList.drop 0 = dktX4_shareBits_0 := by decide +kernel
theorem dX4_shareBits_0 : decode cX4_shareBits 0 = .ok (.aload_n 0, 1) := dk_42 (dk_at dksX4_shareBits_0 0 rfl rfl)
theorem dX4_shareBits_1 : decode cX4_shareBits 1 = .ok (.invokevirtual 293, 3) := dk_182 1 37 (dk_at dksX4_shareBits_0 1 rfl rfl)
theorem dX4_shareBits_4 : decode cX4_shareBits 4 = .ok (.invokestatic 297, 3) := dk_184 1 41 (dk_at dksX4_shareBits_0 4 rfl rfl)
theorem dX4_shareBits_7 : decode cX4_shareBits 7 = .ok (.ireturn, 1) := dk_172 (dk_at dksX4_shareBits_0 7 rfl rfl)
abbrev cX4_meanBits : ByteArray := prog_9_method_121_code
def yX4_meanBits : MethodName := ⟨RX4, "meanBits", "(I)J"⟩
def dkwX4_meanBits_2 : List UInt8 := [180, 0, 210, 138, 42, 180, 0, 207, 135, 111, 184, 1, 47, 173]
abbrev dktX4_meanBits_2 : List UInt8 := dkwX4_meanBits_2 ++ []
def dkwX4_meanBits_1 : List UInt8 := [154, 0, 7, 5, 167, 0, 4, 3, 181, 0, 49, 42, 180, 0, 207, 154, 0, 7, 9, 167, 0, 17, 42]
abbrev dktX4_meanBits_1 : List UInt8 := dkwX4_meanBits_1 ++ dktX4_meanBits_2
def dkwX4_meanBits_0 : List UInt8 := [42, 27, 184, 0, 104, 182, 0, 189, 154, 0, 5, 9, 173, 42, 27, 2, 182, 0, 214, 42, 42, 180, 0, 207]
abbrev dktX4_meanBits_0 : List UInt8 := dkwX4_meanBits_0 ++ dktX4_meanBits_1
theorem dksX4_meanBits_0 : cX4_meanBits.data.toList.drop 0 = dktX4_meanBits_0 := by decide +kernel
theorem dksX4_meanBits_1 : cX4_meanBits.data.toList.drop 24 = dktX4_meanBits_1 := dk_seg dksX4_meanBits_0 24 rfl rfl
theorem dksX4_meanBits_2 : cX4_meanBits.data.toList.drop 47 = dktX4_meanBits_2 := dk_seg dksX4_meanBits_1 23 rfl rfl
theorem dX4_meanBits_0 : decode cX4_meanBits 0 = .ok (.aload_n 0, 1) := dk_42 (dk_at dksX4_meanBits_0 0 rfl rfl)
theorem dX4_meanBits_1 : decode cX4_meanBits 1 = .ok (.iload_n 1, 1) := dk_27 (dk_at dksX4_meanBits_0 1 rfl rfl)
theorem dX4_meanBits_2 : decode cX4_meanBits 2 = .ok (.invokestatic 104, 3) := dk_184 0 104 (dk_at dksX4_meanBits_0 2 rfl rfl)
theorem dX4_meanBits_5 : decode cX4_meanBits 5 = .ok (.invokevirtual 189, 3) := dk_182 0 189 (dk_at dksX4_meanBits_0 5 rfl rfl)
theorem dX4_meanBits_8 : decode cX4_meanBits 8 = .ok (.ifCond .ne 5, 3) := dk_154 0 5 (dk_at dksX4_meanBits_0 8 rfl rfl)
theorem dX4_meanBits_11 : decode cX4_meanBits 11 = .ok (.lconst 0, 1) := dk_9 (dk_at dksX4_meanBits_0 11 rfl rfl)
theorem dX4_meanBits_12 : decode cX4_meanBits 12 = .ok (.lreturn, 1) := dk_173 (dk_at dksX4_meanBits_0 12 rfl rfl)
theorem dX4_meanBits_13 : decode cX4_meanBits 13 = .ok (.aload_n 0, 1) := dk_42 (dk_at dksX4_meanBits_0 13 rfl rfl)
theorem dX4_meanBits_14 : decode cX4_meanBits 14 = .ok (.iload_n 1, 1) := dk_27 (dk_at dksX4_meanBits_0 14 rfl rfl)
theorem dX4_meanBits_15 : decode cX4_meanBits 15 = .ok (.iconst (-1), 1) := dk_2 (dk_at dksX4_meanBits_0 15 rfl rfl)
theorem dX4_meanBits_16 : decode cX4_meanBits 16 = .ok (.invokevirtual 214, 3) := dk_182 0 214 (dk_at dksX4_meanBits_0 16 rfl rfl)
theorem dX4_meanBits_19 : decode cX4_meanBits 19 = .ok (.aload_n 0, 1) := dk_42 (dk_at dksX4_meanBits_0 19 rfl rfl)
theorem dX4_meanBits_20 : decode cX4_meanBits 20 = .ok (.aload_n 0, 1) := dk_42 (dk_at dksX4_meanBits_0 20 rfl rfl)
theorem dX4_meanBits_21 : decode cX4_meanBits 21 = .ok (.getfield 207, 3) := dk_180 0 207 (dk_at dksX4_meanBits_0 21 rfl rfl)
theorem dX4_meanBits_24 : decode cX4_meanBits 24 = .ok (.ifCond .ne 7, 3) := dk_154 0 7 (dk_at dksX4_meanBits_1 0 rfl rfl)
theorem dX4_meanBits_27 : decode cX4_meanBits 27 = .ok (.iconst 2, 1) := dk_5 (dk_at dksX4_meanBits_1 3 rfl rfl)
theorem dX4_meanBits_28 : decode cX4_meanBits 28 = .ok (.goto 4, 3) := dk_167 0 4 (dk_at dksX4_meanBits_1 4 rfl rfl)
theorem dX4_meanBits_31 : decode cX4_meanBits 31 = .ok (.iconst 0, 1) := dk_3 (dk_at dksX4_meanBits_1 7 rfl rfl)
theorem dX4_meanBits_32 : decode cX4_meanBits 32 = .ok (.putfield 49, 3) := dk_181 0 49 (dk_at dksX4_meanBits_1 8 rfl rfl)
theorem dX4_meanBits_35 : decode cX4_meanBits 35 = .ok (.aload_n 0, 1) := dk_42 (dk_at dksX4_meanBits_1 11 rfl rfl)
theorem dX4_meanBits_36 : decode cX4_meanBits 36 = .ok (.getfield 207, 3) := dk_180 0 207 (dk_at dksX4_meanBits_1 12 rfl rfl)
theorem dX4_meanBits_39 : decode cX4_meanBits 39 = .ok (.ifCond .ne 7, 3) := dk_154 0 7 (dk_at dksX4_meanBits_1 15 rfl rfl)
theorem dX4_meanBits_42 : decode cX4_meanBits 42 = .ok (.lconst 0, 1) := dk_9 (dk_at dksX4_meanBits_1 18 rfl rfl)
theorem dX4_meanBits_43 : decode cX4_meanBits 43 = .ok (.goto 17, 3) := dk_167 0 17 (dk_at dksX4_meanBits_1 19 rfl rfl)
theorem dX4_meanBits_46 : decode cX4_meanBits 46 = .ok (.aload_n 0, 1) := dk_42 (dk_at dksX4_meanBits_1 22 rfl rfl)
theorem dX4_meanBits_47 : decode cX4_meanBits 47 = .ok (.getfield 210, 3) := dk_180 0 210 (dk_at dksX4_meanBits_2 0 rfl rfl)
theorem dX4_meanBits_50 : decode cX4_meanBits 50 = .ok (.l2d, 1) := dk_138 (dk_at dksX4_meanBits_2 3 rfl rfl)
theorem dX4_meanBits_51 : decode cX4_meanBits 51 = .ok (.aload_n 0, 1) := dk_42 (dk_at dksX4_meanBits_2 4 rfl rfl)
theorem dX4_meanBits_52 : decode cX4_meanBits 52 = .ok (.getfield 207, 3) := dk_180 0 207 (dk_at dksX4_meanBits_2 5 rfl rfl)
theorem dX4_meanBits_55 : decode cX4_meanBits 55 = .ok (.i2d, 1) := dk_135 (dk_at dksX4_meanBits_2 8 rfl rfl)
theorem dX4_meanBits_56 : decode cX4_meanBits 56 = .ok (.ddiv, 1) := dk_111 (dk_at dksX4_meanBits_2 9 rfl rfl)
theorem dX4_meanBits_57 : decode cX4_meanBits 57 = .ok (.invokestatic 303, 3) := dk_184 1 47 (dk_at dksX4_meanBits_2 10 rfl rfl)
theorem dX4_meanBits_60 : decode cX4_meanBits 60 = .ok (.lreturn, 1) := dk_173 (dk_at dksX4_meanBits_2 13 rfl rfl)
abbrev cX4_worked : ByteArray := prog_9_method_122_code
def yX4_worked : MethodName := ⟨RX4, "worked", "()I"⟩
def dkwX4_worked_0 : List UInt8 := [42, 3, 181, 0, 49, 42, 180, 0, 7, 17, 0, 193, 46, 172]
abbrev dktX4_worked_0 : List UInt8 := dkwX4_worked_0 ++ []
theorem dksX4_worked_0 : cX4_worked.data.toList.drop 0 = dktX4_worked_0 := by decide +kernel
theorem dX4_worked_0 : decode cX4_worked 0 = .ok (.aload_n 0, 1) := dk_42 (dk_at dksX4_worked_0 0 rfl rfl)
theorem dX4_worked_1 : decode cX4_worked 1 = .ok (.iconst 0, 1) := dk_3 (dk_at dksX4_worked_0 1 rfl rfl)
theorem dX4_worked_2 : decode cX4_worked 2 = .ok (.putfield 49, 3) := dk_181 0 49 (dk_at dksX4_worked_0 2 rfl rfl)
theorem dX4_worked_5 : decode cX4_worked 5 = .ok (.aload_n 0, 1) := dk_42 (dk_at dksX4_worked_0 5 rfl rfl)
theorem dX4_worked_6 : decode cX4_worked 6 = .ok (.getfield 7, 3) := dk_180 0 7 (dk_at dksX4_worked_0 6 rfl rfl)
theorem dX4_worked_9 : decode cX4_worked 9 = .ok (.sipush 193, 3) := dk_17 0 193 (dk_at dksX4_worked_0 9 rfl rfl)
theorem dX4_worked_12 : decode cX4_worked 12 = .ok (.iaload, 1) := dk_46 (dk_at dksX4_worked_0 12 rfl rfl)
theorem dX4_worked_13 : decode cX4_worked 13 = .ok (.ireturn, 1) := dk_172 (dk_at dksX4_worked_0 13 rfl rfl)
abbrev cX4_keep : ByteArray := prog_9_method_123_code
def yX4_keep : MethodName := ⟨RX4, "keep", "()I"⟩
def dkwX4_keep_1 : List UInt8 := [182, 0, 217, 172]
abbrev dktX4_keep_1 : List UInt8 := dkwX4_keep_1 ++ []
def dkwX4_keep_0 : List UInt8 := [42, 3, 181, 0, 49, 42, 4, 181, 1, 53, 42, 180, 0, 7, 3, 42, 180, 0, 16, 3, 184, 0, 53, 42]
abbrev dktX4_keep_0 : List UInt8 := dkwX4_keep_0 ++ dktX4_keep_1
theorem dksX4_keep_0 : cX4_keep.data.toList.drop 0 = dktX4_keep_0 := by decide +kernel
theorem dksX4_keep_1 : cX4_keep.data.toList.drop 24 = dktX4_keep_1 := dk_seg dksX4_keep_0 24 rfl rfl
theorem dX4_keep_0 : decode cX4_keep 0 = .ok (.aload_n 0, 1) := dk_42 (dk_at dksX4_keep_0 0 rfl rfl)
theorem dX4_keep_1 : decode cX4_keep 1 = .ok (.iconst 0, 1) := dk_3 (dk_at dksX4_keep_0 1 rfl rfl)
theorem dX4_keep_2 : decode cX4_keep 2 = .ok (.putfield 49, 3) := dk_181 0 49 (dk_at dksX4_keep_0 2 rfl rfl)
theorem dX4_keep_5 : decode cX4_keep 5 = .ok (.aload_n 0, 1) := dk_42 (dk_at dksX4_keep_0 5 rfl rfl)
theorem dX4_keep_6 : decode cX4_keep 6 = .ok (.iconst 1, 1) := dk_4 (dk_at dksX4_keep_0 6 rfl rfl)
theorem dX4_keep_7 : decode cX4_keep 7 = .ok (.putfield 309, 3) := dk_181 1 53 (dk_at dksX4_keep_0 7 rfl rfl)
theorem dX4_keep_10 : decode cX4_keep 10 = .ok (.aload_n 0, 1) := dk_42 (dk_at dksX4_keep_0 10 rfl rfl)
theorem dX4_keep_11 : decode cX4_keep 11 = .ok (.getfield 7, 3) := dk_180 0 7 (dk_at dksX4_keep_0 11 rfl rfl)
theorem dX4_keep_14 : decode cX4_keep 14 = .ok (.iconst 0, 1) := dk_3 (dk_at dksX4_keep_0 14 rfl rfl)
theorem dX4_keep_15 : decode cX4_keep 15 = .ok (.aload_n 0, 1) := dk_42 (dk_at dksX4_keep_0 15 rfl rfl)
theorem dX4_keep_16 : decode cX4_keep 16 = .ok (.getfield 16, 3) := dk_180 0 16 (dk_at dksX4_keep_0 16 rfl rfl)
theorem dX4_keep_19 : decode cX4_keep 19 = .ok (.iconst 0, 1) := dk_3 (dk_at dksX4_keep_0 19 rfl rfl)
theorem dX4_keep_20 : decode cX4_keep 20 = .ok (.invokestatic 53, 3) := dk_184 0 53 (dk_at dksX4_keep_0 20 rfl rfl)
theorem dX4_keep_23 : decode cX4_keep 23 = .ok (.aload_n 0, 1) := dk_42 (dk_at dksX4_keep_0 23 rfl rfl)
theorem dX4_keep_24 : decode cX4_keep 24 = .ok (.invokevirtual 217, 3) := dk_182 0 217 (dk_at dksX4_keep_1 0 rfl rfl)
theorem dX4_keep_27 : decode cX4_keep 27 = .ok (.ireturn, 1) := dk_172 (dk_at dksX4_keep_1 3 rfl rfl)
abbrev cX4_goBack : ByteArray := prog_9_method_124_code
def yX4_goBack : MethodName := ⟨RX4, "goBack", "()I"⟩
def dkwX4_goBack_1 : List UInt8 := [180, 0, 7, 3, 184, 0, 53, 42, 182, 0, 64, 42, 182, 0, 217, 172]
abbrev dktX4_goBack_1 : List UInt8 := dkwX4_goBack_1 ++ []
def dkwX4_goBack_0 : List UInt8 := [42, 182, 0, 127, 42, 180, 1, 53, 154, 0, 9, 42, 4, 182, 0, 60, 172, 42, 180, 0, 16, 3, 42]
abbrev dktX4_goBack_0 : List UInt8 := dkwX4_goBack_0 ++ dktX4_goBack_1
theorem dksX4_goBack_0 : cX4_goBack.data.toList.drop 0 = dktX4_goBack_0 := by decide +kernel
theorem dksX4_goBack_1 : cX4_goBack.data.toList.drop 23 = dktX4_goBack_1 := dk_seg dksX4_goBack_0 23 rfl rfl
theorem dX4_goBack_0 : decode cX4_goBack 0 = .ok (.aload_n 0, 1) := dk_42 (dk_at dksX4_goBack_0 0 rfl rfl)
theorem dX4_goBack_1 : decode cX4_goBack 1 = .ok (.invokevirtual 127, 3) := dk_182 0 127 (dk_at dksX4_goBack_0 1 rfl rfl)
theorem dX4_goBack_4 : decode cX4_goBack 4 = .ok (.aload_n 0, 1) := dk_42 (dk_at dksX4_goBack_0 4 rfl rfl)
theorem dX4_goBack_5 : decode cX4_goBack 5 = .ok (.getfield 309, 3) := dk_180 1 53 (dk_at dksX4_goBack_0 5 rfl rfl)
theorem dX4_goBack_8 : decode cX4_goBack 8 = .ok (.ifCond .ne 9, 3) := dk_154 0 9 (dk_at dksX4_goBack_0 8 rfl rfl)
theorem dX4_goBack_11 : decode cX4_goBack 11 = .ok (.aload_n 0, 1) := dk_42 (dk_at dksX4_goBack_0 11 rfl rfl)
theorem dX4_goBack_12 : decode cX4_goBack 12 = .ok (.iconst 1, 1) := dk_4 (dk_at dksX4_goBack_0 12 rfl rfl)
theorem dX4_goBack_13 : decode cX4_goBack 13 = .ok (.invokevirtual 60, 3) := dk_182 0 60 (dk_at dksX4_goBack_0 13 rfl rfl)
theorem dX4_goBack_16 : decode cX4_goBack 16 = .ok (.ireturn, 1) := dk_172 (dk_at dksX4_goBack_0 16 rfl rfl)
theorem dX4_goBack_17 : decode cX4_goBack 17 = .ok (.aload_n 0, 1) := dk_42 (dk_at dksX4_goBack_0 17 rfl rfl)
theorem dX4_goBack_18 : decode cX4_goBack 18 = .ok (.getfield 16, 3) := dk_180 0 16 (dk_at dksX4_goBack_0 18 rfl rfl)
theorem dX4_goBack_21 : decode cX4_goBack 21 = .ok (.iconst 0, 1) := dk_3 (dk_at dksX4_goBack_0 21 rfl rfl)
theorem dX4_goBack_22 : decode cX4_goBack 22 = .ok (.aload_n 0, 1) := dk_42 (dk_at dksX4_goBack_0 22 rfl rfl)
theorem dX4_goBack_23 : decode cX4_goBack 23 = .ok (.getfield 7, 3) := dk_180 0 7 (dk_at dksX4_goBack_1 0 rfl rfl)
theorem dX4_goBack_26 : decode cX4_goBack 26 = .ok (.iconst 0, 1) := dk_3 (dk_at dksX4_goBack_1 3 rfl rfl)
theorem dX4_goBack_27 : decode cX4_goBack 27 = .ok (.invokestatic 53, 3) := dk_184 0 53 (dk_at dksX4_goBack_1 4 rfl rfl)
theorem dX4_goBack_30 : decode cX4_goBack 30 = .ok (.aload_n 0, 1) := dk_42 (dk_at dksX4_goBack_1 7 rfl rfl)
theorem dX4_goBack_31 : decode cX4_goBack 31 = .ok (.invokevirtual 64, 3) := dk_182 0 64 (dk_at dksX4_goBack_1 8 rfl rfl)
theorem dX4_goBack_34 : decode cX4_goBack 34 = .ok (.aload_n 0, 1) := dk_42 (dk_at dksX4_goBack_1 11 rfl rfl)
theorem dX4_goBack_35 : decode cX4_goBack 35 = .ok (.invokevirtual 217, 3) := dk_182 0 217 (dk_at dksX4_goBack_1 12 rfl rfl)
theorem dX4_goBack_38 : decode cX4_goBack 38 = .ok (.ireturn, 1) := dk_172 (dk_at dksX4_goBack_1 15 rfl rfl)
abbrev cX4_undo : ByteArray := prog_9_method_125_code
def yX4_undo : MethodName := ⟨RX4, "undo", "()I"⟩
def dkwX4_undo_2 : List UInt8 := [42, 180, 0, 57, 172]
abbrev dktX4_undo_2 : List UInt8 := dkwX4_undo_2 ++ []
def dkwX4_undo_1 : List UInt8 := [100, 181, 0, 57, 42, 180, 0, 19, 17, 0, 194, 42, 180, 0, 57, 104, 42, 180, 0, 7, 3, 184, 0, 53]
abbrev dktX4_undo_1 : List UInt8 := dkwX4_undo_1 ++ dktX4_undo_2
def dkwX4_undo_0 : List UInt8 := [42, 3, 181, 0, 49, 42, 180, 0, 57, 154, 0, 9, 42, 4, 182, 0, 60, 172, 42, 89, 180, 0, 57, 4]
abbrev dktX4_undo_0 : List UInt8 := dkwX4_undo_0 ++ dktX4_undo_1
theorem dksX4_undo_0 : cX4_undo.data.toList.drop 0 = dktX4_undo_0 := by decide +kernel
theorem dksX4_undo_1 : cX4_undo.data.toList.drop 24 = dktX4_undo_1 := dk_seg dksX4_undo_0 24 rfl rfl
theorem dksX4_undo_2 : cX4_undo.data.toList.drop 48 = dktX4_undo_2 := dk_seg dksX4_undo_1 24 rfl rfl
theorem dX4_undo_0 : decode cX4_undo 0 = .ok (.aload_n 0, 1) := dk_42 (dk_at dksX4_undo_0 0 rfl rfl)
theorem dX4_undo_1 : decode cX4_undo 1 = .ok (.iconst 0, 1) := dk_3 (dk_at dksX4_undo_0 1 rfl rfl)
theorem dX4_undo_2 : decode cX4_undo 2 = .ok (.putfield 49, 3) := dk_181 0 49 (dk_at dksX4_undo_0 2 rfl rfl)
theorem dX4_undo_5 : decode cX4_undo 5 = .ok (.aload_n 0, 1) := dk_42 (dk_at dksX4_undo_0 5 rfl rfl)
theorem dX4_undo_6 : decode cX4_undo 6 = .ok (.getfield 57, 3) := dk_180 0 57 (dk_at dksX4_undo_0 6 rfl rfl)
theorem dX4_undo_9 : decode cX4_undo 9 = .ok (.ifCond .ne 9, 3) := dk_154 0 9 (dk_at dksX4_undo_0 9 rfl rfl)
theorem dX4_undo_12 : decode cX4_undo 12 = .ok (.aload_n 0, 1) := dk_42 (dk_at dksX4_undo_0 12 rfl rfl)
theorem dX4_undo_13 : decode cX4_undo 13 = .ok (.iconst 1, 1) := dk_4 (dk_at dksX4_undo_0 13 rfl rfl)
theorem dX4_undo_14 : decode cX4_undo 14 = .ok (.invokevirtual 60, 3) := dk_182 0 60 (dk_at dksX4_undo_0 14 rfl rfl)
theorem dX4_undo_17 : decode cX4_undo 17 = .ok (.ireturn, 1) := dk_172 (dk_at dksX4_undo_0 17 rfl rfl)
theorem dX4_undo_18 : decode cX4_undo 18 = .ok (.aload_n 0, 1) := dk_42 (dk_at dksX4_undo_0 18 rfl rfl)
theorem dX4_undo_19 : decode cX4_undo 19 = .ok (.dup, 1) := dk_89 (dk_at dksX4_undo_0 19 rfl rfl)
theorem dX4_undo_20 : decode cX4_undo 20 = .ok (.getfield 57, 3) := dk_180 0 57 (dk_at dksX4_undo_0 20 rfl rfl)
theorem dX4_undo_23 : decode cX4_undo 23 = .ok (.iconst 1, 1) := dk_4 (dk_at dksX4_undo_0 23 rfl rfl)
theorem dX4_undo_24 : decode cX4_undo 24 = .ok (.isub, 1) := dk_100 (dk_at dksX4_undo_1 0 rfl rfl)
theorem dX4_undo_25 : decode cX4_undo 25 = .ok (.putfield 57, 3) := dk_181 0 57 (dk_at dksX4_undo_1 1 rfl rfl)
theorem dX4_undo_28 : decode cX4_undo 28 = .ok (.aload_n 0, 1) := dk_42 (dk_at dksX4_undo_1 4 rfl rfl)
theorem dX4_undo_29 : decode cX4_undo 29 = .ok (.getfield 19, 3) := dk_180 0 19 (dk_at dksX4_undo_1 5 rfl rfl)
theorem dX4_undo_32 : decode cX4_undo 32 = .ok (.sipush 194, 3) := dk_17 0 194 (dk_at dksX4_undo_1 8 rfl rfl)
theorem dX4_undo_35 : decode cX4_undo 35 = .ok (.aload_n 0, 1) := dk_42 (dk_at dksX4_undo_1 11 rfl rfl)
theorem dX4_undo_36 : decode cX4_undo 36 = .ok (.getfield 57, 3) := dk_180 0 57 (dk_at dksX4_undo_1 12 rfl rfl)
theorem dX4_undo_39 : decode cX4_undo 39 = .ok (.imul, 1) := dk_104 (dk_at dksX4_undo_1 15 rfl rfl)
theorem dX4_undo_40 : decode cX4_undo 40 = .ok (.aload_n 0, 1) := dk_42 (dk_at dksX4_undo_1 16 rfl rfl)
theorem dX4_undo_41 : decode cX4_undo 41 = .ok (.getfield 7, 3) := dk_180 0 7 (dk_at dksX4_undo_1 17 rfl rfl)
theorem dX4_undo_44 : decode cX4_undo 44 = .ok (.iconst 0, 1) := dk_3 (dk_at dksX4_undo_1 20 rfl rfl)
theorem dX4_undo_45 : decode cX4_undo 45 = .ok (.invokestatic 53, 3) := dk_184 0 53 (dk_at dksX4_undo_1 21 rfl rfl)
theorem dX4_undo_48 : decode cX4_undo 48 = .ok (.aload_n 0, 1) := dk_42 (dk_at dksX4_undo_2 0 rfl rfl)
theorem dX4_undo_49 : decode cX4_undo 49 = .ok (.getfield 57, 3) := dk_180 0 57 (dk_at dksX4_undo_2 1 rfl rfl)
theorem dX4_undo_52 : decode cX4_undo 52 = .ok (.ireturn, 1) := dk_172 (dk_at dksX4_undo_2 4 rfl rfl)
abbrev cX4_states : ByteArray := prog_9_method_126_code
def yX4_states : MethodName := ⟨RX4, "states", "()I"⟩
def dkwX4_states_0 : List UInt8 := [42, 3, 181, 0, 49, 42, 180, 0, 57, 172]
abbrev dktX4_states_0 : List UInt8 := dkwX4_states_0 ++ []
theorem dksX4_states_0 : cX4_states.data.toList.drop 0 = dktX4_states_0 := by decide +kernel
theorem dX4_states_0 : decode cX4_states 0 = .ok (.aload_n 0, 1) := dk_42 (dk_at dksX4_states_0 0 rfl rfl)
theorem dX4_states_1 : decode cX4_states 1 = .ok (.iconst 0, 1) := dk_3 (dk_at dksX4_states_0 1 rfl rfl)
theorem dX4_states_2 : decode cX4_states 2 = .ok (.putfield 49, 3) := dk_181 0 49 (dk_at dksX4_states_0 2 rfl rfl)
theorem dX4_states_5 : decode cX4_states 5 = .ok (.aload_n 0, 1) := dk_42 (dk_at dksX4_states_0 5 rfl rfl)
theorem dX4_states_6 : decode cX4_states 6 = .ok (.getfield 57, 3) := dk_180 0 57 (dk_at dksX4_states_0 6 rfl rfl)
theorem dX4_states_9 : decode cX4_states 9 = .ok (.ireturn, 1) := dk_172 (dk_at dksX4_states_0 9 rfl rfl)
abbrev cX4_type : ByteArray := prog_9_method_127_code
def yX4_type : MethodName := ⟨RX4, "type", "(I)I"⟩
def dkwX4_type_2 : List UInt8 := [42, 89, 180, 1, 57, 4, 96, 181, 1, 57, 42, 180, 1, 57, 172]
abbrev dktX4_type_2 : List UInt8 := dkwX4_type_2 ++ []
def dkwX4_type_1 : List UInt8 := [180, 1, 57, 16, 60, 160, 0, 9, 42, 5, 182, 0, 60, 172, 42, 180, 0, 22, 42, 180, 1, 57, 27, 79]
abbrev dktX4_type_1 : List UInt8 := dkwX4_type_1 ++ dktX4_type_2
def dkwX4_type_0 : List UInt8 := [42, 3, 181, 0, 49, 27, 16, 32, 16, 126, 184, 0, 92, 154, 0, 9, 42, 4, 182, 0, 60, 172, 42]
abbrev dktX4_type_0 : List UInt8 := dkwX4_type_0 ++ dktX4_type_1
theorem dksX4_type_0 : cX4_type.data.toList.drop 0 = dktX4_type_0 := by decide +kernel
theorem dksX4_type_1 : cX4_type.data.toList.drop 23 = dktX4_type_1 := dk_seg dksX4_type_0 23 rfl rfl
theorem dksX4_type_2 : cX4_type.data.toList.drop 47 = dktX4_type_2 := dk_seg dksX4_type_1 24 rfl rfl
theorem dX4_type_0 : decode cX4_type 0 = .ok (.aload_n 0, 1) := dk_42 (dk_at dksX4_type_0 0 rfl rfl)
theorem dX4_type_1 : decode cX4_type 1 = .ok (.iconst 0, 1) := dk_3 (dk_at dksX4_type_0 1 rfl rfl)
theorem dX4_type_2 : decode cX4_type 2 = .ok (.putfield 49, 3) := dk_181 0 49 (dk_at dksX4_type_0 2 rfl rfl)
theorem dX4_type_5 : decode cX4_type 5 = .ok (.iload_n 1, 1) := dk_27 (dk_at dksX4_type_0 5 rfl rfl)
theorem dX4_type_6 : decode cX4_type 6 = .ok (.bipush 32, 2) := dk_16 32 (dk_at dksX4_type_0 6 rfl rfl)
theorem dX4_type_8 : decode cX4_type 8 = .ok (.bipush 126, 2) := dk_16 126 (dk_at dksX4_type_0 8 rfl rfl)
theorem dX4_type_10 : decode cX4_type 10 = .ok (.invokestatic 92, 3) := dk_184 0 92 (dk_at dksX4_type_0 10 rfl rfl)
theorem dX4_type_13 : decode cX4_type 13 = .ok (.ifCond .ne 9, 3) := dk_154 0 9 (dk_at dksX4_type_0 13 rfl rfl)
theorem dX4_type_16 : decode cX4_type 16 = .ok (.aload_n 0, 1) := dk_42 (dk_at dksX4_type_0 16 rfl rfl)
theorem dX4_type_17 : decode cX4_type 17 = .ok (.iconst 1, 1) := dk_4 (dk_at dksX4_type_0 17 rfl rfl)
theorem dX4_type_18 : decode cX4_type 18 = .ok (.invokevirtual 60, 3) := dk_182 0 60 (dk_at dksX4_type_0 18 rfl rfl)
theorem dX4_type_21 : decode cX4_type 21 = .ok (.ireturn, 1) := dk_172 (dk_at dksX4_type_0 21 rfl rfl)
theorem dX4_type_22 : decode cX4_type 22 = .ok (.aload_n 0, 1) := dk_42 (dk_at dksX4_type_0 22 rfl rfl)
theorem dX4_type_23 : decode cX4_type 23 = .ok (.getfield 313, 3) := dk_180 1 57 (dk_at dksX4_type_1 0 rfl rfl)
theorem dX4_type_26 : decode cX4_type 26 = .ok (.bipush 60, 2) := dk_16 60 (dk_at dksX4_type_1 3 rfl rfl)
theorem dX4_type_28 : decode cX4_type 28 = .ok (.if_icmp .ne 9, 3) := dk_160 0 9 (dk_at dksX4_type_1 5 rfl rfl)
theorem dX4_type_31 : decode cX4_type 31 = .ok (.aload_n 0, 1) := dk_42 (dk_at dksX4_type_1 8 rfl rfl)
theorem dX4_type_32 : decode cX4_type 32 = .ok (.iconst 2, 1) := dk_5 (dk_at dksX4_type_1 9 rfl rfl)
theorem dX4_type_33 : decode cX4_type 33 = .ok (.invokevirtual 60, 3) := dk_182 0 60 (dk_at dksX4_type_1 10 rfl rfl)
theorem dX4_type_36 : decode cX4_type 36 = .ok (.ireturn, 1) := dk_172 (dk_at dksX4_type_1 13 rfl rfl)
theorem dX4_type_37 : decode cX4_type 37 = .ok (.aload_n 0, 1) := dk_42 (dk_at dksX4_type_1 14 rfl rfl)
theorem dX4_type_38 : decode cX4_type 38 = .ok (.getfield 22, 3) := dk_180 0 22 (dk_at dksX4_type_1 15 rfl rfl)
theorem dX4_type_41 : decode cX4_type 41 = .ok (.aload_n 0, 1) := dk_42 (dk_at dksX4_type_1 18 rfl rfl)
theorem dX4_type_42 : decode cX4_type 42 = .ok (.getfield 313, 3) := dk_180 1 57 (dk_at dksX4_type_1 19 rfl rfl)
theorem dX4_type_45 : decode cX4_type 45 = .ok (.iload_n 1, 1) := dk_27 (dk_at dksX4_type_1 22 rfl rfl)
theorem dX4_type_46 : decode cX4_type 46 = .ok (.iastore, 1) := dk_79 (dk_at dksX4_type_1 23 rfl rfl)
theorem dX4_type_47 : decode cX4_type 47 = .ok (.aload_n 0, 1) := dk_42 (dk_at dksX4_type_2 0 rfl rfl)
theorem dX4_type_48 : decode cX4_type 48 = .ok (.dup, 1) := dk_89 (dk_at dksX4_type_2 1 rfl rfl)
theorem dX4_type_49 : decode cX4_type 49 = .ok (.getfield 313, 3) := dk_180 1 57 (dk_at dksX4_type_2 2 rfl rfl)
theorem dX4_type_52 : decode cX4_type 52 = .ok (.iconst 1, 1) := dk_4 (dk_at dksX4_type_2 5 rfl rfl)
theorem dX4_type_53 : decode cX4_type 53 = .ok (.iadd, 1) := dk_96 (dk_at dksX4_type_2 6 rfl rfl)
theorem dX4_type_54 : decode cX4_type 54 = .ok (.putfield 313, 3) := dk_181 1 57 (dk_at dksX4_type_2 7 rfl rfl)
theorem dX4_type_57 : decode cX4_type 57 = .ok (.aload_n 0, 1) := dk_42 (dk_at dksX4_type_2 10 rfl rfl)
theorem dX4_type_58 : decode cX4_type 58 = .ok (.getfield 313, 3) := dk_180 1 57 (dk_at dksX4_type_2 11 rfl rfl)
theorem dX4_type_61 : decode cX4_type 61 = .ok (.ireturn, 1) := dk_172 (dk_at dksX4_type_2 14 rfl rfl)
abbrev cX4_clearText : ByteArray := prog_9_method_128_code
def yX4_clearText : MethodName := ⟨RX4, "clearText", "()I"⟩
def dkwX4_clearText_0 : List UInt8 := [42, 3, 181, 0, 49, 42, 180, 1, 57, 60, 42, 3, 181, 1, 57, 27, 172]
abbrev dktX4_clearText_0 : List UInt8 := dkwX4_clearText_0 ++ []
theorem dksX4_clearText_0 : cX4_clearText.data.toList.drop 0 = dktX4_clearText_0 := by decide +kernel
theorem dX4_clearText_0 : decode cX4_clearText 0 = .ok (.aload_n 0, 1) := dk_42 (dk_at dksX4_clearText_0 0 rfl rfl)
theorem dX4_clearText_1 : decode cX4_clearText 1 = .ok (.iconst 0, 1) := dk_3 (dk_at dksX4_clearText_0 1 rfl rfl)
theorem dX4_clearText_2 : decode cX4_clearText 2 = .ok (.putfield 49, 3) := dk_181 0 49 (dk_at dksX4_clearText_0 2 rfl rfl)
theorem dX4_clearText_5 : decode cX4_clearText 5 = .ok (.aload_n 0, 1) := dk_42 (dk_at dksX4_clearText_0 5 rfl rfl)
theorem dX4_clearText_6 : decode cX4_clearText 6 = .ok (.getfield 313, 3) := dk_180 1 57 (dk_at dksX4_clearText_0 6 rfl rfl)
theorem dX4_clearText_9 : decode cX4_clearText 9 = .ok (.istore_n 1, 1) := dk_60 (dk_at dksX4_clearText_0 9 rfl rfl)
theorem dX4_clearText_10 : decode cX4_clearText 10 = .ok (.aload_n 0, 1) := dk_42 (dk_at dksX4_clearText_0 10 rfl rfl)
theorem dX4_clearText_11 : decode cX4_clearText 11 = .ok (.iconst 0, 1) := dk_3 (dk_at dksX4_clearText_0 11 rfl rfl)
theorem dX4_clearText_12 : decode cX4_clearText 12 = .ok (.putfield 313, 3) := dk_181 1 57 (dk_at dksX4_clearText_0 12 rfl rfl)
theorem dX4_clearText_15 : decode cX4_clearText 15 = .ok (.iload_n 1, 1) := dk_27 (dk_at dksX4_clearText_0 15 rfl rfl)
theorem dX4_clearText_16 : decode cX4_clearText 16 = .ok (.ireturn, 1) := dk_172 (dk_at dksX4_clearText_0 16 rfl rfl)
abbrev cX4_faultPosition : ByteArray := prog_9_method_136_code
def yX4_faultPosition : MethodName := ⟨RX4, "faultPosition", "()I"⟩
def dkwX4_faultPosition_0 : List UInt8 := [42, 3, 182, 1, 106, 172]
abbrev dktX4_faultPosition_0 : List UInt8 := dkwX4_faultPosition_0 ++ []
theorem dksX4_faultPosition_0 : cX4_faultPosition.data.toList.drop 0 = dktX4_faultPosition_0 := by decide +kernel
theorem dX4_faultPosition_0 : decode cX4_faultPosition 0 = .ok (.aload_n 0, 1) := dk_42 (dk_at dksX4_faultPosition_0 0 rfl rfl)
theorem dX4_faultPosition_1 : decode cX4_faultPosition 1 = .ok (.iconst 0, 1) := dk_3 (dk_at dksX4_faultPosition_0 1 rfl rfl)
theorem dX4_faultPosition_2 : decode cX4_faultPosition 2 = .ok (.invokevirtual 362, 3) := dk_182 1 106 (dk_at dksX4_faultPosition_0 2 rfl rfl)
theorem dX4_faultPosition_5 : decode cX4_faultPosition 5 = .ok (.ireturn, 1) := dk_172 (dk_at dksX4_faultPosition_0 5 rfl rfl)
abbrev cX4_faultTold : ByteArray := prog_9_method_135_code
def yX4_faultTold : MethodName := ⟨RX4, "faultTold", "(I)I"⟩
def dkwX4_faultTold_3 : List UInt8 := [167, 0, 7, 42, 180, 1, 100, 172]
abbrev dktX4_faultTold_3 : List UInt8 := dkwX4_faultTold_3 ++ []
def dkwX4_faultTold_2 : List UInt8 := [167, 0, 30, 27, 154, 0, 10, 42, 180, 1, 73, 167, 0, 19, 27, 4, 160, 0, 10, 42, 180, 1, 91]
abbrev dktX4_faultTold_2 : List UInt8 := dkwX4_faultTold_2 ++ dktX4_faultTold_3
def dkwX4_faultTold_1 : List UInt8 := [180, 0, 13, 3, 42, 180, 0, 7, 3, 184, 0, 53, 42, 180, 1, 91, 154, 0, 11, 42, 4, 182, 0, 60]
abbrev dktX4_faultTold_1 : List UInt8 := dkwX4_faultTold_1 ++ dktX4_faultTold_2
def dkwX4_faultTold_0 : List UInt8 := [42, 3, 181, 0, 49, 42, 180, 0, 7, 3, 42, 180, 0, 13, 3, 184, 0, 53, 42, 182, 1, 103, 61, 42]
abbrev dktX4_faultTold_0 : List UInt8 := dkwX4_faultTold_0 ++ dktX4_faultTold_1
theorem dksX4_faultTold_0 : cX4_faultTold.data.toList.drop 0 = dktX4_faultTold_0 := by decide +kernel
theorem dksX4_faultTold_1 : cX4_faultTold.data.toList.drop 24 = dktX4_faultTold_1 := dk_seg dksX4_faultTold_0 24 rfl rfl
theorem dksX4_faultTold_2 : cX4_faultTold.data.toList.drop 48 = dktX4_faultTold_2 := dk_seg dksX4_faultTold_1 24 rfl rfl
theorem dksX4_faultTold_3 : cX4_faultTold.data.toList.drop 71 = dktX4_faultTold_3 := dk_seg dksX4_faultTold_2 23 rfl rfl
theorem dX4_faultTold_0 : decode cX4_faultTold 0 = .ok (.aload_n 0, 1) := dk_42 (dk_at dksX4_faultTold_0 0 rfl rfl)
theorem dX4_faultTold_1 : decode cX4_faultTold 1 = .ok (.iconst 0, 1) := dk_3 (dk_at dksX4_faultTold_0 1 rfl rfl)
theorem dX4_faultTold_2 : decode cX4_faultTold 2 = .ok (.putfield 49, 3) := dk_181 0 49 (dk_at dksX4_faultTold_0 2 rfl rfl)
theorem dX4_faultTold_5 : decode cX4_faultTold 5 = .ok (.aload_n 0, 1) := dk_42 (dk_at dksX4_faultTold_0 5 rfl rfl)
theorem dX4_faultTold_6 : decode cX4_faultTold 6 = .ok (.getfield 7, 3) := dk_180 0 7 (dk_at dksX4_faultTold_0 6 rfl rfl)
theorem dX4_faultTold_9 : decode cX4_faultTold 9 = .ok (.iconst 0, 1) := dk_3 (dk_at dksX4_faultTold_0 9 rfl rfl)
theorem dX4_faultTold_10 : decode cX4_faultTold 10 = .ok (.aload_n 0, 1) := dk_42 (dk_at dksX4_faultTold_0 10 rfl rfl)
theorem dX4_faultTold_11 : decode cX4_faultTold 11 = .ok (.getfield 13, 3) := dk_180 0 13 (dk_at dksX4_faultTold_0 11 rfl rfl)
theorem dX4_faultTold_14 : decode cX4_faultTold 14 = .ok (.iconst 0, 1) := dk_3 (dk_at dksX4_faultTold_0 14 rfl rfl)
theorem dX4_faultTold_15 : decode cX4_faultTold 15 = .ok (.invokestatic 53, 3) := dk_184 0 53 (dk_at dksX4_faultTold_0 15 rfl rfl)
theorem dX4_faultTold_18 : decode cX4_faultTold 18 = .ok (.aload_n 0, 1) := dk_42 (dk_at dksX4_faultTold_0 18 rfl rfl)
theorem dX4_faultTold_19 : decode cX4_faultTold 19 = .ok (.invokevirtual 359, 3) := dk_182 1 103 (dk_at dksX4_faultTold_0 19 rfl rfl)
theorem dX4_faultTold_22 : decode cX4_faultTold 22 = .ok (.istore_n 2, 1) := dk_61 (dk_at dksX4_faultTold_0 22 rfl rfl)
theorem dX4_faultTold_23 : decode cX4_faultTold 23 = .ok (.aload_n 0, 1) := dk_42 (dk_at dksX4_faultTold_0 23 rfl rfl)
theorem dX4_faultTold_24 : decode cX4_faultTold 24 = .ok (.getfield 13, 3) := dk_180 0 13 (dk_at dksX4_faultTold_1 0 rfl rfl)
theorem dX4_faultTold_27 : decode cX4_faultTold 27 = .ok (.iconst 0, 1) := dk_3 (dk_at dksX4_faultTold_1 3 rfl rfl)
theorem dX4_faultTold_28 : decode cX4_faultTold 28 = .ok (.aload_n 0, 1) := dk_42 (dk_at dksX4_faultTold_1 4 rfl rfl)
theorem dX4_faultTold_29 : decode cX4_faultTold 29 = .ok (.getfield 7, 3) := dk_180 0 7 (dk_at dksX4_faultTold_1 5 rfl rfl)
theorem dX4_faultTold_32 : decode cX4_faultTold 32 = .ok (.iconst 0, 1) := dk_3 (dk_at dksX4_faultTold_1 8 rfl rfl)
theorem dX4_faultTold_33 : decode cX4_faultTold 33 = .ok (.invokestatic 53, 3) := dk_184 0 53 (dk_at dksX4_faultTold_1 9 rfl rfl)
theorem dX4_faultTold_36 : decode cX4_faultTold 36 = .ok (.aload_n 0, 1) := dk_42 (dk_at dksX4_faultTold_1 12 rfl rfl)
theorem dX4_faultTold_37 : decode cX4_faultTold 37 = .ok (.getfield 347, 3) := dk_180 1 91 (dk_at dksX4_faultTold_1 13 rfl rfl)
theorem dX4_faultTold_40 : decode cX4_faultTold 40 = .ok (.ifCond .ne 11, 3) := dk_154 0 11 (dk_at dksX4_faultTold_1 16 rfl rfl)
theorem dX4_faultTold_43 : decode cX4_faultTold 43 = .ok (.aload_n 0, 1) := dk_42 (dk_at dksX4_faultTold_1 19 rfl rfl)
theorem dX4_faultTold_44 : decode cX4_faultTold 44 = .ok (.iconst 1, 1) := dk_4 (dk_at dksX4_faultTold_1 20 rfl rfl)
theorem dX4_faultTold_45 : decode cX4_faultTold 45 = .ok (.invokevirtual 60, 3) := dk_182 0 60 (dk_at dksX4_faultTold_1 21 rfl rfl)
theorem dX4_faultTold_48 : decode cX4_faultTold 48 = .ok (.goto 30, 3) := dk_167 0 30 (dk_at dksX4_faultTold_2 0 rfl rfl)
theorem dX4_faultTold_51 : decode cX4_faultTold 51 = .ok (.iload_n 1, 1) := dk_27 (dk_at dksX4_faultTold_2 3 rfl rfl)
theorem dX4_faultTold_52 : decode cX4_faultTold 52 = .ok (.ifCond .ne 10, 3) := dk_154 0 10 (dk_at dksX4_faultTold_2 4 rfl rfl)
theorem dX4_faultTold_55 : decode cX4_faultTold 55 = .ok (.aload_n 0, 1) := dk_42 (dk_at dksX4_faultTold_2 7 rfl rfl)
theorem dX4_faultTold_56 : decode cX4_faultTold 56 = .ok (.getfield 329, 3) := dk_180 1 73 (dk_at dksX4_faultTold_2 8 rfl rfl)
theorem dX4_faultTold_59 : decode cX4_faultTold 59 = .ok (.goto 19, 3) := dk_167 0 19 (dk_at dksX4_faultTold_2 11 rfl rfl)
theorem dX4_faultTold_62 : decode cX4_faultTold 62 = .ok (.iload_n 1, 1) := dk_27 (dk_at dksX4_faultTold_2 14 rfl rfl)
theorem dX4_faultTold_63 : decode cX4_faultTold 63 = .ok (.iconst 1, 1) := dk_4 (dk_at dksX4_faultTold_2 15 rfl rfl)
theorem dX4_faultTold_64 : decode cX4_faultTold 64 = .ok (.if_icmp .ne 10, 3) := dk_160 0 10 (dk_at dksX4_faultTold_2 16 rfl rfl)
theorem dX4_faultTold_67 : decode cX4_faultTold 67 = .ok (.aload_n 0, 1) := dk_42 (dk_at dksX4_faultTold_2 19 rfl rfl)
theorem dX4_faultTold_68 : decode cX4_faultTold 68 = .ok (.getfield 347, 3) := dk_180 1 91 (dk_at dksX4_faultTold_2 20 rfl rfl)
theorem dX4_faultTold_71 : decode cX4_faultTold 71 = .ok (.goto 7, 3) := dk_167 0 7 (dk_at dksX4_faultTold_3 0 rfl rfl)
theorem dX4_faultTold_74 : decode cX4_faultTold 74 = .ok (.aload_n 0, 1) := dk_42 (dk_at dksX4_faultTold_3 3 rfl rfl)
theorem dX4_faultTold_75 : decode cX4_faultTold 75 = .ok (.getfield 356, 3) := dk_180 1 100 (dk_at dksX4_faultTold_3 4 rfl rfl)
theorem dX4_faultTold_78 : decode cX4_faultTold 78 = .ok (.ireturn, 1) := dk_172 (dk_at dksX4_faultTold_3 7 rfl rfl)
abbrev cX4_doesAll : ByteArray := prog_9_method_134_code
def yX4_doesAll : MethodName := ⟨RX4, "doesAll", "()I"⟩
def dkwX4_doesAll_5 : List UInt8 := [181, 1, 100, 167, 0, 6, 132, 1, 1, 167, 255, 143, 27, 172]
abbrev dktX4_doesAll_5 : List UInt8 := dkwX4_doesAll_5 ++ []
def dkwX4_doesAll_4 : List UInt8 := [180, 1, 60, 42, 180, 1, 73, 100, 167, 0, 14, 28, 16, 245, 160, 0, 7, 4, 167, 0, 4, 5]
abbrev dktX4_doesAll_4 : List UInt8 := dkwX4_doesAll_4 ++ dktX4_doesAll_5
def dkwX4_doesAll_3 : List UInt8 := [180, 1, 63, 153, 0, 7, 5, 167, 0, 4, 4, 181, 1, 91, 42, 42, 180, 1, 63, 154, 0, 15, 42]
abbrev dktX4_doesAll_3 : List UInt8 := dkwX4_doesAll_3 ++ dktX4_doesAll_4
def dkwX4_doesAll_2 : List UInt8 := [3, 61, 42, 180, 1, 63, 153, 0, 15, 28, 16, 245, 159, 0, 9, 28, 16, 244, 160, 0, 56, 42, 42]
abbrev dktX4_doesAll_2 : List UInt8 := dkwX4_doesAll_2 ++ dktX4_doesAll_3
def dkwX4_doesAll_1 : List UInt8 := [180, 1, 57, 162, 0, 101, 42, 182, 1, 94, 42, 180, 1, 63, 153, 0, 10, 42, 182, 1, 97, 167, 0, 4]
abbrev dktX4_doesAll_1 : List UInt8 := dkwX4_doesAll_1 ++ dktX4_doesAll_2
def dkwX4_doesAll_0 : List UInt8 := [3, 60, 42, 3, 181, 1, 91, 42, 3, 181, 1, 60, 42, 180, 1, 91, 154, 0, 112, 42, 180, 1, 60, 42]
abbrev dktX4_doesAll_0 : List UInt8 := dkwX4_doesAll_0 ++ dktX4_doesAll_1
theorem dksX4_doesAll_0 : cX4_doesAll.data.toList.drop 0 = dktX4_doesAll_0 := by decide +kernel
theorem dksX4_doesAll_1 : cX4_doesAll.data.toList.drop 24 = dktX4_doesAll_1 := dk_seg dksX4_doesAll_0 24 rfl rfl
theorem dksX4_doesAll_2 : cX4_doesAll.data.toList.drop 48 = dktX4_doesAll_2 := dk_seg dksX4_doesAll_1 24 rfl rfl
theorem dksX4_doesAll_3 : cX4_doesAll.data.toList.drop 71 = dktX4_doesAll_3 := dk_seg dksX4_doesAll_2 23 rfl rfl
theorem dksX4_doesAll_4 : cX4_doesAll.data.toList.drop 94 = dktX4_doesAll_4 := dk_seg dksX4_doesAll_3 23 rfl rfl
theorem dksX4_doesAll_5 : cX4_doesAll.data.toList.drop 116 = dktX4_doesAll_5 := dk_seg dksX4_doesAll_4 22 rfl rfl
theorem dX4_doesAll_0 : decode cX4_doesAll 0 = .ok (.iconst 0, 1) := dk_3 (dk_at dksX4_doesAll_0 0 rfl rfl)
theorem dX4_doesAll_1 : decode cX4_doesAll 1 = .ok (.istore_n 1, 1) := dk_60 (dk_at dksX4_doesAll_0 1 rfl rfl)
theorem dX4_doesAll_2 : decode cX4_doesAll 2 = .ok (.aload_n 0, 1) := dk_42 (dk_at dksX4_doesAll_0 2 rfl rfl)
theorem dX4_doesAll_3 : decode cX4_doesAll 3 = .ok (.iconst 0, 1) := dk_3 (dk_at dksX4_doesAll_0 3 rfl rfl)
theorem dX4_doesAll_4 : decode cX4_doesAll 4 = .ok (.putfield 347, 3) := dk_181 1 91 (dk_at dksX4_doesAll_0 4 rfl rfl)
theorem dX4_doesAll_7 : decode cX4_doesAll 7 = .ok (.aload_n 0, 1) := dk_42 (dk_at dksX4_doesAll_0 7 rfl rfl)
theorem dX4_doesAll_8 : decode cX4_doesAll 8 = .ok (.iconst 0, 1) := dk_3 (dk_at dksX4_doesAll_0 8 rfl rfl)
theorem dX4_doesAll_9 : decode cX4_doesAll 9 = .ok (.putfield 316, 3) := dk_181 1 60 (dk_at dksX4_doesAll_0 9 rfl rfl)
theorem dX4_doesAll_12 : decode cX4_doesAll 12 = .ok (.aload_n 0, 1) := dk_42 (dk_at dksX4_doesAll_0 12 rfl rfl)
theorem dX4_doesAll_13 : decode cX4_doesAll 13 = .ok (.getfield 347, 3) := dk_180 1 91 (dk_at dksX4_doesAll_0 13 rfl rfl)
theorem dX4_doesAll_16 : decode cX4_doesAll 16 = .ok (.ifCond .ne 112, 3) := dk_154 0 112 (dk_at dksX4_doesAll_0 16 rfl rfl)
theorem dX4_doesAll_19 : decode cX4_doesAll 19 = .ok (.aload_n 0, 1) := dk_42 (dk_at dksX4_doesAll_0 19 rfl rfl)
theorem dX4_doesAll_20 : decode cX4_doesAll 20 = .ok (.getfield 316, 3) := dk_180 1 60 (dk_at dksX4_doesAll_0 20 rfl rfl)
theorem dX4_doesAll_23 : decode cX4_doesAll 23 = .ok (.aload_n 0, 1) := dk_42 (dk_at dksX4_doesAll_0 23 rfl rfl)
theorem dX4_doesAll_24 : decode cX4_doesAll 24 = .ok (.getfield 313, 3) := dk_180 1 57 (dk_at dksX4_doesAll_1 0 rfl rfl)
theorem dX4_doesAll_27 : decode cX4_doesAll 27 = .ok (.if_icmp .ge 101, 3) := dk_162 0 101 (dk_at dksX4_doesAll_1 3 rfl rfl)
theorem dX4_doesAll_30 : decode cX4_doesAll 30 = .ok (.aload_n 0, 1) := dk_42 (dk_at dksX4_doesAll_1 6 rfl rfl)
theorem dX4_doesAll_31 : decode cX4_doesAll 31 = .ok (.invokevirtual 350, 3) := dk_182 1 94 (dk_at dksX4_doesAll_1 7 rfl rfl)
theorem dX4_doesAll_34 : decode cX4_doesAll 34 = .ok (.aload_n 0, 1) := dk_42 (dk_at dksX4_doesAll_1 10 rfl rfl)
theorem dX4_doesAll_35 : decode cX4_doesAll 35 = .ok (.getfield 319, 3) := dk_180 1 63 (dk_at dksX4_doesAll_1 11 rfl rfl)
theorem dX4_doesAll_38 : decode cX4_doesAll 38 = .ok (.ifCond .eq 10, 3) := dk_153 0 10 (dk_at dksX4_doesAll_1 14 rfl rfl)
theorem dX4_doesAll_41 : decode cX4_doesAll 41 = .ok (.aload_n 0, 1) := dk_42 (dk_at dksX4_doesAll_1 17 rfl rfl)
theorem dX4_doesAll_42 : decode cX4_doesAll 42 = .ok (.invokevirtual 353, 3) := dk_182 1 97 (dk_at dksX4_doesAll_1 18 rfl rfl)
theorem dX4_doesAll_45 : decode cX4_doesAll 45 = .ok (.goto 4, 3) := dk_167 0 4 (dk_at dksX4_doesAll_1 21 rfl rfl)
theorem dX4_doesAll_48 : decode cX4_doesAll 48 = .ok (.iconst 0, 1) := dk_3 (dk_at dksX4_doesAll_2 0 rfl rfl)
theorem dX4_doesAll_49 : decode cX4_doesAll 49 = .ok (.istore_n 2, 1) := dk_61 (dk_at dksX4_doesAll_2 1 rfl rfl)
theorem dX4_doesAll_50 : decode cX4_doesAll 50 = .ok (.aload_n 0, 1) := dk_42 (dk_at dksX4_doesAll_2 2 rfl rfl)
theorem dX4_doesAll_51 : decode cX4_doesAll 51 = .ok (.getfield 319, 3) := dk_180 1 63 (dk_at dksX4_doesAll_2 3 rfl rfl)
theorem dX4_doesAll_54 : decode cX4_doesAll 54 = .ok (.ifCond .eq 15, 3) := dk_153 0 15 (dk_at dksX4_doesAll_2 6 rfl rfl)
theorem dX4_doesAll_57 : decode cX4_doesAll 57 = .ok (.iload_n 2, 1) := dk_28 (dk_at dksX4_doesAll_2 9 rfl rfl)
theorem dX4_doesAll_58 : decode cX4_doesAll 58 = .ok (.bipush (-11), 2) := dk_16 245 (dk_at dksX4_doesAll_2 10 rfl rfl)
theorem dX4_doesAll_60 : decode cX4_doesAll 60 = .ok (.if_icmp .eq 9, 3) := dk_159 0 9 (dk_at dksX4_doesAll_2 12 rfl rfl)
theorem dX4_doesAll_63 : decode cX4_doesAll 63 = .ok (.iload_n 2, 1) := dk_28 (dk_at dksX4_doesAll_2 15 rfl rfl)
theorem dX4_doesAll_64 : decode cX4_doesAll 64 = .ok (.bipush (-12), 2) := dk_16 244 (dk_at dksX4_doesAll_2 16 rfl rfl)
theorem dX4_doesAll_66 : decode cX4_doesAll 66 = .ok (.if_icmp .ne 56, 3) := dk_160 0 56 (dk_at dksX4_doesAll_2 18 rfl rfl)
theorem dX4_doesAll_69 : decode cX4_doesAll 69 = .ok (.aload_n 0, 1) := dk_42 (dk_at dksX4_doesAll_2 21 rfl rfl)
theorem dX4_doesAll_70 : decode cX4_doesAll 70 = .ok (.aload_n 0, 1) := dk_42 (dk_at dksX4_doesAll_2 22 rfl rfl)
theorem dX4_doesAll_71 : decode cX4_doesAll 71 = .ok (.getfield 319, 3) := dk_180 1 63 (dk_at dksX4_doesAll_3 0 rfl rfl)
theorem dX4_doesAll_74 : decode cX4_doesAll 74 = .ok (.ifCond .eq 7, 3) := dk_153 0 7 (dk_at dksX4_doesAll_3 3 rfl rfl)
theorem dX4_doesAll_77 : decode cX4_doesAll 77 = .ok (.iconst 2, 1) := dk_5 (dk_at dksX4_doesAll_3 6 rfl rfl)
theorem dX4_doesAll_78 : decode cX4_doesAll 78 = .ok (.goto 4, 3) := dk_167 0 4 (dk_at dksX4_doesAll_3 7 rfl rfl)
theorem dX4_doesAll_81 : decode cX4_doesAll 81 = .ok (.iconst 1, 1) := dk_4 (dk_at dksX4_doesAll_3 10 rfl rfl)
theorem dX4_doesAll_82 : decode cX4_doesAll 82 = .ok (.putfield 347, 3) := dk_181 1 91 (dk_at dksX4_doesAll_3 11 rfl rfl)
theorem dX4_doesAll_85 : decode cX4_doesAll 85 = .ok (.aload_n 0, 1) := dk_42 (dk_at dksX4_doesAll_3 14 rfl rfl)
theorem dX4_doesAll_86 : decode cX4_doesAll 86 = .ok (.aload_n 0, 1) := dk_42 (dk_at dksX4_doesAll_3 15 rfl rfl)
theorem dX4_doesAll_87 : decode cX4_doesAll 87 = .ok (.getfield 319, 3) := dk_180 1 63 (dk_at dksX4_doesAll_3 16 rfl rfl)
theorem dX4_doesAll_90 : decode cX4_doesAll 90 = .ok (.ifCond .ne 15, 3) := dk_154 0 15 (dk_at dksX4_doesAll_3 19 rfl rfl)
theorem dX4_doesAll_93 : decode cX4_doesAll 93 = .ok (.aload_n 0, 1) := dk_42 (dk_at dksX4_doesAll_3 22 rfl rfl)
theorem dX4_doesAll_94 : decode cX4_doesAll 94 = .ok (.getfield 316, 3) := dk_180 1 60 (dk_at dksX4_doesAll_4 0 rfl rfl)
theorem dX4_doesAll_97 : decode cX4_doesAll 97 = .ok (.aload_n 0, 1) := dk_42 (dk_at dksX4_doesAll_4 3 rfl rfl)
theorem dX4_doesAll_98 : decode cX4_doesAll 98 = .ok (.getfield 329, 3) := dk_180 1 73 (dk_at dksX4_doesAll_4 4 rfl rfl)
theorem dX4_doesAll_101 : decode cX4_doesAll 101 = .ok (.isub, 1) := dk_100 (dk_at dksX4_doesAll_4 7 rfl rfl)
theorem dX4_doesAll_102 : decode cX4_doesAll 102 = .ok (.goto 14, 3) := dk_167 0 14 (dk_at dksX4_doesAll_4 8 rfl rfl)
theorem dX4_doesAll_105 : decode cX4_doesAll 105 = .ok (.iload_n 2, 1) := dk_28 (dk_at dksX4_doesAll_4 11 rfl rfl)
theorem dX4_doesAll_106 : decode cX4_doesAll 106 = .ok (.bipush (-11), 2) := dk_16 245 (dk_at dksX4_doesAll_4 12 rfl rfl)
theorem dX4_doesAll_108 : decode cX4_doesAll 108 = .ok (.if_icmp .ne 7, 3) := dk_160 0 7 (dk_at dksX4_doesAll_4 14 rfl rfl)
theorem dX4_doesAll_111 : decode cX4_doesAll 111 = .ok (.iconst 1, 1) := dk_4 (dk_at dksX4_doesAll_4 17 rfl rfl)
theorem dX4_doesAll_112 : decode cX4_doesAll 112 = .ok (.goto 4, 3) := dk_167 0 4 (dk_at dksX4_doesAll_4 18 rfl rfl)
theorem dX4_doesAll_115 : decode cX4_doesAll 115 = .ok (.iconst 2, 1) := dk_5 (dk_at dksX4_doesAll_4 21 rfl rfl)
theorem dX4_doesAll_116 : decode cX4_doesAll 116 = .ok (.putfield 356, 3) := dk_181 1 100 (dk_at dksX4_doesAll_5 0 rfl rfl)
theorem dX4_doesAll_119 : decode cX4_doesAll 119 = .ok (.goto 6, 3) := dk_167 0 6 (dk_at dksX4_doesAll_5 3 rfl rfl)
theorem dX4_doesAll_122 : decode cX4_doesAll 122 = .ok (.iinc 1 1, 3) := dk_132 1 1 (dk_at dksX4_doesAll_5 6 rfl rfl)
theorem dX4_doesAll_125 : decode cX4_doesAll 125 = .ok (.goto (-113), 3) := dk_167 255 143 (dk_at dksX4_doesAll_5 9 rfl rfl)
theorem dX4_doesAll_128 : decode cX4_doesAll 128 = .ok (.iload_n 1, 1) := dk_27 (dk_at dksX4_doesAll_5 12 rfl rfl)
theorem dX4_doesAll_129 : decode cX4_doesAll 129 = .ok (.ireturn, 1) := dk_172 (dk_at dksX4_doesAll_5 13 rfl rfl)
abbrev cX4_takesOrder : ByteArray := prog_9_method_132_code
def yX4_takesOrder : MethodName := ⟨RX4, "takesOrder", "()V"⟩
def dkwX4_takesOrder_9 : List UInt8 := [167, 0, 4, 3, 182, 1, 69, 177]
abbrev dktX4_takesOrder_9 : List UInt8 := dkwX4_takesOrder_9 ++ []
def dkwX4_takesOrder_8 : List UInt8 := [182, 1, 69, 42, 42, 182, 1, 79, 181, 1, 88, 42, 42, 182, 1, 66, 16, 59, 160, 0, 7, 4]
abbrev dktX4_takesOrder_8 : List UInt8 := dkwX4_takesOrder_8 ++ dktX4_takesOrder_9
def dkwX4_takesOrder_7 : List UInt8 := [42, 180, 1, 76, 16, 100, 160, 0, 29, 42, 42, 182, 1, 66, 16, 44, 160, 0, 7, 4, 167, 0, 4, 3]
abbrev dktX4_takesOrder_7 : List UInt8 := dkwX4_takesOrder_7 ++ dktX4_takesOrder_8
def dkwX4_takesOrder_6 : List UInt8 := [182, 1, 66, 16, 44, 160, 0, 7, 4, 167, 0, 4, 3, 182, 1, 69, 42, 42, 182, 1, 79, 181, 1, 85]
abbrev dktX4_takesOrder_6 : List UInt8 := dkwX4_takesOrder_6 ++ dktX4_takesOrder_7
def dkwX4_takesOrder_5 : List UInt8 := [42, 42, 182, 1, 79, 181, 1, 82, 28, 154, 0, 12, 42, 180, 1, 76, 16, 100, 160, 0, 29, 42, 42]
abbrev dktX4_takesOrder_5 : List UInt8 := dkwX4_takesOrder_5 ++ dktX4_takesOrder_6
def dkwX4_takesOrder_4 : List UInt8 := [159, 0, 12, 42, 180, 1, 76, 16, 102, 160, 0, 7, 4, 167, 0, 4, 3, 182, 1, 69, 27, 154, 0, 11]
abbrev dktX4_takesOrder_4 : List UInt8 := dkwX4_takesOrder_4 ++ dktX4_takesOrder_5
def dkwX4_takesOrder_3 : List UInt8 := [160, 0, 7, 4, 167, 0, 4, 3, 61, 42, 27, 154, 0, 25, 28, 154, 0, 21, 42, 180, 1, 76, 16, 100]
abbrev dktX4_takesOrder_3 : List UInt8 := dkwX4_takesOrder_3 ++ dktX4_takesOrder_4
def dkwX4_takesOrder_2 : List UInt8 := [180, 1, 76, 16, 109, 159, 0, 21, 42, 180, 1, 76, 16, 108, 159, 0, 12, 42, 180, 1, 76, 16, 114]
abbrev dktX4_takesOrder_2 : List UInt8 := dkwX4_takesOrder_2 ++ dktX4_takesOrder_3
def dkwX4_takesOrder_1 : List UInt8 := [180, 1, 76, 16, 119, 159, 0, 12, 42, 180, 1, 76, 16, 116, 160, 0, 7, 4, 167, 0, 4, 3, 60, 42]
abbrev dktX4_takesOrder_1 : List UInt8 := dkwX4_takesOrder_1 ++ dktX4_takesOrder_2
def dkwX4_takesOrder_0 : List UInt8 := [42, 42, 180, 1, 60, 181, 1, 73, 42, 4, 181, 1, 63, 42, 42, 182, 1, 66, 181, 1, 76, 42]
abbrev dktX4_takesOrder_0 : List UInt8 := dkwX4_takesOrder_0 ++ dktX4_takesOrder_1
theorem dksX4_takesOrder_0 : cX4_takesOrder.data.toList.drop 0 = dktX4_takesOrder_0 := by decide +kernel
theorem dksX4_takesOrder_1 : cX4_takesOrder.data.toList.drop 22 = dktX4_takesOrder_1 := dk_seg dksX4_takesOrder_0 22 rfl rfl
theorem dksX4_takesOrder_2 : cX4_takesOrder.data.toList.drop 46 = dktX4_takesOrder_2 := dk_seg dksX4_takesOrder_1 24 rfl rfl
theorem dksX4_takesOrder_3 : cX4_takesOrder.data.toList.drop 69 = dktX4_takesOrder_3 := dk_seg dksX4_takesOrder_2 23 rfl rfl
theorem dksX4_takesOrder_4 : cX4_takesOrder.data.toList.drop 93 = dktX4_takesOrder_4 := dk_seg dksX4_takesOrder_3 24 rfl rfl
theorem dksX4_takesOrder_5 : cX4_takesOrder.data.toList.drop 117 = dktX4_takesOrder_5 := dk_seg dksX4_takesOrder_4 24 rfl rfl
theorem dksX4_takesOrder_6 : cX4_takesOrder.data.toList.drop 140 = dktX4_takesOrder_6 := dk_seg dksX4_takesOrder_5 23 rfl rfl
theorem dksX4_takesOrder_7 : cX4_takesOrder.data.toList.drop 164 = dktX4_takesOrder_7 := dk_seg dksX4_takesOrder_6 24 rfl rfl
theorem dksX4_takesOrder_8 : cX4_takesOrder.data.toList.drop 188 = dktX4_takesOrder_8 := dk_seg dksX4_takesOrder_7 24 rfl rfl
theorem dksX4_takesOrder_9 : cX4_takesOrder.data.toList.drop 210 = dktX4_takesOrder_9 := dk_seg dksX4_takesOrder_8 22 rfl rfl
theorem dX4_takesOrder_0 : decode cX4_takesOrder 0 = .ok (.aload_n 0, 1) := dk_42 (dk_at dksX4_takesOrder_0 0 rfl rfl)
theorem dX4_takesOrder_1 : decode cX4_takesOrder 1 = .ok (.aload_n 0, 1) := dk_42 (dk_at dksX4_takesOrder_0 1 rfl rfl)
theorem dX4_takesOrder_2 : decode cX4_takesOrder 2 = .ok (.getfield 316, 3) := dk_180 1 60 (dk_at dksX4_takesOrder_0 2 rfl rfl)
theorem dX4_takesOrder_5 : decode cX4_takesOrder 5 = .ok (.putfield 329, 3) := dk_181 1 73 (dk_at dksX4_takesOrder_0 5 rfl rfl)
theorem dX4_takesOrder_8 : decode cX4_takesOrder 8 = .ok (.aload_n 0, 1) := dk_42 (dk_at dksX4_takesOrder_0 8 rfl rfl)
theorem dX4_takesOrder_9 : decode cX4_takesOrder 9 = .ok (.iconst 1, 1) := dk_4 (dk_at dksX4_takesOrder_0 9 rfl rfl)
theorem dX4_takesOrder_10 : decode cX4_takesOrder 10 = .ok (.putfield 319, 3) := dk_181 1 63 (dk_at dksX4_takesOrder_0 10 rfl rfl)
theorem dX4_takesOrder_13 : decode cX4_takesOrder 13 = .ok (.aload_n 0, 1) := dk_42 (dk_at dksX4_takesOrder_0 13 rfl rfl)
theorem dX4_takesOrder_14 : decode cX4_takesOrder 14 = .ok (.aload_n 0, 1) := dk_42 (dk_at dksX4_takesOrder_0 14 rfl rfl)
theorem dX4_takesOrder_15 : decode cX4_takesOrder 15 = .ok (.invokevirtual 322, 3) := dk_182 1 66 (dk_at dksX4_takesOrder_0 15 rfl rfl)
theorem dX4_takesOrder_18 : decode cX4_takesOrder 18 = .ok (.putfield 332, 3) := dk_181 1 76 (dk_at dksX4_takesOrder_0 18 rfl rfl)
theorem dX4_takesOrder_21 : decode cX4_takesOrder 21 = .ok (.aload_n 0, 1) := dk_42 (dk_at dksX4_takesOrder_0 21 rfl rfl)
theorem dX4_takesOrder_22 : decode cX4_takesOrder 22 = .ok (.getfield 332, 3) := dk_180 1 76 (dk_at dksX4_takesOrder_1 0 rfl rfl)
theorem dX4_takesOrder_25 : decode cX4_takesOrder 25 = .ok (.bipush 119, 2) := dk_16 119 (dk_at dksX4_takesOrder_1 3 rfl rfl)
theorem dX4_takesOrder_27 : decode cX4_takesOrder 27 = .ok (.if_icmp .eq 12, 3) := dk_159 0 12 (dk_at dksX4_takesOrder_1 5 rfl rfl)
theorem dX4_takesOrder_30 : decode cX4_takesOrder 30 = .ok (.aload_n 0, 1) := dk_42 (dk_at dksX4_takesOrder_1 8 rfl rfl)
theorem dX4_takesOrder_31 : decode cX4_takesOrder 31 = .ok (.getfield 332, 3) := dk_180 1 76 (dk_at dksX4_takesOrder_1 9 rfl rfl)
theorem dX4_takesOrder_34 : decode cX4_takesOrder 34 = .ok (.bipush 116, 2) := dk_16 116 (dk_at dksX4_takesOrder_1 12 rfl rfl)
theorem dX4_takesOrder_36 : decode cX4_takesOrder 36 = .ok (.if_icmp .ne 7, 3) := dk_160 0 7 (dk_at dksX4_takesOrder_1 14 rfl rfl)
theorem dX4_takesOrder_39 : decode cX4_takesOrder 39 = .ok (.iconst 1, 1) := dk_4 (dk_at dksX4_takesOrder_1 17 rfl rfl)
theorem dX4_takesOrder_40 : decode cX4_takesOrder 40 = .ok (.goto 4, 3) := dk_167 0 4 (dk_at dksX4_takesOrder_1 18 rfl rfl)
theorem dX4_takesOrder_43 : decode cX4_takesOrder 43 = .ok (.iconst 0, 1) := dk_3 (dk_at dksX4_takesOrder_1 21 rfl rfl)
theorem dX4_takesOrder_44 : decode cX4_takesOrder 44 = .ok (.istore_n 1, 1) := dk_60 (dk_at dksX4_takesOrder_1 22 rfl rfl)
theorem dX4_takesOrder_45 : decode cX4_takesOrder 45 = .ok (.aload_n 0, 1) := dk_42 (dk_at dksX4_takesOrder_1 23 rfl rfl)
theorem dX4_takesOrder_46 : decode cX4_takesOrder 46 = .ok (.getfield 332, 3) := dk_180 1 76 (dk_at dksX4_takesOrder_2 0 rfl rfl)
theorem dX4_takesOrder_49 : decode cX4_takesOrder 49 = .ok (.bipush 109, 2) := dk_16 109 (dk_at dksX4_takesOrder_2 3 rfl rfl)
theorem dX4_takesOrder_51 : decode cX4_takesOrder 51 = .ok (.if_icmp .eq 21, 3) := dk_159 0 21 (dk_at dksX4_takesOrder_2 5 rfl rfl)
theorem dX4_takesOrder_54 : decode cX4_takesOrder 54 = .ok (.aload_n 0, 1) := dk_42 (dk_at dksX4_takesOrder_2 8 rfl rfl)
theorem dX4_takesOrder_55 : decode cX4_takesOrder 55 = .ok (.getfield 332, 3) := dk_180 1 76 (dk_at dksX4_takesOrder_2 9 rfl rfl)
theorem dX4_takesOrder_58 : decode cX4_takesOrder 58 = .ok (.bipush 108, 2) := dk_16 108 (dk_at dksX4_takesOrder_2 12 rfl rfl)
theorem dX4_takesOrder_60 : decode cX4_takesOrder 60 = .ok (.if_icmp .eq 12, 3) := dk_159 0 12 (dk_at dksX4_takesOrder_2 14 rfl rfl)
theorem dX4_takesOrder_63 : decode cX4_takesOrder 63 = .ok (.aload_n 0, 1) := dk_42 (dk_at dksX4_takesOrder_2 17 rfl rfl)
theorem dX4_takesOrder_64 : decode cX4_takesOrder 64 = .ok (.getfield 332, 3) := dk_180 1 76 (dk_at dksX4_takesOrder_2 18 rfl rfl)
theorem dX4_takesOrder_67 : decode cX4_takesOrder 67 = .ok (.bipush 114, 2) := dk_16 114 (dk_at dksX4_takesOrder_2 21 rfl rfl)
theorem dX4_takesOrder_69 : decode cX4_takesOrder 69 = .ok (.if_icmp .ne 7, 3) := dk_160 0 7 (dk_at dksX4_takesOrder_3 0 rfl rfl)
theorem dX4_takesOrder_72 : decode cX4_takesOrder 72 = .ok (.iconst 1, 1) := dk_4 (dk_at dksX4_takesOrder_3 3 rfl rfl)
theorem dX4_takesOrder_73 : decode cX4_takesOrder 73 = .ok (.goto 4, 3) := dk_167 0 4 (dk_at dksX4_takesOrder_3 4 rfl rfl)
theorem dX4_takesOrder_76 : decode cX4_takesOrder 76 = .ok (.iconst 0, 1) := dk_3 (dk_at dksX4_takesOrder_3 7 rfl rfl)
theorem dX4_takesOrder_77 : decode cX4_takesOrder 77 = .ok (.istore_n 2, 1) := dk_61 (dk_at dksX4_takesOrder_3 8 rfl rfl)
theorem dX4_takesOrder_78 : decode cX4_takesOrder 78 = .ok (.aload_n 0, 1) := dk_42 (dk_at dksX4_takesOrder_3 9 rfl rfl)
theorem dX4_takesOrder_79 : decode cX4_takesOrder 79 = .ok (.iload_n 1, 1) := dk_27 (dk_at dksX4_takesOrder_3 10 rfl rfl)
theorem dX4_takesOrder_80 : decode cX4_takesOrder 80 = .ok (.ifCond .ne 25, 3) := dk_154 0 25 (dk_at dksX4_takesOrder_3 11 rfl rfl)
theorem dX4_takesOrder_83 : decode cX4_takesOrder 83 = .ok (.iload_n 2, 1) := dk_28 (dk_at dksX4_takesOrder_3 14 rfl rfl)
theorem dX4_takesOrder_84 : decode cX4_takesOrder 84 = .ok (.ifCond .ne 21, 3) := dk_154 0 21 (dk_at dksX4_takesOrder_3 15 rfl rfl)
theorem dX4_takesOrder_87 : decode cX4_takesOrder 87 = .ok (.aload_n 0, 1) := dk_42 (dk_at dksX4_takesOrder_3 18 rfl rfl)
theorem dX4_takesOrder_88 : decode cX4_takesOrder 88 = .ok (.getfield 332, 3) := dk_180 1 76 (dk_at dksX4_takesOrder_3 19 rfl rfl)
theorem dX4_takesOrder_91 : decode cX4_takesOrder 91 = .ok (.bipush 100, 2) := dk_16 100 (dk_at dksX4_takesOrder_3 22 rfl rfl)
theorem dX4_takesOrder_93 : decode cX4_takesOrder 93 = .ok (.if_icmp .eq 12, 3) := dk_159 0 12 (dk_at dksX4_takesOrder_4 0 rfl rfl)
theorem dX4_takesOrder_96 : decode cX4_takesOrder 96 = .ok (.aload_n 0, 1) := dk_42 (dk_at dksX4_takesOrder_4 3 rfl rfl)
theorem dX4_takesOrder_97 : decode cX4_takesOrder 97 = .ok (.getfield 332, 3) := dk_180 1 76 (dk_at dksX4_takesOrder_4 4 rfl rfl)
theorem dX4_takesOrder_100 : decode cX4_takesOrder 100 = .ok (.bipush 102, 2) := dk_16 102 (dk_at dksX4_takesOrder_4 7 rfl rfl)
theorem dX4_takesOrder_102 : decode cX4_takesOrder 102 = .ok (.if_icmp .ne 7, 3) := dk_160 0 7 (dk_at dksX4_takesOrder_4 9 rfl rfl)
theorem dX4_takesOrder_105 : decode cX4_takesOrder 105 = .ok (.iconst 1, 1) := dk_4 (dk_at dksX4_takesOrder_4 12 rfl rfl)
theorem dX4_takesOrder_106 : decode cX4_takesOrder 106 = .ok (.goto 4, 3) := dk_167 0 4 (dk_at dksX4_takesOrder_4 13 rfl rfl)
theorem dX4_takesOrder_109 : decode cX4_takesOrder 109 = .ok (.iconst 0, 1) := dk_3 (dk_at dksX4_takesOrder_4 16 rfl rfl)
theorem dX4_takesOrder_110 : decode cX4_takesOrder 110 = .ok (.invokevirtual 325, 3) := dk_182 1 69 (dk_at dksX4_takesOrder_4 17 rfl rfl)
theorem dX4_takesOrder_113 : decode cX4_takesOrder 113 = .ok (.iload_n 1, 1) := dk_27 (dk_at dksX4_takesOrder_4 20 rfl rfl)
theorem dX4_takesOrder_114 : decode cX4_takesOrder 114 = .ok (.ifCond .ne 11, 3) := dk_154 0 11 (dk_at dksX4_takesOrder_4 21 rfl rfl)
theorem dX4_takesOrder_117 : decode cX4_takesOrder 117 = .ok (.aload_n 0, 1) := dk_42 (dk_at dksX4_takesOrder_5 0 rfl rfl)
theorem dX4_takesOrder_118 : decode cX4_takesOrder 118 = .ok (.aload_n 0, 1) := dk_42 (dk_at dksX4_takesOrder_5 1 rfl rfl)
theorem dX4_takesOrder_119 : decode cX4_takesOrder 119 = .ok (.invokevirtual 335, 3) := dk_182 1 79 (dk_at dksX4_takesOrder_5 2 rfl rfl)
theorem dX4_takesOrder_122 : decode cX4_takesOrder 122 = .ok (.putfield 338, 3) := dk_181 1 82 (dk_at dksX4_takesOrder_5 5 rfl rfl)
theorem dX4_takesOrder_125 : decode cX4_takesOrder 125 = .ok (.iload_n 2, 1) := dk_28 (dk_at dksX4_takesOrder_5 8 rfl rfl)
theorem dX4_takesOrder_126 : decode cX4_takesOrder 126 = .ok (.ifCond .ne 12, 3) := dk_154 0 12 (dk_at dksX4_takesOrder_5 9 rfl rfl)
theorem dX4_takesOrder_129 : decode cX4_takesOrder 129 = .ok (.aload_n 0, 1) := dk_42 (dk_at dksX4_takesOrder_5 12 rfl rfl)
theorem dX4_takesOrder_130 : decode cX4_takesOrder 130 = .ok (.getfield 332, 3) := dk_180 1 76 (dk_at dksX4_takesOrder_5 13 rfl rfl)
theorem dX4_takesOrder_133 : decode cX4_takesOrder 133 = .ok (.bipush 100, 2) := dk_16 100 (dk_at dksX4_takesOrder_5 16 rfl rfl)
theorem dX4_takesOrder_135 : decode cX4_takesOrder 135 = .ok (.if_icmp .ne 29, 3) := dk_160 0 29 (dk_at dksX4_takesOrder_5 18 rfl rfl)
theorem dX4_takesOrder_138 : decode cX4_takesOrder 138 = .ok (.aload_n 0, 1) := dk_42 (dk_at dksX4_takesOrder_5 21 rfl rfl)
theorem dX4_takesOrder_139 : decode cX4_takesOrder 139 = .ok (.aload_n 0, 1) := dk_42 (dk_at dksX4_takesOrder_5 22 rfl rfl)
theorem dX4_takesOrder_140 : decode cX4_takesOrder 140 = .ok (.invokevirtual 322, 3) := dk_182 1 66 (dk_at dksX4_takesOrder_6 0 rfl rfl)
theorem dX4_takesOrder_143 : decode cX4_takesOrder 143 = .ok (.bipush 44, 2) := dk_16 44 (dk_at dksX4_takesOrder_6 3 rfl rfl)
theorem dX4_takesOrder_145 : decode cX4_takesOrder 145 = .ok (.if_icmp .ne 7, 3) := dk_160 0 7 (dk_at dksX4_takesOrder_6 5 rfl rfl)
theorem dX4_takesOrder_148 : decode cX4_takesOrder 148 = .ok (.iconst 1, 1) := dk_4 (dk_at dksX4_takesOrder_6 8 rfl rfl)
theorem dX4_takesOrder_149 : decode cX4_takesOrder 149 = .ok (.goto 4, 3) := dk_167 0 4 (dk_at dksX4_takesOrder_6 9 rfl rfl)
theorem dX4_takesOrder_152 : decode cX4_takesOrder 152 = .ok (.iconst 0, 1) := dk_3 (dk_at dksX4_takesOrder_6 12 rfl rfl)
theorem dX4_takesOrder_153 : decode cX4_takesOrder 153 = .ok (.invokevirtual 325, 3) := dk_182 1 69 (dk_at dksX4_takesOrder_6 13 rfl rfl)
theorem dX4_takesOrder_156 : decode cX4_takesOrder 156 = .ok (.aload_n 0, 1) := dk_42 (dk_at dksX4_takesOrder_6 16 rfl rfl)
theorem dX4_takesOrder_157 : decode cX4_takesOrder 157 = .ok (.aload_n 0, 1) := dk_42 (dk_at dksX4_takesOrder_6 17 rfl rfl)
theorem dX4_takesOrder_158 : decode cX4_takesOrder 158 = .ok (.invokevirtual 335, 3) := dk_182 1 79 (dk_at dksX4_takesOrder_6 18 rfl rfl)
theorem dX4_takesOrder_161 : decode cX4_takesOrder 161 = .ok (.putfield 341, 3) := dk_181 1 85 (dk_at dksX4_takesOrder_6 21 rfl rfl)
theorem dX4_takesOrder_164 : decode cX4_takesOrder 164 = .ok (.aload_n 0, 1) := dk_42 (dk_at dksX4_takesOrder_7 0 rfl rfl)
theorem dX4_takesOrder_165 : decode cX4_takesOrder 165 = .ok (.getfield 332, 3) := dk_180 1 76 (dk_at dksX4_takesOrder_7 1 rfl rfl)
theorem dX4_takesOrder_168 : decode cX4_takesOrder 168 = .ok (.bipush 100, 2) := dk_16 100 (dk_at dksX4_takesOrder_7 4 rfl rfl)
theorem dX4_takesOrder_170 : decode cX4_takesOrder 170 = .ok (.if_icmp .ne 29, 3) := dk_160 0 29 (dk_at dksX4_takesOrder_7 6 rfl rfl)
theorem dX4_takesOrder_173 : decode cX4_takesOrder 173 = .ok (.aload_n 0, 1) := dk_42 (dk_at dksX4_takesOrder_7 9 rfl rfl)
theorem dX4_takesOrder_174 : decode cX4_takesOrder 174 = .ok (.aload_n 0, 1) := dk_42 (dk_at dksX4_takesOrder_7 10 rfl rfl)
theorem dX4_takesOrder_175 : decode cX4_takesOrder 175 = .ok (.invokevirtual 322, 3) := dk_182 1 66 (dk_at dksX4_takesOrder_7 11 rfl rfl)
theorem dX4_takesOrder_178 : decode cX4_takesOrder 178 = .ok (.bipush 44, 2) := dk_16 44 (dk_at dksX4_takesOrder_7 14 rfl rfl)
theorem dX4_takesOrder_180 : decode cX4_takesOrder 180 = .ok (.if_icmp .ne 7, 3) := dk_160 0 7 (dk_at dksX4_takesOrder_7 16 rfl rfl)
theorem dX4_takesOrder_183 : decode cX4_takesOrder 183 = .ok (.iconst 1, 1) := dk_4 (dk_at dksX4_takesOrder_7 19 rfl rfl)
theorem dX4_takesOrder_184 : decode cX4_takesOrder 184 = .ok (.goto 4, 3) := dk_167 0 4 (dk_at dksX4_takesOrder_7 20 rfl rfl)
theorem dX4_takesOrder_187 : decode cX4_takesOrder 187 = .ok (.iconst 0, 1) := dk_3 (dk_at dksX4_takesOrder_7 23 rfl rfl)
theorem dX4_takesOrder_188 : decode cX4_takesOrder 188 = .ok (.invokevirtual 325, 3) := dk_182 1 69 (dk_at dksX4_takesOrder_8 0 rfl rfl)
theorem dX4_takesOrder_191 : decode cX4_takesOrder 191 = .ok (.aload_n 0, 1) := dk_42 (dk_at dksX4_takesOrder_8 3 rfl rfl)
theorem dX4_takesOrder_192 : decode cX4_takesOrder 192 = .ok (.aload_n 0, 1) := dk_42 (dk_at dksX4_takesOrder_8 4 rfl rfl)
theorem dX4_takesOrder_193 : decode cX4_takesOrder 193 = .ok (.invokevirtual 335, 3) := dk_182 1 79 (dk_at dksX4_takesOrder_8 5 rfl rfl)
theorem dX4_takesOrder_196 : decode cX4_takesOrder 196 = .ok (.putfield 344, 3) := dk_181 1 88 (dk_at dksX4_takesOrder_8 8 rfl rfl)
theorem dX4_takesOrder_199 : decode cX4_takesOrder 199 = .ok (.aload_n 0, 1) := dk_42 (dk_at dksX4_takesOrder_8 11 rfl rfl)
theorem dX4_takesOrder_200 : decode cX4_takesOrder 200 = .ok (.aload_n 0, 1) := dk_42 (dk_at dksX4_takesOrder_8 12 rfl rfl)
theorem dX4_takesOrder_201 : decode cX4_takesOrder 201 = .ok (.invokevirtual 322, 3) := dk_182 1 66 (dk_at dksX4_takesOrder_8 13 rfl rfl)
theorem dX4_takesOrder_204 : decode cX4_takesOrder 204 = .ok (.bipush 59, 2) := dk_16 59 (dk_at dksX4_takesOrder_8 16 rfl rfl)
theorem dX4_takesOrder_206 : decode cX4_takesOrder 206 = .ok (.if_icmp .ne 7, 3) := dk_160 0 7 (dk_at dksX4_takesOrder_8 18 rfl rfl)
theorem dX4_takesOrder_209 : decode cX4_takesOrder 209 = .ok (.iconst 1, 1) := dk_4 (dk_at dksX4_takesOrder_8 21 rfl rfl)
theorem dX4_takesOrder_210 : decode cX4_takesOrder 210 = .ok (.goto 4, 3) := dk_167 0 4 (dk_at dksX4_takesOrder_9 0 rfl rfl)
theorem dX4_takesOrder_213 : decode cX4_takesOrder 213 = .ok (.iconst 0, 1) := dk_3 (dk_at dksX4_takesOrder_9 3 rfl rfl)
theorem dX4_takesOrder_214 : decode cX4_takesOrder 214 = .ok (.invokevirtual 325, 3) := dk_182 1 69 (dk_at dksX4_takesOrder_9 4 rfl rfl)
theorem dX4_takesOrder_217 : decode cX4_takesOrder 217 = .ok (.return_, 1) := dk_177 (dk_at dksX4_takesOrder_9 7 rfl rfl)
abbrev cX4_here : ByteArray := prog_9_method_129_code
def yX4_here : MethodName := ⟨RX4, "here", "()I"⟩
def dkwX4_here_1 : List UInt8 := [172]
abbrev dktX4_here_1 : List UInt8 := dkwX4_here_1 ++ []
def dkwX4_here_0 : List UInt8 := [42, 180, 1, 60, 42, 180, 1, 57, 162, 0, 15, 42, 180, 0, 22, 42, 180, 1, 60, 46, 167, 0, 4, 3]
abbrev dktX4_here_0 : List UInt8 := dkwX4_here_0 ++ dktX4_here_1
theorem dksX4_here_0 : cX4_here.data.toList.drop 0 = dktX4_here_0 := by decide +kernel
theorem dksX4_here_1 : cX4_here.data.toList.drop 24 = dktX4_here_1 := dk_seg dksX4_here_0 24 rfl rfl
theorem dX4_here_0 : decode cX4_here 0 = .ok (.aload_n 0, 1) := dk_42 (dk_at dksX4_here_0 0 rfl rfl)
theorem dX4_here_1 : decode cX4_here 1 = .ok (.getfield 316, 3) := dk_180 1 60 (dk_at dksX4_here_0 1 rfl rfl)
theorem dX4_here_4 : decode cX4_here 4 = .ok (.aload_n 0, 1) := dk_42 (dk_at dksX4_here_0 4 rfl rfl)
theorem dX4_here_5 : decode cX4_here 5 = .ok (.getfield 313, 3) := dk_180 1 57 (dk_at dksX4_here_0 5 rfl rfl)
theorem dX4_here_8 : decode cX4_here 8 = .ok (.if_icmp .ge 15, 3) := dk_162 0 15 (dk_at dksX4_here_0 8 rfl rfl)
theorem dX4_here_11 : decode cX4_here 11 = .ok (.aload_n 0, 1) := dk_42 (dk_at dksX4_here_0 11 rfl rfl)
theorem dX4_here_12 : decode cX4_here 12 = .ok (.getfield 22, 3) := dk_180 0 22 (dk_at dksX4_here_0 12 rfl rfl)
theorem dX4_here_15 : decode cX4_here 15 = .ok (.aload_n 0, 1) := dk_42 (dk_at dksX4_here_0 15 rfl rfl)
theorem dX4_here_16 : decode cX4_here 16 = .ok (.getfield 316, 3) := dk_180 1 60 (dk_at dksX4_here_0 16 rfl rfl)
theorem dX4_here_19 : decode cX4_here 19 = .ok (.iaload, 1) := dk_46 (dk_at dksX4_here_0 19 rfl rfl)
theorem dX4_here_20 : decode cX4_here 20 = .ok (.goto 4, 3) := dk_167 0 4 (dk_at dksX4_here_0 20 rfl rfl)
theorem dX4_here_23 : decode cX4_here 23 = .ok (.iconst 0, 1) := dk_3 (dk_at dksX4_here_0 23 rfl rfl)
theorem dX4_here_24 : decode cX4_here 24 = .ok (.ireturn, 1) := dk_172 (dk_at dksX4_here_1 0 rfl rfl)
abbrev cX4_takes : ByteArray := prog_9_method_130_code
def yX4_takes : MethodName := ⟨RX4, "takes", "(Z)V"⟩
def dkwX4_takes_1 : List UInt8 := [180, 1, 60, 42, 180, 1, 63, 153, 0, 7, 4, 167, 0, 4, 3, 96, 181, 1, 60, 177]
abbrev dktX4_takes_1 : List UInt8 := dkwX4_takes_1 ++ []
def dkwX4_takes_0 : List UInt8 := [42, 42, 180, 1, 63, 153, 0, 11, 27, 153, 0, 7, 4, 167, 0, 4, 3, 181, 1, 63, 42, 89]
abbrev dktX4_takes_0 : List UInt8 := dkwX4_takes_0 ++ dktX4_takes_1
theorem dksX4_takes_0 : cX4_takes.data.toList.drop 0 = dktX4_takes_0 := by decide +kernel
theorem dksX4_takes_1 : cX4_takes.data.toList.drop 22 = dktX4_takes_1 := dk_seg dksX4_takes_0 22 rfl rfl
theorem dX4_takes_0 : decode cX4_takes 0 = .ok (.aload_n 0, 1) := dk_42 (dk_at dksX4_takes_0 0 rfl rfl)
theorem dX4_takes_1 : decode cX4_takes 1 = .ok (.aload_n 0, 1) := dk_42 (dk_at dksX4_takes_0 1 rfl rfl)
theorem dX4_takes_2 : decode cX4_takes 2 = .ok (.getfield 319, 3) := dk_180 1 63 (dk_at dksX4_takes_0 2 rfl rfl)
theorem dX4_takes_5 : decode cX4_takes 5 = .ok (.ifCond .eq 11, 3) := dk_153 0 11 (dk_at dksX4_takes_0 5 rfl rfl)
theorem dX4_takes_8 : decode cX4_takes 8 = .ok (.iload_n 1, 1) := dk_27 (dk_at dksX4_takes_0 8 rfl rfl)
theorem dX4_takes_9 : decode cX4_takes 9 = .ok (.ifCond .eq 7, 3) := dk_153 0 7 (dk_at dksX4_takes_0 9 rfl rfl)
theorem dX4_takes_12 : decode cX4_takes 12 = .ok (.iconst 1, 1) := dk_4 (dk_at dksX4_takes_0 12 rfl rfl)
theorem dX4_takes_13 : decode cX4_takes 13 = .ok (.goto 4, 3) := dk_167 0 4 (dk_at dksX4_takes_0 13 rfl rfl)
theorem dX4_takes_16 : decode cX4_takes 16 = .ok (.iconst 0, 1) := dk_3 (dk_at dksX4_takes_0 16 rfl rfl)
theorem dX4_takes_17 : decode cX4_takes 17 = .ok (.putfield 319, 3) := dk_181 1 63 (dk_at dksX4_takes_0 17 rfl rfl)
theorem dX4_takes_20 : decode cX4_takes 20 = .ok (.aload_n 0, 1) := dk_42 (dk_at dksX4_takes_0 20 rfl rfl)
theorem dX4_takes_21 : decode cX4_takes 21 = .ok (.dup, 1) := dk_89 (dk_at dksX4_takes_0 21 rfl rfl)
theorem dX4_takes_22 : decode cX4_takes 22 = .ok (.getfield 316, 3) := dk_180 1 60 (dk_at dksX4_takes_1 0 rfl rfl)
theorem dX4_takes_25 : decode cX4_takes 25 = .ok (.aload_n 0, 1) := dk_42 (dk_at dksX4_takes_1 3 rfl rfl)
theorem dX4_takes_26 : decode cX4_takes 26 = .ok (.getfield 319, 3) := dk_180 1 63 (dk_at dksX4_takes_1 4 rfl rfl)
theorem dX4_takes_29 : decode cX4_takes 29 = .ok (.ifCond .eq 7, 3) := dk_153 0 7 (dk_at dksX4_takes_1 7 rfl rfl)
theorem dX4_takes_32 : decode cX4_takes 32 = .ok (.iconst 1, 1) := dk_4 (dk_at dksX4_takes_1 10 rfl rfl)
theorem dX4_takes_33 : decode cX4_takes 33 = .ok (.goto 4, 3) := dk_167 0 4 (dk_at dksX4_takes_1 11 rfl rfl)
theorem dX4_takes_36 : decode cX4_takes 36 = .ok (.iconst 0, 1) := dk_3 (dk_at dksX4_takes_1 14 rfl rfl)
theorem dX4_takes_37 : decode cX4_takes 37 = .ok (.iadd, 1) := dk_96 (dk_at dksX4_takes_1 15 rfl rfl)
theorem dX4_takes_38 : decode cX4_takes 38 = .ok (.putfield 316, 3) := dk_181 1 60 (dk_at dksX4_takes_1 16 rfl rfl)
theorem dX4_takes_41 : decode cX4_takes 41 = .ok (.return_, 1) := dk_177 (dk_at dksX4_takes_1 19 rfl rfl)
abbrev cX4_takesDigit : ByteArray := prog_9_method_131_code
def yX4_takesDigit : MethodName := ⟨RX4, "takesDigit", "()I"⟩
def dkwX4_takesDigit_0 : List UInt8 := [42, 182, 1, 66, 16, 48, 100, 60, 42, 27, 3, 16, 9, 184, 0, 92, 182, 1, 69, 27, 172]
abbrev dktX4_takesDigit_0 : List UInt8 := dkwX4_takesDigit_0 ++ []
theorem dksX4_takesDigit_0 : cX4_takesDigit.data.toList.drop 0 = dktX4_takesDigit_0 := by decide +kernel
theorem dX4_takesDigit_0 : decode cX4_takesDigit 0 = .ok (.aload_n 0, 1) := dk_42 (dk_at dksX4_takesDigit_0 0 rfl rfl)
theorem dX4_takesDigit_1 : decode cX4_takesDigit 1 = .ok (.invokevirtual 322, 3) := dk_182 1 66 (dk_at dksX4_takesDigit_0 1 rfl rfl)
theorem dX4_takesDigit_4 : decode cX4_takesDigit 4 = .ok (.bipush 48, 2) := dk_16 48 (dk_at dksX4_takesDigit_0 4 rfl rfl)
theorem dX4_takesDigit_6 : decode cX4_takesDigit 6 = .ok (.isub, 1) := dk_100 (dk_at dksX4_takesDigit_0 6 rfl rfl)
theorem dX4_takesDigit_7 : decode cX4_takesDigit 7 = .ok (.istore_n 1, 1) := dk_60 (dk_at dksX4_takesDigit_0 7 rfl rfl)
theorem dX4_takesDigit_8 : decode cX4_takesDigit 8 = .ok (.aload_n 0, 1) := dk_42 (dk_at dksX4_takesDigit_0 8 rfl rfl)
theorem dX4_takesDigit_9 : decode cX4_takesDigit 9 = .ok (.iload_n 1, 1) := dk_27 (dk_at dksX4_takesDigit_0 9 rfl rfl)
theorem dX4_takesDigit_10 : decode cX4_takesDigit 10 = .ok (.iconst 0, 1) := dk_3 (dk_at dksX4_takesDigit_0 10 rfl rfl)
theorem dX4_takesDigit_11 : decode cX4_takesDigit 11 = .ok (.bipush 9, 2) := dk_16 9 (dk_at dksX4_takesDigit_0 11 rfl rfl)
theorem dX4_takesDigit_13 : decode cX4_takesDigit 13 = .ok (.invokestatic 92, 3) := dk_184 0 92 (dk_at dksX4_takesDigit_0 13 rfl rfl)
theorem dX4_takesDigit_16 : decode cX4_takesDigit 16 = .ok (.invokevirtual 325, 3) := dk_182 1 69 (dk_at dksX4_takesDigit_0 16 rfl rfl)
theorem dX4_takesDigit_19 : decode cX4_takesDigit 19 = .ok (.iload_n 1, 1) := dk_27 (dk_at dksX4_takesDigit_0 19 rfl rfl)
theorem dX4_takesDigit_20 : decode cX4_takesDigit 20 = .ok (.ireturn, 1) := dk_172 (dk_at dksX4_takesDigit_0 20 rfl rfl)
abbrev cX4_doesOrder : ByteArray := prog_9_method_133_code
def yX4_doesOrder : MethodName := ⟨RX4, "doesOrder", "()I"⟩
def dkwX4_doesOrder_5 : List UInt8 := [172, 42, 182, 0, 140, 172]
abbrev dktX4_doesOrder_5 : List UInt8 := dkwX4_doesOrder_5 ++ []
def dkwX4_doesOrder_4 : List UInt8 := [180, 1, 82, 42, 180, 1, 85, 182, 0, 146, 172, 42, 182, 0, 149, 172, 42, 42, 180, 1, 82, 182, 0, 155]
abbrev dktX4_doesOrder_4 : List UInt8 := dkwX4_doesOrder_4 ++ dktX4_doesOrder_5
def dkwX4_doesOrder_3 : List UInt8 := [116, 182, 0, 130, 172, 42, 42, 180, 1, 82, 42, 180, 1, 85, 42, 180, 1, 88, 182, 0, 130, 172, 42, 42]
abbrev dktX4_doesOrder_3 : List UInt8 := dkwX4_doesOrder_3 ++ dktX4_doesOrder_4
def dkwX4_doesOrder_2 : List UInt8 := [42, 42, 180, 1, 82, 6, 42, 180, 1, 85, 182, 0, 130, 172, 42, 6, 42, 180, 1, 82, 42, 180, 1, 85]
abbrev dktX4_doesOrder_2 : List UInt8 := dkwX4_doesOrder_2 ++ dktX4_doesOrder_3
def dkwX4_doesOrder_1 : List UInt8 := [170, 0, 0, 0, 0, 0, 0, 169, 0, 0, 0, 100, 0, 0, 0, 119, 0, 0, 0, 125, 0, 0, 0, 169, 0, 0, 0, 160, 0, 0, 0, 169, 0, 0, 0, 169, 0, 0, 0, 169, 0, 0, 0, 169, 0, 0, 0, 169, 0, 0, 0, 110, 0, 0, 0, 96, 0, 0, 0, 169, 0, 0, 0, 169, 0, 0, 0, 169, 0, 0, 0, 169, 0, 0, 0, 142, 0, 0, 0, 169, 0, 0, 0, 169, 0, 0, 0, 169, 0, 0, 0, 169, 0, 0, 0, 155]
abbrev dktX4_doesOrder_1 : List UInt8 := dkwX4_doesOrder_1 ++ dktX4_doesOrder_2
def dkwX4_doesOrder_0 : List UInt8 := [42, 180, 1, 76]
abbrev dktX4_doesOrder_0 : List UInt8 := dkwX4_doesOrder_0 ++ dktX4_doesOrder_1
theorem dksX4_doesOrder_0 : cX4_doesOrder.data.toList.drop 0 = dktX4_doesOrder_0 := by decide +kernel
theorem dksX4_doesOrder_1 : cX4_doesOrder.data.toList.drop 4 = dktX4_doesOrder_1 := dk_seg dksX4_doesOrder_0 4 rfl rfl
theorem dksX4_doesOrder_2 : cX4_doesOrder.data.toList.drop 100 = dktX4_doesOrder_2 := dk_seg dksX4_doesOrder_1 96 rfl rfl
theorem dksX4_doesOrder_3 : cX4_doesOrder.data.toList.drop 124 = dktX4_doesOrder_3 := dk_seg dksX4_doesOrder_2 24 rfl rfl
theorem dksX4_doesOrder_4 : cX4_doesOrder.data.toList.drop 148 = dktX4_doesOrder_4 := dk_seg dksX4_doesOrder_3 24 rfl rfl
theorem dksX4_doesOrder_5 : cX4_doesOrder.data.toList.drop 172 = dktX4_doesOrder_5 := dk_seg dksX4_doesOrder_4 24 rfl rfl
theorem dX4_doesOrder_0 : decode cX4_doesOrder 0 = .ok (.aload_n 0, 1) := dk_42 (dk_at dksX4_doesOrder_0 0 rfl rfl)
theorem dX4_doesOrder_1 : decode cX4_doesOrder 1 = .ok (.getfield 332, 3) := dk_180 1 76 (dk_at dksX4_doesOrder_0 1 rfl rfl)
theorem dX4_doesOrder_4 : decode cX4_doesOrder 4 = .ok (.tableswitch 169 100 119 #[125, 169, 160, 169, 169, 169, 169, 169, 110, 96, 169, 169, 169, 169, 142, 169, 169, 169, 169, 155], 96) := by decide +kernel
theorem dX4_doesOrder_100 : decode cX4_doesOrder 100 = .ok (.aload_n 0, 1) := dk_42 (dk_at dksX4_doesOrder_2 0 rfl rfl)
theorem dX4_doesOrder_101 : decode cX4_doesOrder 101 = .ok (.aload_n 0, 1) := dk_42 (dk_at dksX4_doesOrder_2 1 rfl rfl)
theorem dX4_doesOrder_102 : decode cX4_doesOrder 102 = .ok (.getfield 338, 3) := dk_180 1 82 (dk_at dksX4_doesOrder_2 2 rfl rfl)
theorem dX4_doesOrder_105 : decode cX4_doesOrder 105 = .ok (.iconst 3, 1) := dk_6 (dk_at dksX4_doesOrder_2 5 rfl rfl)
theorem dX4_doesOrder_106 : decode cX4_doesOrder 106 = .ok (.aload_n 0, 1) := dk_42 (dk_at dksX4_doesOrder_2 6 rfl rfl)
theorem dX4_doesOrder_107 : decode cX4_doesOrder 107 = .ok (.getfield 341, 3) := dk_180 1 85 (dk_at dksX4_doesOrder_2 7 rfl rfl)
theorem dX4_doesOrder_110 : decode cX4_doesOrder 110 = .ok (.invokevirtual 130, 3) := dk_182 0 130 (dk_at dksX4_doesOrder_2 10 rfl rfl)
theorem dX4_doesOrder_113 : decode cX4_doesOrder 113 = .ok (.ireturn, 1) := dk_172 (dk_at dksX4_doesOrder_2 13 rfl rfl)
theorem dX4_doesOrder_114 : decode cX4_doesOrder 114 = .ok (.aload_n 0, 1) := dk_42 (dk_at dksX4_doesOrder_2 14 rfl rfl)
theorem dX4_doesOrder_115 : decode cX4_doesOrder 115 = .ok (.iconst 3, 1) := dk_6 (dk_at dksX4_doesOrder_2 15 rfl rfl)
theorem dX4_doesOrder_116 : decode cX4_doesOrder 116 = .ok (.aload_n 0, 1) := dk_42 (dk_at dksX4_doesOrder_2 16 rfl rfl)
theorem dX4_doesOrder_117 : decode cX4_doesOrder 117 = .ok (.getfield 338, 3) := dk_180 1 82 (dk_at dksX4_doesOrder_2 17 rfl rfl)
theorem dX4_doesOrder_120 : decode cX4_doesOrder 120 = .ok (.aload_n 0, 1) := dk_42 (dk_at dksX4_doesOrder_2 20 rfl rfl)
theorem dX4_doesOrder_121 : decode cX4_doesOrder 121 = .ok (.getfield 341, 3) := dk_180 1 85 (dk_at dksX4_doesOrder_2 21 rfl rfl)
theorem dX4_doesOrder_124 : decode cX4_doesOrder 124 = .ok (.ineg, 1) := dk_116 (dk_at dksX4_doesOrder_3 0 rfl rfl)
theorem dX4_doesOrder_125 : decode cX4_doesOrder 125 = .ok (.invokevirtual 130, 3) := dk_182 0 130 (dk_at dksX4_doesOrder_3 1 rfl rfl)
theorem dX4_doesOrder_128 : decode cX4_doesOrder 128 = .ok (.ireturn, 1) := dk_172 (dk_at dksX4_doesOrder_3 4 rfl rfl)
theorem dX4_doesOrder_129 : decode cX4_doesOrder 129 = .ok (.aload_n 0, 1) := dk_42 (dk_at dksX4_doesOrder_3 5 rfl rfl)
theorem dX4_doesOrder_130 : decode cX4_doesOrder 130 = .ok (.aload_n 0, 1) := dk_42 (dk_at dksX4_doesOrder_3 6 rfl rfl)
theorem dX4_doesOrder_131 : decode cX4_doesOrder 131 = .ok (.getfield 338, 3) := dk_180 1 82 (dk_at dksX4_doesOrder_3 7 rfl rfl)
theorem dX4_doesOrder_134 : decode cX4_doesOrder 134 = .ok (.aload_n 0, 1) := dk_42 (dk_at dksX4_doesOrder_3 10 rfl rfl)
theorem dX4_doesOrder_135 : decode cX4_doesOrder 135 = .ok (.getfield 341, 3) := dk_180 1 85 (dk_at dksX4_doesOrder_3 11 rfl rfl)
theorem dX4_doesOrder_138 : decode cX4_doesOrder 138 = .ok (.aload_n 0, 1) := dk_42 (dk_at dksX4_doesOrder_3 14 rfl rfl)
theorem dX4_doesOrder_139 : decode cX4_doesOrder 139 = .ok (.getfield 344, 3) := dk_180 1 88 (dk_at dksX4_doesOrder_3 15 rfl rfl)
theorem dX4_doesOrder_142 : decode cX4_doesOrder 142 = .ok (.invokevirtual 130, 3) := dk_182 0 130 (dk_at dksX4_doesOrder_3 18 rfl rfl)
theorem dX4_doesOrder_145 : decode cX4_doesOrder 145 = .ok (.ireturn, 1) := dk_172 (dk_at dksX4_doesOrder_3 21 rfl rfl)
theorem dX4_doesOrder_146 : decode cX4_doesOrder 146 = .ok (.aload_n 0, 1) := dk_42 (dk_at dksX4_doesOrder_3 22 rfl rfl)
theorem dX4_doesOrder_147 : decode cX4_doesOrder 147 = .ok (.aload_n 0, 1) := dk_42 (dk_at dksX4_doesOrder_3 23 rfl rfl)
theorem dX4_doesOrder_148 : decode cX4_doesOrder 148 = .ok (.getfield 338, 3) := dk_180 1 82 (dk_at dksX4_doesOrder_4 0 rfl rfl)
theorem dX4_doesOrder_151 : decode cX4_doesOrder 151 = .ok (.aload_n 0, 1) := dk_42 (dk_at dksX4_doesOrder_4 3 rfl rfl)
theorem dX4_doesOrder_152 : decode cX4_doesOrder 152 = .ok (.getfield 341, 3) := dk_180 1 85 (dk_at dksX4_doesOrder_4 4 rfl rfl)
theorem dX4_doesOrder_155 : decode cX4_doesOrder 155 = .ok (.invokevirtual 146, 3) := dk_182 0 146 (dk_at dksX4_doesOrder_4 7 rfl rfl)
theorem dX4_doesOrder_158 : decode cX4_doesOrder 158 = .ok (.ireturn, 1) := dk_172 (dk_at dksX4_doesOrder_4 10 rfl rfl)
theorem dX4_doesOrder_159 : decode cX4_doesOrder 159 = .ok (.aload_n 0, 1) := dk_42 (dk_at dksX4_doesOrder_4 11 rfl rfl)
theorem dX4_doesOrder_160 : decode cX4_doesOrder 160 = .ok (.invokevirtual 149, 3) := dk_182 0 149 (dk_at dksX4_doesOrder_4 12 rfl rfl)
theorem dX4_doesOrder_163 : decode cX4_doesOrder 163 = .ok (.ireturn, 1) := dk_172 (dk_at dksX4_doesOrder_4 15 rfl rfl)
theorem dX4_doesOrder_164 : decode cX4_doesOrder 164 = .ok (.aload_n 0, 1) := dk_42 (dk_at dksX4_doesOrder_4 16 rfl rfl)
theorem dX4_doesOrder_165 : decode cX4_doesOrder 165 = .ok (.aload_n 0, 1) := dk_42 (dk_at dksX4_doesOrder_4 17 rfl rfl)
theorem dX4_doesOrder_166 : decode cX4_doesOrder 166 = .ok (.getfield 338, 3) := dk_180 1 82 (dk_at dksX4_doesOrder_4 18 rfl rfl)
theorem dX4_doesOrder_169 : decode cX4_doesOrder 169 = .ok (.invokevirtual 155, 3) := dk_182 0 155 (dk_at dksX4_doesOrder_4 21 rfl rfl)
theorem dX4_doesOrder_172 : decode cX4_doesOrder 172 = .ok (.ireturn, 1) := dk_172 (dk_at dksX4_doesOrder_5 0 rfl rfl)
theorem dX4_doesOrder_173 : decode cX4_doesOrder 173 = .ok (.aload_n 0, 1) := dk_42 (dk_at dksX4_doesOrder_5 1 rfl rfl)
theorem dX4_doesOrder_174 : decode cX4_doesOrder 174 = .ok (.invokevirtual 140, 3) := dk_182 0 140 (dk_at dksX4_doesOrder_5 2 rfl rfl)
theorem dX4_doesOrder_177 : decode cX4_doesOrder 177 = .ok (.ireturn, 1) := dk_172 (dk_at dksX4_doesOrder_5 5 rfl rfl)
abbrev cX4_faultReason : ByteArray := prog_9_method_137_code
def yX4_faultReason : MethodName := ⟨RX4, "faultReason", "()I"⟩
def dkwX4_faultReason_0 : List UInt8 := [42, 4, 182, 1, 106, 172]
abbrev dktX4_faultReason_0 : List UInt8 := dkwX4_faultReason_0 ++ []
theorem dksX4_faultReason_0 : cX4_faultReason.data.toList.drop 0 = dktX4_faultReason_0 := by decide +kernel
theorem dX4_faultReason_0 : decode cX4_faultReason 0 = .ok (.aload_n 0, 1) := dk_42 (dk_at dksX4_faultReason_0 0 rfl rfl)
theorem dX4_faultReason_1 : decode cX4_faultReason 1 = .ok (.iconst 1, 1) := dk_4 (dk_at dksX4_faultReason_0 1 rfl rfl)
theorem dX4_faultReason_2 : decode cX4_faultReason 2 = .ok (.invokevirtual 362, 3) := dk_182 1 106 (dk_at dksX4_faultReason_0 2 rfl rfl)
theorem dX4_faultReason_5 : decode cX4_faultReason 5 = .ok (.ireturn, 1) := dk_172 (dk_at dksX4_faultReason_0 5 rfl rfl)
abbrev cX4_faultCause : ByteArray := prog_9_method_138_code
def yX4_faultCause : MethodName := ⟨RX4, "faultCause", "()I"⟩
def dkwX4_faultCause_0 : List UInt8 := [42, 5, 182, 1, 106, 172]
abbrev dktX4_faultCause_0 : List UInt8 := dkwX4_faultCause_0 ++ []
theorem dksX4_faultCause_0 : cX4_faultCause.data.toList.drop 0 = dktX4_faultCause_0 := by decide +kernel
theorem dX4_faultCause_0 : decode cX4_faultCause 0 = .ok (.aload_n 0, 1) := dk_42 (dk_at dksX4_faultCause_0 0 rfl rfl)
theorem dX4_faultCause_1 : decode cX4_faultCause 1 = .ok (.iconst 2, 1) := dk_5 (dk_at dksX4_faultCause_0 1 rfl rfl)
theorem dX4_faultCause_2 : decode cX4_faultCause 2 = .ok (.invokevirtual 362, 3) := dk_182 1 106 (dk_at dksX4_faultCause_0 2 rfl rfl)
theorem dX4_faultCause_5 : decode cX4_faultCause 5 = .ok (.ireturn, 1) := dk_172 (dk_at dksX4_faultCause_0 5 rfl rfl)
abbrev cX4_play : ByteArray := prog_9_method_139_code
def yX4_play : MethodName := ⟨RX4, "play", "()I"⟩
def dkwX4_play_1 : List UInt8 := [180, 0, 7, 3, 184, 0, 53, 42, 4, 182, 0, 60, 172, 42, 182, 0, 64, 27, 172]
abbrev dktX4_play_1 : List UInt8 := dkwX4_play_1 ++ []
def dkwX4_play_0 : List UInt8 := [42, 182, 0, 127, 42, 182, 1, 103, 60, 42, 180, 1, 91, 158, 0, 22, 42, 180, 0, 13, 3, 42]
abbrev dktX4_play_0 : List UInt8 := dkwX4_play_0 ++ dktX4_play_1
theorem dksX4_play_0 : cX4_play.data.toList.drop 0 = dktX4_play_0 := by decide +kernel
theorem dksX4_play_1 : cX4_play.data.toList.drop 22 = dktX4_play_1 := dk_seg dksX4_play_0 22 rfl rfl
theorem dX4_play_0 : decode cX4_play 0 = .ok (.aload_n 0, 1) := dk_42 (dk_at dksX4_play_0 0 rfl rfl)
theorem dX4_play_1 : decode cX4_play 1 = .ok (.invokevirtual 127, 3) := dk_182 0 127 (dk_at dksX4_play_0 1 rfl rfl)
theorem dX4_play_4 : decode cX4_play 4 = .ok (.aload_n 0, 1) := dk_42 (dk_at dksX4_play_0 4 rfl rfl)
theorem dX4_play_5 : decode cX4_play 5 = .ok (.invokevirtual 359, 3) := dk_182 1 103 (dk_at dksX4_play_0 5 rfl rfl)
theorem dX4_play_8 : decode cX4_play 8 = .ok (.istore_n 1, 1) := dk_60 (dk_at dksX4_play_0 8 rfl rfl)
theorem dX4_play_9 : decode cX4_play 9 = .ok (.aload_n 0, 1) := dk_42 (dk_at dksX4_play_0 9 rfl rfl)
theorem dX4_play_10 : decode cX4_play 10 = .ok (.getfield 347, 3) := dk_180 1 91 (dk_at dksX4_play_0 10 rfl rfl)
theorem dX4_play_13 : decode cX4_play 13 = .ok (.ifCond .le 22, 3) := dk_158 0 22 (dk_at dksX4_play_0 13 rfl rfl)
theorem dX4_play_16 : decode cX4_play 16 = .ok (.aload_n 0, 1) := dk_42 (dk_at dksX4_play_0 16 rfl rfl)
theorem dX4_play_17 : decode cX4_play 17 = .ok (.getfield 13, 3) := dk_180 0 13 (dk_at dksX4_play_0 17 rfl rfl)
theorem dX4_play_20 : decode cX4_play 20 = .ok (.iconst 0, 1) := dk_3 (dk_at dksX4_play_0 20 rfl rfl)
theorem dX4_play_21 : decode cX4_play 21 = .ok (.aload_n 0, 1) := dk_42 (dk_at dksX4_play_0 21 rfl rfl)
theorem dX4_play_22 : decode cX4_play 22 = .ok (.getfield 7, 3) := dk_180 0 7 (dk_at dksX4_play_1 0 rfl rfl)
theorem dX4_play_25 : decode cX4_play 25 = .ok (.iconst 0, 1) := dk_3 (dk_at dksX4_play_1 3 rfl rfl)
theorem dX4_play_26 : decode cX4_play 26 = .ok (.invokestatic 53, 3) := dk_184 0 53 (dk_at dksX4_play_1 4 rfl rfl)
theorem dX4_play_29 : decode cX4_play 29 = .ok (.aload_n 0, 1) := dk_42 (dk_at dksX4_play_1 7 rfl rfl)
theorem dX4_play_30 : decode cX4_play 30 = .ok (.iconst 1, 1) := dk_4 (dk_at dksX4_play_1 8 rfl rfl)
theorem dX4_play_31 : decode cX4_play 31 = .ok (.invokevirtual 60, 3) := dk_182 0 60 (dk_at dksX4_play_1 9 rfl rfl)
theorem dX4_play_34 : decode cX4_play 34 = .ok (.ireturn, 1) := dk_172 (dk_at dksX4_play_1 12 rfl rfl)
theorem dX4_play_35 : decode cX4_play 35 = .ok (.aload_n 0, 1) := dk_42 (dk_at dksX4_play_1 13 rfl rfl)
theorem dX4_play_36 : decode cX4_play 36 = .ok (.invokevirtual 64, 3) := dk_182 0 64 (dk_at dksX4_play_1 14 rfl rfl)
theorem dX4_play_39 : decode cX4_play 39 = .ok (.iload_n 1, 1) := dk_27 (dk_at dksX4_play_1 17 rfl rfl)
theorem dX4_play_40 : decode cX4_play 40 = .ok (.ireturn, 1) := dk_172 (dk_at dksX4_play_1 18 rfl rfl)
theorem q103 : (Jvm.Cond.initialized "FerryClocksModel") ∈ lw_all := lw_g (lw_at lw_m1 12 rfl) rfl
theorem q376 : (Jvm.Cond.selects "FerryClocksModel" ({ cls := "java/lang/Object", name := "getClass", desc := "()Ljava/lang/Class;" } : Jvm.MethodName) ({ cls := "java/lang/Object", name := "getClass", desc := "()Ljava/lang/Class;" } : Jvm.MethodName)) ∈ lw_all := lw_g (lw_at lw_m2 45 rfl) rfl
theorem q1753 : (Jvm.Cond.instantiable "FerryClocksModel" (29 : Nat)) ∈ lw_all := lw_g (lw_at lw_m7 222 rfl) rfl
theorem q1755 : (Jvm.Cond.instanceMethod ({ cls := "FerryClocksModel", name := "<init>", desc := "()V" } : Jvm.MethodName)) ∈ lw_all := lw_g (lw_at lw_m7 224 rfl) rfl
theorem q1756 : (Jvm.Cond.code ({ cls := "FerryClocksModel", name := "<init>", desc := "()V" } : Jvm.MethodName) prog_9_method_1_code (2 : Nat) (Option.none : Option Jvm.ClassFile.FieldType)) ∈ lw_all := lw_g (lw_at lw_m7 225 rfl) rfl
theorem q1757 : (Jvm.Cond.methodLink "FerryClocksModel" (1 : Nat) ({ cls := "java/lang/Object", name := "<init>", desc := "()V" } : Jvm.MethodName)) ∈ lw_all := lw_g (lw_at lw_m7 226 rfl) rfl
theorem q1758 : (Jvm.Cond.methodLink "FerryClocksModel" (46 : Nat) ({ cls := "FerryClocksModel", name := "frees", desc := "()V" } : Jvm.MethodName)) ∈ lw_all := lw_g (lw_at lw_m7 227 rfl) rfl
theorem q1759 : (Jvm.Cond.privateMethod ({ cls := "FerryClocksModel", name := "frees", desc := "()V" } : Jvm.MethodName)) ∈ lw_tbl := lw_at lw_m7 228 rfl
theorem q1760 : (Jvm.Cond.instanceMethod ({ cls := "FerryClocksModel", name := "frees", desc := "()V" } : Jvm.MethodName)) ∈ lw_all := lw_g (lw_at lw_m7 229 rfl) rfl
theorem q1761 : (Jvm.Cond.code ({ cls := "FerryClocksModel", name := "frees", desc := "()V" } : Jvm.MethodName) prog_9_method_12_code (2 : Nat) (Option.none : Option Jvm.ClassFile.FieldType)) ∈ lw_all := lw_g (lw_at lw_m7 230 rfl) rfl
theorem q1762 : (Jvm.Cond.constant "FerryClocksModel" (67 : Nat) (100000 : Int32)) ∈ lw_all := lw_g (lw_at lw_m7 231 rfl) rfl
theorem q1763 : (Jvm.Cond.fieldLink "FerryClocksModel" (7 : Nat) "FerryClocksModel" "s" "[I") ∈ lw_all := lw_g (lw_at lw_m7 232 rfl) rfl
theorem q1764 : (Jvm.Cond.fieldLink "FerryClocksModel" (13 : Nat) "FerryClocksModel" "before" "[I") ∈ lw_all := lw_g (lw_at lw_m7 233 rfl) rfl
theorem q1765 : (Jvm.Cond.fieldLink "FerryClocksModel" (16 : Nat) "FerryClocksModel" "kept" "[I") ∈ lw_all := lw_g (lw_at lw_m7 234 rfl) rfl
theorem q1766 : (Jvm.Cond.fieldLink "FerryClocksModel" (309 : Nat) "FerryClocksModel" "isKept" "Z") ∈ lw_all := lw_g (lw_at lw_m7 235 rfl) rfl
theorem q1767 : (Jvm.Cond.fieldLink "FerryClocksModel" (19 : Nat) "FerryClocksModel" "past" "[I") ∈ lw_all := lw_g (lw_at lw_m7 236 rfl) rfl
theorem q1768 : (Jvm.Cond.fieldLink "FerryClocksModel" (57 : Nat) "FerryClocksModel" "known" "I") ∈ lw_all := lw_g (lw_at lw_m7 237 rfl) rfl
theorem q1769 : (Jvm.Cond.fieldLink "FerryClocksModel" (22 : Nat) "FerryClocksModel" "text" "[I") ∈ lw_all := lw_g (lw_at lw_m7 238 rfl) rfl
theorem q1770 : (Jvm.Cond.fieldLink "FerryClocksModel" (313 : Nat) "FerryClocksModel" "length" "I") ∈ lw_all := lw_g (lw_at lw_m7 239 rfl) rfl
theorem q1771 : (Jvm.Cond.fieldLink "FerryClocksModel" (49 : Nat) "FerryClocksModel" "thrown" "I") ∈ lw_all := lw_g (lw_at lw_m8 0 rfl) rfl
theorem q1772 : (Jvm.Cond.fieldLink "FerryClocksModel" (25 : Nat) "FerryClocksModel" "tight" "[I") ∈ lw_all := lw_g (lw_at lw_m8 1 rfl) rfl
theorem q1773 : (Jvm.Cond.fieldLink "FerryClocksModel" (28 : Nat) "FerryClocksModel" "other" "[I") ∈ lw_all := lw_g (lw_at lw_m8 2 rfl) rfl
theorem q1774 : (Jvm.Cond.fieldLink "FerryClocksModel" (207 : Nat) "FerryClocksModel" "many" "I") ∈ lw_all := lw_g (lw_at lw_m8 3 rfl) rfl
theorem q1775 : (Jvm.Cond.fieldLink "FerryClocksModel" (210 : Nat) "FerryClocksModel" "clockSum" "J") ∈ lw_all := lw_g (lw_at lw_m8 4 rfl) rfl
theorem q1776 : (Jvm.Cond.fieldLink "FerryClocksModel" (31 : Nat) "FerryClocksModel" "zone" "[I") ∈ lw_all := lw_g (lw_at lw_m8 5 rfl) rfl
theorem q1777 : (Jvm.Cond.fieldLink "FerryClocksModel" (34 : Nat) "FerryClocksModel" "harbourOf" "[I") ∈ lw_all := lw_g (lw_at lw_m8 6 rfl) rfl
theorem q1778 : (Jvm.Cond.fieldLink "FerryClocksModel" (37 : Nat) "FerryClocksModel" "steps" "[I") ∈ lw_all := lw_g (lw_at lw_m8 7 rfl) rfl
theorem q1779 : (Jvm.Cond.fieldLink "FerryClocksModel" (237 : Nat) "FerryClocksModel" "zones" "I") ∈ lw_all := lw_g (lw_at lw_m8 8 rfl) rfl
theorem q1780 : (Jvm.Cond.fieldLink "FerryClocksModel" (40 : Nat) "FerryClocksModel" "ticks" "[I") ∈ lw_all := lw_g (lw_at lw_m8 9 rfl) rfl
theorem q1781 : (Jvm.Cond.fieldLink "FerryClocksModel" (43 : Nat) "FerryClocksModel" "row" "[I") ∈ lw_all := lw_g (lw_at lw_m8 10 rfl) rfl
theorem q1782 : (Jvm.Cond.fieldLink "FerryClocksModel" (274 : Nat) "FerryClocksModel" "rowLength" "I") ∈ lw_all := lw_g (lw_at lw_m8 11 rfl) rfl
theorem q1783 : (Jvm.Cond.fieldLink "FerryClocksModel" (316 : Nat) "FerryClocksModel" "spot" "I") ∈ lw_all := lw_g (lw_at lw_m8 12 rfl) rfl
theorem q1784 : (Jvm.Cond.fieldLink "FerryClocksModel" (329 : Nat) "FerryClocksModel" "begin" "I") ∈ lw_all := lw_g (lw_at lw_m8 13 rfl) rfl
theorem q1785 : (Jvm.Cond.fieldLink "FerryClocksModel" (319 : Nat) "FerryClocksModel" "isForm" "Z") ∈ lw_all := lw_g (lw_at lw_m8 14 rfl) rfl
theorem q1786 : (Jvm.Cond.fieldLink "FerryClocksModel" (332 : Nat) "FerryClocksModel" "letter" "I") ∈ lw_all := lw_g (lw_at lw_m8 15 rfl) rfl
theorem q1787 : (Jvm.Cond.fieldLink "FerryClocksModel" (338 : Nat) "FerryClocksModel" "first" "I") ∈ lw_all := lw_g (lw_at lw_m8 16 rfl) rfl
theorem q1788 : (Jvm.Cond.fieldLink "FerryClocksModel" (341 : Nat) "FerryClocksModel" "second" "I") ∈ lw_all := lw_g (lw_at lw_m8 17 rfl) rfl
theorem q1789 : (Jvm.Cond.fieldLink "FerryClocksModel" (344 : Nat) "FerryClocksModel" "third" "I") ∈ lw_all := lw_g (lw_at lw_m8 18 rfl) rfl
theorem q1790 : (Jvm.Cond.fieldLink "FerryClocksModel" (347 : Nat) "FerryClocksModel" "reason" "I") ∈ lw_all := lw_g (lw_at lw_m8 19 rfl) rfl
theorem q1791 : (Jvm.Cond.fieldLink "FerryClocksModel" (356 : Nat) "FerryClocksModel" "cause" "I") ∈ lw_all := lw_g (lw_at lw_m8 20 rfl) rfl
theorem q1792 : (Jvm.Cond.laysFinal "FerryClocksModel" "FerryClocksModel" "s" "[I") ∈ lw_all := lw_g (lw_at lw_m8 21 rfl) rfl
theorem q1793 : (Jvm.Cond.soleField "FerryClocksModel" "s") ∈ lw_all := lw_g (lw_at lw_m8 22 rfl) rfl
theorem q1794 : (Jvm.Cond.laysFinal "FerryClocksModel" "FerryClocksModel" "before" "[I") ∈ lw_all := lw_g (lw_at lw_m8 23 rfl) rfl
theorem q1795 : (Jvm.Cond.soleField "FerryClocksModel" "before") ∈ lw_all := lw_g (lw_at lw_m8 24 rfl) rfl
theorem q1796 : (Jvm.Cond.laysFinal "FerryClocksModel" "FerryClocksModel" "kept" "[I") ∈ lw_all := lw_g (lw_at lw_m8 25 rfl) rfl
theorem q1797 : (Jvm.Cond.soleField "FerryClocksModel" "kept") ∈ lw_all := lw_g (lw_at lw_m8 26 rfl) rfl
theorem q1798 : (Jvm.Cond.lays "FerryClocksModel" "FerryClocksModel" "isKept" "Z") ∈ lw_all := lw_g (lw_at lw_m8 27 rfl) rfl
theorem q1799 : (Jvm.Cond.soleField "FerryClocksModel" "isKept") ∈ lw_all := lw_g (lw_at lw_m8 28 rfl) rfl
theorem q1800 : (Jvm.Cond.laysFinal "FerryClocksModel" "FerryClocksModel" "past" "[I") ∈ lw_all := lw_g (lw_at lw_m8 29 rfl) rfl
theorem q1801 : (Jvm.Cond.soleField "FerryClocksModel" "past") ∈ lw_all := lw_g (lw_at lw_m8 30 rfl) rfl
theorem q1802 : (Jvm.Cond.lays "FerryClocksModel" "FerryClocksModel" "known" "I") ∈ lw_all := lw_g (lw_at lw_m8 31 rfl) rfl
theorem q1803 : (Jvm.Cond.soleField "FerryClocksModel" "known") ∈ lw_all := lw_g (lw_at lw_m8 32 rfl) rfl
theorem q1804 : (Jvm.Cond.laysFinal "FerryClocksModel" "FerryClocksModel" "text" "[I") ∈ lw_all := lw_g (lw_at lw_m8 33 rfl) rfl
theorem q1805 : (Jvm.Cond.soleField "FerryClocksModel" "text") ∈ lw_all := lw_g (lw_at lw_m8 34 rfl) rfl
theorem q1806 : (Jvm.Cond.lays "FerryClocksModel" "FerryClocksModel" "length" "I") ∈ lw_all := lw_g (lw_at lw_m8 35 rfl) rfl
theorem q1807 : (Jvm.Cond.soleField "FerryClocksModel" "length") ∈ lw_all := lw_g (lw_at lw_m8 36 rfl) rfl
theorem q1808 : (Jvm.Cond.lays "FerryClocksModel" "FerryClocksModel" "thrown" "I") ∈ lw_all := lw_g (lw_at lw_m8 37 rfl) rfl
theorem q1809 : (Jvm.Cond.soleField "FerryClocksModel" "thrown") ∈ lw_all := lw_g (lw_at lw_m8 38 rfl) rfl
theorem q1810 : (Jvm.Cond.laysFinal "FerryClocksModel" "FerryClocksModel" "tight" "[I") ∈ lw_all := lw_g (lw_at lw_m8 39 rfl) rfl
theorem q1811 : (Jvm.Cond.soleField "FerryClocksModel" "tight") ∈ lw_all := lw_g (lw_at lw_m8 40 rfl) rfl
theorem q1812 : (Jvm.Cond.laysFinal "FerryClocksModel" "FerryClocksModel" "other" "[I") ∈ lw_all := lw_g (lw_at lw_m8 41 rfl) rfl
theorem q1813 : (Jvm.Cond.soleField "FerryClocksModel" "other") ∈ lw_all := lw_g (lw_at lw_m8 42 rfl) rfl
theorem q1814 : (Jvm.Cond.lays "FerryClocksModel" "FerryClocksModel" "many" "I") ∈ lw_all := lw_g (lw_at lw_m8 43 rfl) rfl
theorem q1815 : (Jvm.Cond.soleField "FerryClocksModel" "many") ∈ lw_all := lw_g (lw_at lw_m8 44 rfl) rfl
theorem q1816 : (Jvm.Cond.lays "FerryClocksModel" "FerryClocksModel" "clockSum" "J") ∈ lw_all := lw_g (lw_at lw_m8 45 rfl) rfl
theorem q1817 : (Jvm.Cond.soleField "FerryClocksModel" "clockSum") ∈ lw_all := lw_g (lw_at lw_m8 46 rfl) rfl
theorem q1818 : (Jvm.Cond.laysFinal "FerryClocksModel" "FerryClocksModel" "zone" "[I") ∈ lw_all := lw_g (lw_at lw_m8 47 rfl) rfl
theorem q1819 : (Jvm.Cond.soleField "FerryClocksModel" "zone") ∈ lw_all := lw_g (lw_at lw_m8 48 rfl) rfl
theorem q1820 : (Jvm.Cond.laysFinal "FerryClocksModel" "FerryClocksModel" "harbourOf" "[I") ∈ lw_all := lw_g (lw_at lw_m8 49 rfl) rfl
theorem q1821 : (Jvm.Cond.soleField "FerryClocksModel" "harbourOf") ∈ lw_all := lw_g (lw_at lw_m8 50 rfl) rfl
theorem q1822 : (Jvm.Cond.laysFinal "FerryClocksModel" "FerryClocksModel" "steps" "[I") ∈ lw_all := lw_g (lw_at lw_m8 51 rfl) rfl
theorem q1823 : (Jvm.Cond.soleField "FerryClocksModel" "steps") ∈ lw_all := lw_g (lw_at lw_m8 52 rfl) rfl
theorem q1824 : (Jvm.Cond.lays "FerryClocksModel" "FerryClocksModel" "zones" "I") ∈ lw_all := lw_g (lw_at lw_m8 53 rfl) rfl
theorem q1825 : (Jvm.Cond.soleField "FerryClocksModel" "zones") ∈ lw_all := lw_g (lw_at lw_m8 54 rfl) rfl
theorem q1826 : (Jvm.Cond.laysFinal "FerryClocksModel" "FerryClocksModel" "ticks" "[I") ∈ lw_all := lw_g (lw_at lw_m8 55 rfl) rfl
theorem q1827 : (Jvm.Cond.soleField "FerryClocksModel" "ticks") ∈ lw_all := lw_g (lw_at lw_m8 56 rfl) rfl
theorem q1828 : (Jvm.Cond.laysFinal "FerryClocksModel" "FerryClocksModel" "row" "[I") ∈ lw_all := lw_g (lw_at lw_m8 57 rfl) rfl
theorem q1829 : (Jvm.Cond.soleField "FerryClocksModel" "row") ∈ lw_all := lw_g (lw_at lw_m8 58 rfl) rfl
theorem q1830 : (Jvm.Cond.lays "FerryClocksModel" "FerryClocksModel" "rowLength" "I") ∈ lw_all := lw_g (lw_at lw_m8 59 rfl) rfl
theorem q1831 : (Jvm.Cond.soleField "FerryClocksModel" "rowLength") ∈ lw_all := lw_g (lw_at lw_m8 60 rfl) rfl
theorem q1832 : (Jvm.Cond.lays "FerryClocksModel" "FerryClocksModel" "spot" "I") ∈ lw_all := lw_g (lw_at lw_m8 61 rfl) rfl
theorem q1833 : (Jvm.Cond.soleField "FerryClocksModel" "spot") ∈ lw_all := lw_g (lw_at lw_m8 62 rfl) rfl
theorem q1834 : (Jvm.Cond.lays "FerryClocksModel" "FerryClocksModel" "begin" "I") ∈ lw_all := lw_g (lw_at lw_m8 63 rfl) rfl
theorem q1835 : (Jvm.Cond.soleField "FerryClocksModel" "begin") ∈ lw_all := lw_g (lw_at lw_m8 64 rfl) rfl
theorem q1836 : (Jvm.Cond.lays "FerryClocksModel" "FerryClocksModel" "isForm" "Z") ∈ lw_all := lw_g (lw_at lw_m8 65 rfl) rfl
theorem q1837 : (Jvm.Cond.soleField "FerryClocksModel" "isForm") ∈ lw_all := lw_g (lw_at lw_m8 66 rfl) rfl
theorem q1838 : (Jvm.Cond.lays "FerryClocksModel" "FerryClocksModel" "letter" "I") ∈ lw_all := lw_g (lw_at lw_m8 67 rfl) rfl
theorem q1839 : (Jvm.Cond.soleField "FerryClocksModel" "letter") ∈ lw_all := lw_g (lw_at lw_m8 68 rfl) rfl
theorem q1840 : (Jvm.Cond.lays "FerryClocksModel" "FerryClocksModel" "first" "I") ∈ lw_all := lw_g (lw_at lw_m8 69 rfl) rfl
theorem q1841 : (Jvm.Cond.soleField "FerryClocksModel" "first") ∈ lw_all := lw_g (lw_at lw_m8 70 rfl) rfl
theorem q1842 : (Jvm.Cond.lays "FerryClocksModel" "FerryClocksModel" "second" "I") ∈ lw_all := lw_g (lw_at lw_m8 71 rfl) rfl
theorem q1843 : (Jvm.Cond.soleField "FerryClocksModel" "second") ∈ lw_all := lw_g (lw_at lw_m8 72 rfl) rfl
theorem q1844 : (Jvm.Cond.lays "FerryClocksModel" "FerryClocksModel" "third" "I") ∈ lw_all := lw_g (lw_at lw_m8 73 rfl) rfl
theorem q1845 : (Jvm.Cond.soleField "FerryClocksModel" "third") ∈ lw_all := lw_g (lw_at lw_m8 74 rfl) rfl
theorem q1846 : (Jvm.Cond.lays "FerryClocksModel" "FerryClocksModel" "reason" "I") ∈ lw_all := lw_g (lw_at lw_m8 75 rfl) rfl
theorem q1847 : (Jvm.Cond.soleField "FerryClocksModel" "reason") ∈ lw_all := lw_g (lw_at lw_m8 76 rfl) rfl
theorem q1848 : (Jvm.Cond.lays "FerryClocksModel" "FerryClocksModel" "cause" "I") ∈ lw_all := lw_g (lw_at lw_m8 77 rfl) rfl
theorem q1849 : (Jvm.Cond.soleField "FerryClocksModel" "cause") ∈ lw_all := lw_g (lw_at lw_m8 78 rfl) rfl
theorem q1850 : (Jvm.Cond.superclass "FerryClocksModel" "java/lang/Object") ∈ lw_all := lw_g (lw_at lw_m8 79 rfl) rfl
theorem q1852 : (Jvm.Cond.instanceMethod ({ cls := "FerryClocksModel", name := "thrown", desc := "()I" } : Jvm.MethodName)) ∈ lw_all := lw_g (lw_at lw_m8 81 rfl) rfl
theorem q1853 : (Jvm.Cond.selects "FerryClocksModel" ({ cls := "FerryClocksModel", name := "thrown", desc := "()I" } : Jvm.MethodName) ({ cls := "FerryClocksModel", name := "thrown", desc := "()I" } : Jvm.MethodName)) ∈ lw_all := lw_g (lw_at lw_m8 82 rfl) rfl
theorem q1854 : (Jvm.Cond.code ({ cls := "FerryClocksModel", name := "thrown", desc := "()I" } : Jvm.MethodName) prog_9_method_2_code (1 : Nat) (Option.some Jvm.ClassFile.FieldType.int)) ∈ lw_all := lw_g (lw_at lw_m8 83 rfl) rfl
theorem q1856 : (Jvm.Cond.instanceMethod ({ cls := "FerryClocksModel", name := "tell", desc := "(III)Z" } : Jvm.MethodName)) ∈ lw_all := lw_g (lw_at lw_m8 85 rfl) rfl
theorem q1857 : (Jvm.Cond.selects "FerryClocksModel" ({ cls := "FerryClocksModel", name := "tell", desc := "(III)Z" } : Jvm.MethodName) ({ cls := "FerryClocksModel", name := "tell", desc := "(III)Z" } : Jvm.MethodName)) ∈ lw_all := lw_g (lw_at lw_m8 86 rfl) rfl
theorem q1858 : (Jvm.Cond.code ({ cls := "FerryClocksModel", name := "tell", desc := "(III)Z" } : Jvm.MethodName) prog_9_method_40_code (4 : Nat) (Option.some Jvm.ClassFile.FieldType.boolean)) ∈ lw_all := lw_g (lw_at lw_m8 87 rfl) rfl
theorem q1859 : (Jvm.Cond.methodLink "FerryClocksModel" (127 : Nat) ({ cls := "FerryClocksModel", name := "begins", desc := "()V" } : Jvm.MethodName)) ∈ lw_all := lw_g (lw_at lw_m8 88 rfl) rfl
theorem q1860 : (Jvm.Cond.privateMethod ({ cls := "FerryClocksModel", name := "begins", desc := "()V" } : Jvm.MethodName)) ∈ lw_tbl := lw_at lw_m8 89 rfl
theorem q1861 : (Jvm.Cond.instanceMethod ({ cls := "FerryClocksModel", name := "begins", desc := "()V" } : Jvm.MethodName)) ∈ lw_all := lw_g (lw_at lw_m8 90 rfl) rfl
theorem q1862 : (Jvm.Cond.code ({ cls := "FerryClocksModel", name := "begins", desc := "()V" } : Jvm.MethodName) prog_9_method_9_code (1 : Nat) (Option.none : Option Jvm.ClassFile.FieldType)) ∈ lw_all := lw_g (lw_at lw_m8 91 rfl) rfl
theorem q1863 : (Jvm.Cond.methodLink "FerryClocksModel" (53 : Nat) ({ cls := "FerryClocksModel", name := "copies", desc := "([II[II)V" } : Jvm.MethodName)) ∈ lw_all := lw_g (lw_at lw_m8 92 rfl) rfl
theorem q1864 : (Jvm.Cond.static ({ cls := "FerryClocksModel", name := "copies", desc := "([II[II)V" } : Jvm.MethodName)) ∈ lw_all := lw_g (lw_at lw_m8 93 rfl) rfl
theorem q1865 : (Jvm.Cond.code ({ cls := "FerryClocksModel", name := "copies", desc := "([II[II)V" } : Jvm.MethodName) prog_9_method_8_code (5 : Nat) (Option.none : Option Jvm.ClassFile.FieldType)) ∈ lw_all := lw_g (lw_at lw_m8 94 rfl) rfl
theorem q1866 : (Jvm.Cond.methodLink "FerryClocksModel" (130 : Nat) ({ cls := "FerryClocksModel", name := "goTell", desc := "(III)I" } : Jvm.MethodName)) ∈ lw_all := lw_g (lw_at lw_m8 95 rfl) rfl
theorem q1867 : (Jvm.Cond.privateMethod ({ cls := "FerryClocksModel", name := "goTell", desc := "(III)I" } : Jvm.MethodName)) ∈ lw_tbl := lw_at lw_m8 96 rfl
theorem q1868 : (Jvm.Cond.instanceMethod ({ cls := "FerryClocksModel", name := "goTell", desc := "(III)I" } : Jvm.MethodName)) ∈ lw_all := lw_g (lw_at lw_m8 97 rfl) rfl
theorem q1869 : (Jvm.Cond.code ({ cls := "FerryClocksModel", name := "goTell", desc := "(III)I" } : Jvm.MethodName) prog_9_method_26_code (6 : Nat) (Option.some Jvm.ClassFile.FieldType.int)) ∈ lw_all := lw_g (lw_at lw_m8 98 rfl) rfl
theorem q1870 : (Jvm.Cond.methodLink "FerryClocksModel" (96 : Nat) ({ cls := "FerryClocksModel", name := "arePair", desc := "(II)Z" } : Jvm.MethodName)) ∈ lw_all := lw_g (lw_at lw_m8 99 rfl) rfl
theorem q1871 : (Jvm.Cond.static ({ cls := "FerryClocksModel", name := "arePair", desc := "(II)Z" } : Jvm.MethodName)) ∈ lw_all := lw_g (lw_at lw_m8 100 rfl) rfl
theorem q1872 : (Jvm.Cond.code ({ cls := "FerryClocksModel", name := "arePair", desc := "(II)Z" } : Jvm.MethodName) prog_9_method_23_code (2 : Nat) (Option.some Jvm.ClassFile.FieldType.boolean)) ∈ lw_all := lw_g (lw_at lw_m8 101 rfl) rfl
theorem q1873 : (Jvm.Cond.methodLink "FerryClocksModel" (92 : Nat) ({ cls := "FerryClocksModel", name := "in", desc := "(III)Z" } : Jvm.MethodName)) ∈ lw_all := lw_g (lw_at lw_m8 102 rfl) rfl
theorem q1874 : (Jvm.Cond.static ({ cls := "FerryClocksModel", name := "in", desc := "(III)Z" } : Jvm.MethodName)) ∈ lw_all := lw_g (lw_at lw_m8 103 rfl) rfl
theorem q1875 : (Jvm.Cond.code ({ cls := "FerryClocksModel", name := "in", desc := "(III)Z" } : Jvm.MethodName) prog_9_method_5_code (3 : Nat) (Option.some Jvm.ClassFile.FieldType.boolean)) ∈ lw_all := lw_g (lw_at lw_m8 104 rfl) rfl
theorem q1876 : (Jvm.Cond.methodLink "FerryClocksModel" (86 : Nat) ({ cls := "FerryClocksModel", name := "isTooLate", desc := "()Z" } : Jvm.MethodName)) ∈ lw_all := lw_g (lw_at lw_m8 105 rfl) rfl
theorem q1877 : (Jvm.Cond.privateMethod ({ cls := "FerryClocksModel", name := "isTooLate", desc := "()Z" } : Jvm.MethodName)) ∈ lw_tbl := lw_at lw_m8 106 rfl
theorem q1878 : (Jvm.Cond.instanceMethod ({ cls := "FerryClocksModel", name := "isTooLate", desc := "()Z" } : Jvm.MethodName)) ∈ lw_all := lw_g (lw_at lw_m8 107 rfl) rfl
theorem q1879 : (Jvm.Cond.code ({ cls := "FerryClocksModel", name := "isTooLate", desc := "()Z" } : Jvm.MethodName) prog_9_method_18_code (4 : Nat) (Option.some Jvm.ClassFile.FieldType.boolean)) ∈ lw_all := lw_g (lw_at lw_m8 108 rfl) rfl
theorem q1880 : (Jvm.Cond.methodLink "FerryClocksModel" (82 : Nat) ({ cls := "FerryClocksModel", name := "looks", desc := "()Z" } : Jvm.MethodName)) ∈ lw_all := lw_g (lw_at lw_m8 109 rfl) rfl
theorem q1881 : (Jvm.Cond.privateMethod ({ cls := "FerryClocksModel", name := "looks", desc := "()Z" } : Jvm.MethodName)) ∈ lw_tbl := lw_at lw_m8 110 rfl
theorem q1882 : (Jvm.Cond.instanceMethod ({ cls := "FerryClocksModel", name := "looks", desc := "()Z" } : Jvm.MethodName)) ∈ lw_all := lw_g (lw_at lw_m8 111 rfl) rfl
theorem q1883 : (Jvm.Cond.code ({ cls := "FerryClocksModel", name := "looks", desc := "()Z" } : Jvm.MethodName) prog_9_method_16_code (1 : Nat) (Option.some Jvm.ClassFile.FieldType.boolean)) ∈ lw_all := lw_g (lw_at lw_m8 112 rfl) rfl
theorem q1884 : (Jvm.Cond.methodLink "FerryClocksModel" (75 : Nat) ({ cls := "FerryClocksModel", name := "carries", desc := "([II[II)V" } : Jvm.MethodName)) ∈ lw_all := lw_g (lw_at lw_m8 113 rfl) rfl
theorem q1885 : (Jvm.Cond.static ({ cls := "FerryClocksModel", name := "carries", desc := "([II[II)V" } : Jvm.MethodName)) ∈ lw_all := lw_g (lw_at lw_m8 114 rfl) rfl
theorem q1886 : (Jvm.Cond.code ({ cls := "FerryClocksModel", name := "carries", desc := "([II[II)V" } : Jvm.MethodName) prog_9_method_15_code (5 : Nat) (Option.none : Option Jvm.ClassFile.FieldType)) ∈ lw_all := lw_g (lw_at lw_m8 115 rfl) rfl
theorem q1887 : (Jvm.Cond.methodLink "FerryClocksModel" (78 : Nat) ({ cls := "FerryClocksModel", name := "tightens", desc := "([II)Z" } : Jvm.MethodName)) ∈ lw_all := lw_g (lw_at lw_m8 116 rfl) rfl
theorem q1888 : (Jvm.Cond.static ({ cls := "FerryClocksModel", name := "tightens", desc := "([II)Z" } : Jvm.MethodName)) ∈ lw_all := lw_g (lw_at lw_m8 117 rfl) rfl
theorem q1889 : (Jvm.Cond.code ({ cls := "FerryClocksModel", name := "tightens", desc := "([II)Z" } : Jvm.MethodName) prog_9_method_14_code (6 : Nat) (Option.some Jvm.ClassFile.FieldType.boolean)) ∈ lw_all := lw_g (lw_at lw_m8 118 rfl) rfl
theorem q1890 : (Jvm.Cond.methodLink "FerryClocksModel" (68 : Nat) ({ cls := "FerryClocksModel", name := "sum", desc := "(II)I" } : Jvm.MethodName)) ∈ lw_all := lw_g (lw_at lw_m8 119 rfl) rfl
theorem q1891 : (Jvm.Cond.static ({ cls := "FerryClocksModel", name := "sum", desc := "(II)I" } : Jvm.MethodName)) ∈ lw_all := lw_g (lw_at lw_m8 120 rfl) rfl
theorem q1892 : (Jvm.Cond.code ({ cls := "FerryClocksModel", name := "sum", desc := "(II)I" } : Jvm.MethodName) prog_9_method_13_code (2 : Nat) (Option.some Jvm.ClassFile.FieldType.int)) ∈ lw_all := lw_g (lw_at lw_m8 121 rfl) rfl
theorem q1893 : (Jvm.Cond.methodLink "FerryClocksModel" (72 : Nat) ({ cls := "FerryClocksModel", name := "less", desc := "(II)I" } : Jvm.MethodName)) ∈ lw_all := lw_g (lw_at lw_m8 122 rfl) rfl
theorem q1894 : (Jvm.Cond.static ({ cls := "FerryClocksModel", name := "less", desc := "(II)I" } : Jvm.MethodName)) ∈ lw_all := lw_g (lw_at lw_m8 123 rfl) rfl
theorem q1895 : (Jvm.Cond.code ({ cls := "FerryClocksModel", name := "less", desc := "(II)I" } : Jvm.MethodName) prog_9_method_6_code (2 : Nat) (Option.some Jvm.ClassFile.FieldType.int)) ∈ lw_all := lw_g (lw_at lw_m8 124 rfl) rfl
theorem q1896 : (Jvm.Cond.methodLink "FerryClocksModel" (134 : Nat) ({ cls := "FerryClocksModel", name := "ends", desc := "(I)I" } : Jvm.MethodName)) ∈ lw_all := lw_g (lw_at lw_m8 125 rfl) rfl
theorem q1897 : (Jvm.Cond.privateMethod ({ cls := "FerryClocksModel", name := "ends", desc := "(I)I" } : Jvm.MethodName)) ∈ lw_tbl := lw_at lw_m8 126 rfl
theorem q1898 : (Jvm.Cond.instanceMethod ({ cls := "FerryClocksModel", name := "ends", desc := "(I)I" } : Jvm.MethodName)) ∈ lw_all := lw_g (lw_at lw_m8 127 rfl) rfl
theorem q1899 : (Jvm.Cond.code ({ cls := "FerryClocksModel", name := "ends", desc := "(I)I" } : Jvm.MethodName) prog_9_method_11_code (2 : Nat) (Option.some Jvm.ClassFile.FieldType.int)) ∈ lw_all := lw_g (lw_at lw_m8 128 rfl) rfl
theorem q1900 : (Jvm.Cond.methodLink "FerryClocksModel" (60 : Nat) ({ cls := "FerryClocksModel", name := "fails", desc := "(I)I" } : Jvm.MethodName)) ∈ lw_all := lw_g (lw_at lw_m8 129 rfl) rfl
theorem q1901 : (Jvm.Cond.privateMethod ({ cls := "FerryClocksModel", name := "fails", desc := "(I)I" } : Jvm.MethodName)) ∈ lw_tbl := lw_at lw_m8 130 rfl
theorem q1902 : (Jvm.Cond.instanceMethod ({ cls := "FerryClocksModel", name := "fails", desc := "(I)I" } : Jvm.MethodName)) ∈ lw_all := lw_g (lw_at lw_m8 131 rfl) rfl
theorem q1903 : (Jvm.Cond.code ({ cls := "FerryClocksModel", name := "fails", desc := "(I)I" } : Jvm.MethodName) prog_9_method_3_code (2 : Nat) (Option.some Jvm.ClassFile.FieldType.int)) ∈ lw_all := lw_g (lw_at lw_m8 132 rfl) rfl
theorem q1904 : (Jvm.Cond.methodLink "FerryClocksModel" (64 : Nat) ({ cls := "FerryClocksModel", name := "records", desc := "()V" } : Jvm.MethodName)) ∈ lw_all := lw_g (lw_at lw_m8 133 rfl) rfl
theorem q1905 : (Jvm.Cond.privateMethod ({ cls := "FerryClocksModel", name := "records", desc := "()V" } : Jvm.MethodName)) ∈ lw_tbl := lw_at lw_m8 134 rfl
theorem q1906 : (Jvm.Cond.instanceMethod ({ cls := "FerryClocksModel", name := "records", desc := "()V" } : Jvm.MethodName)) ∈ lw_all := lw_g (lw_at lw_m8 135 rfl) rfl
theorem q1907 : (Jvm.Cond.code ({ cls := "FerryClocksModel", name := "records", desc := "()V" } : Jvm.MethodName) prog_9_method_10_code (2 : Nat) (Option.none : Option Jvm.ClassFile.FieldType)) ∈ lw_all := lw_g (lw_at lw_m8 136 rfl) rfl
theorem q1909 : (Jvm.Cond.instanceMethod ({ cls := "FerryClocksModel", name := "forget", desc := "(II)Z" } : Jvm.MethodName)) ∈ lw_all := lw_g (lw_at lw_m8 138 rfl) rfl
theorem q1910 : (Jvm.Cond.selects "FerryClocksModel" ({ cls := "FerryClocksModel", name := "forget", desc := "(II)Z" } : Jvm.MethodName) ({ cls := "FerryClocksModel", name := "forget", desc := "(II)Z" } : Jvm.MethodName)) ∈ lw_all := lw_g (lw_at lw_m8 139 rfl) rfl
theorem q1911 : (Jvm.Cond.code ({ cls := "FerryClocksModel", name := "forget", desc := "(II)Z" } : Jvm.MethodName) prog_9_method_41_code (3 : Nat) (Option.some Jvm.ClassFile.FieldType.boolean)) ∈ lw_all := lw_g (lw_at lw_m8 140 rfl) rfl
theorem q1912 : (Jvm.Cond.methodLink "FerryClocksModel" (137 : Nat) ({ cls := "FerryClocksModel", name := "goForget", desc := "(II)I" } : Jvm.MethodName)) ∈ lw_all := lw_g (lw_at lw_m8 141 rfl) rfl
theorem q1913 : (Jvm.Cond.privateMethod ({ cls := "FerryClocksModel", name := "goForget", desc := "(II)I" } : Jvm.MethodName)) ∈ lw_tbl := lw_at lw_m8 142 rfl
theorem q1914 : (Jvm.Cond.instanceMethod ({ cls := "FerryClocksModel", name := "goForget", desc := "(II)I" } : Jvm.MethodName)) ∈ lw_all := lw_g (lw_at lw_m8 143 rfl) rfl
theorem q1915 : (Jvm.Cond.code ({ cls := "FerryClocksModel", name := "goForget", desc := "(II)I" } : Jvm.MethodName) prog_9_method_27_code (6 : Nat) (Option.some Jvm.ClassFile.FieldType.int)) ∈ lw_all := lw_g (lw_at lw_m8 144 rfl) rfl
theorem q1917 : (Jvm.Cond.instanceMethod ({ cls := "FerryClocksModel", name := "forgetAll", desc := "()I" } : Jvm.MethodName)) ∈ lw_all := lw_g (lw_at lw_m8 146 rfl) rfl
theorem q1918 : (Jvm.Cond.selects "FerryClocksModel" ({ cls := "FerryClocksModel", name := "forgetAll", desc := "()I" } : Jvm.MethodName) ({ cls := "FerryClocksModel", name := "forgetAll", desc := "()I" } : Jvm.MethodName)) ∈ lw_all := lw_g (lw_at lw_m8 147 rfl) rfl
theorem q1919 : (Jvm.Cond.code ({ cls := "FerryClocksModel", name := "forgetAll", desc := "()I" } : Jvm.MethodName) prog_9_method_42_code (1 : Nat) (Option.some Jvm.ClassFile.FieldType.int)) ∈ lw_all := lw_g (lw_at lw_m8 148 rfl) rfl
theorem q1920 : (Jvm.Cond.methodLink "FerryClocksModel" (100 : Nat) ({ cls := "FerryClocksModel", name := "changed", desc := "()I" } : Jvm.MethodName)) ∈ lw_all := lw_g (lw_at lw_m8 149 rfl) rfl
theorem q1921 : (Jvm.Cond.privateMethod ({ cls := "FerryClocksModel", name := "changed", desc := "()I" } : Jvm.MethodName)) ∈ lw_tbl := lw_at lw_m8 150 rfl
theorem q1922 : (Jvm.Cond.instanceMethod ({ cls := "FerryClocksModel", name := "changed", desc := "()I" } : Jvm.MethodName)) ∈ lw_all := lw_g (lw_at lw_m8 151 rfl) rfl
theorem q1923 : (Jvm.Cond.code ({ cls := "FerryClocksModel", name := "changed", desc := "()I" } : Jvm.MethodName) prog_9_method_20_code (3 : Nat) (Option.some Jvm.ClassFile.FieldType.int)) ∈ lw_all := lw_g (lw_at lw_m8 152 rfl) rfl
theorem q1925 : (Jvm.Cond.instanceMethod ({ cls := "FerryClocksModel", name := "tighten", desc := "()I" } : Jvm.MethodName)) ∈ lw_all := lw_g (lw_at lw_m8 154 rfl) rfl
theorem q1926 : (Jvm.Cond.selects "FerryClocksModel" ({ cls := "FerryClocksModel", name := "tighten", desc := "()I" } : Jvm.MethodName) ({ cls := "FerryClocksModel", name := "tighten", desc := "()I" } : Jvm.MethodName)) ∈ lw_all := lw_g (lw_at lw_m8 155 rfl) rfl
theorem q1927 : (Jvm.Cond.code ({ cls := "FerryClocksModel", name := "tighten", desc := "()I" } : Jvm.MethodName) prog_9_method_43_code (1 : Nat) (Option.some Jvm.ClassFile.FieldType.int)) ∈ lw_all := lw_g (lw_at lw_m8 156 rfl) rfl
theorem q1928 : (Jvm.Cond.methodLink "FerryClocksModel" (140 : Nat) ({ cls := "FerryClocksModel", name := "goTighten", desc := "()I" } : Jvm.MethodName)) ∈ lw_all := lw_g (lw_at lw_m8 157 rfl) rfl
theorem q1929 : (Jvm.Cond.privateMethod ({ cls := "FerryClocksModel", name := "goTighten", desc := "()I" } : Jvm.MethodName)) ∈ lw_tbl := lw_at lw_m8 158 rfl
theorem q1930 : (Jvm.Cond.instanceMethod ({ cls := "FerryClocksModel", name := "goTighten", desc := "()I" } : Jvm.MethodName)) ∈ lw_all := lw_g (lw_at lw_m8 159 rfl) rfl
theorem q1931 : (Jvm.Cond.code ({ cls := "FerryClocksModel", name := "goTighten", desc := "()I" } : Jvm.MethodName) prog_9_method_28_code (1 : Nat) (Option.some Jvm.ClassFile.FieldType.int)) ∈ lw_all := lw_g (lw_at lw_m8 160 rfl) rfl
theorem q1932 : (Jvm.Cond.methodLink "FerryClocksModel" (89 : Nat) ({ cls := "FerryClocksModel", name := "isTooFar", desc := "()Z" } : Jvm.MethodName)) ∈ lw_all := lw_g (lw_at lw_m8 161 rfl) rfl
theorem q1933 : (Jvm.Cond.privateMethod ({ cls := "FerryClocksModel", name := "isTooFar", desc := "()Z" } : Jvm.MethodName)) ∈ lw_tbl := lw_at lw_m8 162 rfl
theorem q1934 : (Jvm.Cond.instanceMethod ({ cls := "FerryClocksModel", name := "isTooFar", desc := "()Z" } : Jvm.MethodName)) ∈ lw_all := lw_g (lw_at lw_m8 163 rfl) rfl
theorem q1935 : (Jvm.Cond.code ({ cls := "FerryClocksModel", name := "isTooFar", desc := "()Z" } : Jvm.MethodName) prog_9_method_19_code (3 : Nat) (Option.some Jvm.ClassFile.FieldType.boolean)) ∈ lw_all := lw_g (lw_at lw_m8 164 rfl) rfl
theorem q1936 : (Jvm.Cond.methodLink "FerryClocksModel" (143 : Nat) ({ cls := "FerryClocksModel", name := "only", desc := "(I)I" } : Jvm.MethodName)) ∈ lw_all := lw_g (lw_at lw_m8 165 rfl) rfl
theorem q1937 : (Jvm.Cond.privateMethod ({ cls := "FerryClocksModel", name := "only", desc := "(I)I" } : Jvm.MethodName)) ∈ lw_tbl := lw_at lw_m8 166 rfl
theorem q1938 : (Jvm.Cond.instanceMethod ({ cls := "FerryClocksModel", name := "only", desc := "(I)I" } : Jvm.MethodName)) ∈ lw_all := lw_g (lw_at lw_m8 167 rfl) rfl
theorem q1939 : (Jvm.Cond.code ({ cls := "FerryClocksModel", name := "only", desc := "(I)I" } : Jvm.MethodName) prog_9_method_44_code (3 : Nat) (Option.some Jvm.ClassFile.FieldType.int)) ∈ lw_all := lw_g (lw_at lw_m8 168 rfl) rfl
theorem q1941 : (Jvm.Cond.instanceMethod ({ cls := "FerryClocksModel", name := "reset", desc := "(II)I" } : Jvm.MethodName)) ∈ lw_all := lw_g (lw_at lw_m8 170 rfl) rfl
theorem q1942 : (Jvm.Cond.selects "FerryClocksModel" ({ cls := "FerryClocksModel", name := "reset", desc := "(II)I" } : Jvm.MethodName) ({ cls := "FerryClocksModel", name := "reset", desc := "(II)I" } : Jvm.MethodName)) ∈ lw_all := lw_g (lw_at lw_m8 171 rfl) rfl
theorem q1943 : (Jvm.Cond.code ({ cls := "FerryClocksModel", name := "reset", desc := "(II)I" } : Jvm.MethodName) prog_9_method_45_code (3 : Nat) (Option.some Jvm.ClassFile.FieldType.int)) ∈ lw_all := lw_g (lw_at lw_m8 172 rfl) rfl
theorem q1944 : (Jvm.Cond.methodLink "FerryClocksModel" (146 : Nat) ({ cls := "FerryClocksModel", name := "goReset", desc := "(II)I" } : Jvm.MethodName)) ∈ lw_all := lw_g (lw_at lw_m8 173 rfl) rfl
theorem q1945 : (Jvm.Cond.privateMethod ({ cls := "FerryClocksModel", name := "goReset", desc := "(II)I" } : Jvm.MethodName)) ∈ lw_tbl := lw_at lw_m8 174 rfl
theorem q1946 : (Jvm.Cond.instanceMethod ({ cls := "FerryClocksModel", name := "goReset", desc := "(II)I" } : Jvm.MethodName)) ∈ lw_all := lw_g (lw_at lw_m8 175 rfl) rfl
theorem q1947 : (Jvm.Cond.code ({ cls := "FerryClocksModel", name := "goReset", desc := "(II)I" } : Jvm.MethodName) prog_9_method_29_code (4 : Nat) (Option.some Jvm.ClassFile.FieldType.int)) ∈ lw_all := lw_g (lw_at lw_m8 176 rfl) rfl
theorem q1948 : (Jvm.Cond.methodLink "FerryClocksModel" (104 : Nat) ({ cls := "FerryClocksModel", name := "isClock", desc := "(I)Z" } : Jvm.MethodName)) ∈ lw_all := lw_g (lw_at lw_m8 177 rfl) rfl
theorem q1949 : (Jvm.Cond.static ({ cls := "FerryClocksModel", name := "isClock", desc := "(I)Z" } : Jvm.MethodName)) ∈ lw_all := lw_g (lw_at lw_m8 178 rfl) rfl
theorem q1950 : (Jvm.Cond.code ({ cls := "FerryClocksModel", name := "isClock", desc := "(I)Z" } : Jvm.MethodName) prog_9_method_22_code (1 : Nat) (Option.some Jvm.ClassFile.FieldType.boolean)) ∈ lw_all := lw_g (lw_at lw_m8 179 rfl) rfl
theorem q1951 : (Jvm.Cond.methodLink "FerryClocksModel" (108 : Nat) ({ cls := "FerryClocksModel", name := "most", desc := "(I)I" } : Jvm.MethodName)) ∈ lw_all := lw_g (lw_at lw_m8 180 rfl) rfl
theorem q1952 : (Jvm.Cond.privateMethod ({ cls := "FerryClocksModel", name := "most", desc := "(I)I" } : Jvm.MethodName)) ∈ lw_tbl := lw_at lw_m8 181 rfl
theorem q1953 : (Jvm.Cond.instanceMethod ({ cls := "FerryClocksModel", name := "most", desc := "(I)I" } : Jvm.MethodName)) ∈ lw_all := lw_g (lw_at lw_m8 182 rfl) rfl
theorem q1954 : (Jvm.Cond.code ({ cls := "FerryClocksModel", name := "most", desc := "(I)I" } : Jvm.MethodName) prog_9_method_24_code (2 : Nat) (Option.some Jvm.ClassFile.FieldType.int)) ∈ lw_all := lw_g (lw_at lw_m8 183 rfl) rfl
theorem q1955 : (Jvm.Cond.methodLink "FerryClocksModel" (111 : Nat) ({ cls := "FerryClocksModel", name := "resets", desc := "(II)V" } : Jvm.MethodName)) ∈ lw_all := lw_g (lw_at lw_m8 184 rfl) rfl
theorem q1956 : (Jvm.Cond.privateMethod ({ cls := "FerryClocksModel", name := "resets", desc := "(II)V" } : Jvm.MethodName)) ∈ lw_tbl := lw_at lw_m8 185 rfl
theorem q1957 : (Jvm.Cond.instanceMethod ({ cls := "FerryClocksModel", name := "resets", desc := "(II)V" } : Jvm.MethodName)) ∈ lw_all := lw_g (lw_at lw_m8 186 rfl) rfl
theorem q1958 : (Jvm.Cond.code ({ cls := "FerryClocksModel", name := "resets", desc := "(II)V" } : Jvm.MethodName) prog_9_method_30_code (4 : Nat) (Option.none : Option Jvm.ClassFile.FieldType)) ∈ lw_all := lw_g (lw_at lw_m8 187 rfl) rfl
theorem q1959 : (Jvm.Cond.methodLink "FerryClocksModel" (115 : Nat) ({ cls := "FerryClocksModel", name := "tells", desc := "(I)I" } : Jvm.MethodName)) ∈ lw_all := lw_g (lw_at lw_m8 188 rfl) rfl
theorem q1960 : (Jvm.Cond.privateMethod ({ cls := "FerryClocksModel", name := "tells", desc := "(I)I" } : Jvm.MethodName)) ∈ lw_tbl := lw_at lw_m8 189 rfl
theorem q1961 : (Jvm.Cond.instanceMethod ({ cls := "FerryClocksModel", name := "tells", desc := "(I)I" } : Jvm.MethodName)) ∈ lw_all := lw_g (lw_at lw_m8 190 rfl) rfl
theorem q1962 : (Jvm.Cond.code ({ cls := "FerryClocksModel", name := "tells", desc := "(I)I" } : Jvm.MethodName) prog_9_method_21_code (2 : Nat) (Option.some Jvm.ClassFile.FieldType.int)) ∈ lw_all := lw_g (lw_at lw_m8 191 rfl) rfl
theorem q1964 : (Jvm.Cond.instanceMethod ({ cls := "FerryClocksModel", name := "delay", desc := "()I" } : Jvm.MethodName)) ∈ lw_all := lw_g (lw_at lw_m8 193 rfl) rfl
theorem q1965 : (Jvm.Cond.selects "FerryClocksModel" ({ cls := "FerryClocksModel", name := "delay", desc := "()I" } : Jvm.MethodName) ({ cls := "FerryClocksModel", name := "delay", desc := "()I" } : Jvm.MethodName)) ∈ lw_all := lw_g (lw_at lw_m8 194 rfl) rfl
theorem q1966 : (Jvm.Cond.code ({ cls := "FerryClocksModel", name := "delay", desc := "()I" } : Jvm.MethodName) prog_9_method_46_code (1 : Nat) (Option.some Jvm.ClassFile.FieldType.int)) ∈ lw_all := lw_g (lw_at lw_m8 195 rfl) rfl
theorem q1967 : (Jvm.Cond.methodLink "FerryClocksModel" (149 : Nat) ({ cls := "FerryClocksModel", name := "goDelay", desc := "()I" } : Jvm.MethodName)) ∈ lw_all := lw_g (lw_at lw_m8 196 rfl) rfl
theorem q1968 : (Jvm.Cond.privateMethod ({ cls := "FerryClocksModel", name := "goDelay", desc := "()I" } : Jvm.MethodName)) ∈ lw_tbl := lw_at lw_m8 197 rfl
theorem q1969 : (Jvm.Cond.instanceMethod ({ cls := "FerryClocksModel", name := "goDelay", desc := "()I" } : Jvm.MethodName)) ∈ lw_all := lw_g (lw_at lw_m8 198 rfl) rfl
theorem q1970 : (Jvm.Cond.code ({ cls := "FerryClocksModel", name := "goDelay", desc := "()I" } : Jvm.MethodName) prog_9_method_32_code (1 : Nat) (Option.some Jvm.ClassFile.FieldType.int)) ∈ lw_all := lw_g (lw_at lw_m8 199 rfl) rfl
theorem q1971 : (Jvm.Cond.methodLink "FerryClocksModel" (118 : Nat) ({ cls := "FerryClocksModel", name := "delays", desc := "()I" } : Jvm.MethodName)) ∈ lw_all := lw_g (lw_at lw_m8 200 rfl) rfl
theorem q1972 : (Jvm.Cond.privateMethod ({ cls := "FerryClocksModel", name := "delays", desc := "()I" } : Jvm.MethodName)) ∈ lw_tbl := lw_at lw_m8 201 rfl
theorem q1973 : (Jvm.Cond.instanceMethod ({ cls := "FerryClocksModel", name := "delays", desc := "()I" } : Jvm.MethodName)) ∈ lw_all := lw_g (lw_at lw_m8 202 rfl) rfl
theorem q1974 : (Jvm.Cond.code ({ cls := "FerryClocksModel", name := "delays", desc := "()I" } : Jvm.MethodName) prog_9_method_31_code (3 : Nat) (Option.some Jvm.ClassFile.FieldType.int)) ∈ lw_all := lw_g (lw_at lw_m8 203 rfl) rfl
theorem q1976 : (Jvm.Cond.instanceMethod ({ cls := "FerryClocksModel", name := "goBackInTime", desc := "()I" } : Jvm.MethodName)) ∈ lw_all := lw_g (lw_at lw_m8 205 rfl) rfl
theorem q1977 : (Jvm.Cond.selects "FerryClocksModel" ({ cls := "FerryClocksModel", name := "goBackInTime", desc := "()I" } : Jvm.MethodName) ({ cls := "FerryClocksModel", name := "goBackInTime", desc := "()I" } : Jvm.MethodName)) ∈ lw_all := lw_g (lw_at lw_m8 206 rfl) rfl
theorem q1978 : (Jvm.Cond.code ({ cls := "FerryClocksModel", name := "goBackInTime", desc := "()I" } : Jvm.MethodName) prog_9_method_47_code (1 : Nat) (Option.some Jvm.ClassFile.FieldType.int)) ∈ lw_all := lw_g (lw_at lw_m8 207 rfl) rfl
theorem q1979 : (Jvm.Cond.methodLink "FerryClocksModel" (152 : Nat) ({ cls := "FerryClocksModel", name := "goWayBack", desc := "()I" } : Jvm.MethodName)) ∈ lw_all := lw_g (lw_at lw_m8 208 rfl) rfl
theorem q1980 : (Jvm.Cond.privateMethod ({ cls := "FerryClocksModel", name := "goWayBack", desc := "()I" } : Jvm.MethodName)) ∈ lw_tbl := lw_at lw_m8 209 rfl
theorem q1981 : (Jvm.Cond.instanceMethod ({ cls := "FerryClocksModel", name := "goWayBack", desc := "()I" } : Jvm.MethodName)) ∈ lw_all := lw_g (lw_at lw_m8 210 rfl) rfl
theorem q1982 : (Jvm.Cond.code ({ cls := "FerryClocksModel", name := "goWayBack", desc := "()I" } : Jvm.MethodName) prog_9_method_33_code (4 : Nat) (Option.some Jvm.ClassFile.FieldType.int)) ∈ lw_all := lw_g (lw_at lw_m8 211 rfl) rfl
theorem q1983 : (Jvm.Cond.methodLink "FerryClocksModel" (121 : Nat) ({ cls := "FerryClocksModel", name := "toldBounds", desc := "()I" } : Jvm.MethodName)) ∈ lw_all := lw_g (lw_at lw_m8 212 rfl) rfl
theorem q1984 : (Jvm.Cond.privateMethod ({ cls := "FerryClocksModel", name := "toldBounds", desc := "()I" } : Jvm.MethodName)) ∈ lw_tbl := lw_at lw_m8 213 rfl
theorem q1985 : (Jvm.Cond.instanceMethod ({ cls := "FerryClocksModel", name := "toldBounds", desc := "()I" } : Jvm.MethodName)) ∈ lw_all := lw_g (lw_at lw_m8 214 rfl) rfl
theorem q1986 : (Jvm.Cond.code ({ cls := "FerryClocksModel", name := "toldBounds", desc := "()I" } : Jvm.MethodName) prog_9_method_34_code (2 : Nat) (Option.some Jvm.ClassFile.FieldType.int)) ∈ lw_all := lw_g (lw_at lw_m8 215 rfl) rfl
theorem q1988 : (Jvm.Cond.instanceMethod ({ cls := "FerryClocksModel", name := "setFree", desc := "(I)I" } : Jvm.MethodName)) ∈ lw_all := lw_g (lw_at lw_m8 217 rfl) rfl
theorem q1989 : (Jvm.Cond.selects "FerryClocksModel" ({ cls := "FerryClocksModel", name := "setFree", desc := "(I)I" } : Jvm.MethodName) ({ cls := "FerryClocksModel", name := "setFree", desc := "(I)I" } : Jvm.MethodName)) ∈ lw_all := lw_g (lw_at lw_m8 218 rfl) rfl
theorem q1990 : (Jvm.Cond.code ({ cls := "FerryClocksModel", name := "setFree", desc := "(I)I" } : Jvm.MethodName) prog_9_method_48_code (2 : Nat) (Option.some Jvm.ClassFile.FieldType.int)) ∈ lw_all := lw_g (lw_at lw_m8 219 rfl) rfl
theorem q1991 : (Jvm.Cond.methodLink "FerryClocksModel" (155 : Nat) ({ cls := "FerryClocksModel", name := "goFree", desc := "(I)I" } : Jvm.MethodName)) ∈ lw_all := lw_g (lw_at lw_m8 220 rfl) rfl
theorem q1992 : (Jvm.Cond.privateMethod ({ cls := "FerryClocksModel", name := "goFree", desc := "(I)I" } : Jvm.MethodName)) ∈ lw_tbl := lw_at lw_m8 221 rfl
theorem q1993 : (Jvm.Cond.instanceMethod ({ cls := "FerryClocksModel", name := "goFree", desc := "(I)I" } : Jvm.MethodName)) ∈ lw_all := lw_g (lw_at lw_m8 222 rfl) rfl
theorem q1994 : (Jvm.Cond.code ({ cls := "FerryClocksModel", name := "goFree", desc := "(I)I" } : Jvm.MethodName) prog_9_method_35_code (3 : Nat) (Option.some Jvm.ClassFile.FieldType.int)) ∈ lw_all := lw_g (lw_at lw_m8 223 rfl) rfl
theorem q1996 : (Jvm.Cond.instanceMethod ({ cls := "FerryClocksModel", name := "copyClock", desc := "(II)I" } : Jvm.MethodName)) ∈ lw_all := lw_g (lw_at lw_m8 225 rfl) rfl
theorem q1997 : (Jvm.Cond.selects "FerryClocksModel" ({ cls := "FerryClocksModel", name := "copyClock", desc := "(II)I" } : Jvm.MethodName) ({ cls := "FerryClocksModel", name := "copyClock", desc := "(II)I" } : Jvm.MethodName)) ∈ lw_all := lw_g (lw_at lw_m8 226 rfl) rfl
theorem q1998 : (Jvm.Cond.code ({ cls := "FerryClocksModel", name := "copyClock", desc := "(II)I" } : Jvm.MethodName) prog_9_method_49_code (3 : Nat) (Option.some Jvm.ClassFile.FieldType.int)) ∈ lw_all := lw_g (lw_at lw_m8 227 rfl) rfl
theorem q1999 : (Jvm.Cond.methodLink "FerryClocksModel" (158 : Nat) ({ cls := "FerryClocksModel", name := "goCopy", desc := "(II)I" } : Jvm.MethodName)) ∈ lw_all := lw_g (lw_at lw_m8 228 rfl) rfl
theorem q2000 : (Jvm.Cond.privateMethod ({ cls := "FerryClocksModel", name := "goCopy", desc := "(II)I" } : Jvm.MethodName)) ∈ lw_tbl := lw_at lw_m8 229 rfl
theorem q2001 : (Jvm.Cond.instanceMethod ({ cls := "FerryClocksModel", name := "goCopy", desc := "(II)I" } : Jvm.MethodName)) ∈ lw_all := lw_g (lw_at lw_m8 230 rfl) rfl
theorem q2002 : (Jvm.Cond.code ({ cls := "FerryClocksModel", name := "goCopy", desc := "(II)I" } : Jvm.MethodName) prog_9_method_36_code (4 : Nat) (Option.some Jvm.ClassFile.FieldType.int)) ∈ lw_all := lw_g (lw_at lw_m8 231 rfl) rfl
theorem q2003 : (Jvm.Cond.methodLink "FerryClocksModel" (124 : Nat) ({ cls := "FerryClocksModel", name := "least", desc := "(I)I" } : Jvm.MethodName)) ∈ lw_all := lw_g (lw_at lw_m8 232 rfl) rfl
theorem q2004 : (Jvm.Cond.privateMethod ({ cls := "FerryClocksModel", name := "least", desc := "(I)I" } : Jvm.MethodName)) ∈ lw_tbl := lw_at lw_m8 233 rfl
theorem q2005 : (Jvm.Cond.instanceMethod ({ cls := "FerryClocksModel", name := "least", desc := "(I)I" } : Jvm.MethodName)) ∈ lw_all := lw_g (lw_at lw_m8 234 rfl) rfl
theorem q2006 : (Jvm.Cond.code ({ cls := "FerryClocksModel", name := "least", desc := "(I)I" } : Jvm.MethodName) prog_9_method_25_code (2 : Nat) (Option.some Jvm.ClassFile.FieldType.int)) ∈ lw_all := lw_g (lw_at lw_m8 235 rfl) rfl
theorem q2008 : (Jvm.Cond.instanceMethod ({ cls := "FerryClocksModel", name := "shift", desc := "(II)I" } : Jvm.MethodName)) ∈ lw_all := lw_g (lw_at lw_m8 237 rfl) rfl
theorem q2009 : (Jvm.Cond.selects "FerryClocksModel" ({ cls := "FerryClocksModel", name := "shift", desc := "(II)I" } : Jvm.MethodName) ({ cls := "FerryClocksModel", name := "shift", desc := "(II)I" } : Jvm.MethodName)) ∈ lw_all := lw_g (lw_at lw_m8 238 rfl) rfl
theorem q2010 : (Jvm.Cond.code ({ cls := "FerryClocksModel", name := "shift", desc := "(II)I" } : Jvm.MethodName) prog_9_method_50_code (3 : Nat) (Option.some Jvm.ClassFile.FieldType.int)) ∈ lw_all := lw_g (lw_at lw_m8 239 rfl) rfl
theorem q2011 : (Jvm.Cond.methodLink "FerryClocksModel" (161 : Nat) ({ cls := "FerryClocksModel", name := "goShift", desc := "(II)I" } : Jvm.MethodName)) ∈ lw_all := lw_g (lw_at lw_m9 0 rfl) rfl
theorem q2012 : (Jvm.Cond.privateMethod ({ cls := "FerryClocksModel", name := "goShift", desc := "(II)I" } : Jvm.MethodName)) ∈ lw_tbl := lw_at lw_m9 1 rfl
theorem q2013 : (Jvm.Cond.instanceMethod ({ cls := "FerryClocksModel", name := "goShift", desc := "(II)I" } : Jvm.MethodName)) ∈ lw_all := lw_g (lw_at lw_m9 2 rfl) rfl
theorem q2014 : (Jvm.Cond.code ({ cls := "FerryClocksModel", name := "goShift", desc := "(II)I" } : Jvm.MethodName) prog_9_method_37_code (4 : Nat) (Option.some Jvm.ClassFile.FieldType.int)) ∈ lw_all := lw_g (lw_at lw_m9 3 rfl) rfl
theorem q2016 : (Jvm.Cond.instanceMethod ({ cls := "FerryClocksModel", name := "store", desc := "(I)Z" } : Jvm.MethodName)) ∈ lw_all := lw_g (lw_at lw_m9 5 rfl) rfl
theorem q2017 : (Jvm.Cond.selects "FerryClocksModel" ({ cls := "FerryClocksModel", name := "store", desc := "(I)Z" } : Jvm.MethodName) ({ cls := "FerryClocksModel", name := "store", desc := "(I)Z" } : Jvm.MethodName)) ∈ lw_all := lw_g (lw_at lw_m9 6 rfl) rfl
theorem q2018 : (Jvm.Cond.code ({ cls := "FerryClocksModel", name := "store", desc := "(I)Z" } : Jvm.MethodName) prog_9_method_51_code (3 : Nat) (Option.some Jvm.ClassFile.FieldType.boolean)) ∈ lw_all := lw_g (lw_at lw_m9 7 rfl) rfl
theorem q2019 : (Jvm.Cond.methodLink "FerryClocksModel" (164 : Nat) ({ cls := "FerryClocksModel", name := "isSlot", desc := "(I)Z" } : Jvm.MethodName)) ∈ lw_all := lw_g (lw_at lw_m9 8 rfl) rfl
theorem q2020 : (Jvm.Cond.static ({ cls := "FerryClocksModel", name := "isSlot", desc := "(I)Z" } : Jvm.MethodName)) ∈ lw_all := lw_g (lw_at lw_m9 9 rfl) rfl
theorem q2021 : (Jvm.Cond.code ({ cls := "FerryClocksModel", name := "isSlot", desc := "(I)Z" } : Jvm.MethodName) prog_9_method_38_code (1 : Nat) (Option.some Jvm.ClassFile.FieldType.boolean)) ∈ lw_all := lw_g (lw_at lw_m9 10 rfl) rfl
theorem q2023 : (Jvm.Cond.instanceMethod ({ cls := "FerryClocksModel", name := "meet", desc := "(I)I" } : Jvm.MethodName)) ∈ lw_all := lw_g (lw_at lw_m9 12 rfl) rfl
theorem q2024 : (Jvm.Cond.selects "FerryClocksModel" ({ cls := "FerryClocksModel", name := "meet", desc := "(I)I" } : Jvm.MethodName) ({ cls := "FerryClocksModel", name := "meet", desc := "(I)I" } : Jvm.MethodName)) ∈ lw_all := lw_g (lw_at lw_m9 13 rfl) rfl
theorem q2025 : (Jvm.Cond.code ({ cls := "FerryClocksModel", name := "meet", desc := "(I)I" } : Jvm.MethodName) prog_9_method_52_code (3 : Nat) (Option.some Jvm.ClassFile.FieldType.int)) ∈ lw_all := lw_g (lw_at lw_m9 14 rfl) rfl
theorem q2026 : (Jvm.Cond.methodLink "FerryClocksModel" (167 : Nat) ({ cls := "FerryClocksModel", name := "hasZone", desc := "(I)Z" } : Jvm.MethodName)) ∈ lw_all := lw_g (lw_at lw_m9 15 rfl) rfl
theorem q2027 : (Jvm.Cond.privateMethod ({ cls := "FerryClocksModel", name := "hasZone", desc := "(I)Z" } : Jvm.MethodName)) ∈ lw_tbl := lw_at lw_m9 16 rfl
theorem q2028 : (Jvm.Cond.instanceMethod ({ cls := "FerryClocksModel", name := "hasZone", desc := "(I)Z" } : Jvm.MethodName)) ∈ lw_all := lw_g (lw_at lw_m9 17 rfl) rfl
theorem q2029 : (Jvm.Cond.code ({ cls := "FerryClocksModel", name := "hasZone", desc := "(I)Z" } : Jvm.MethodName) prog_9_method_39_code (2 : Nat) (Option.some Jvm.ClassFile.FieldType.boolean)) ∈ lw_all := lw_g (lw_at lw_m9 18 rfl) rfl
theorem q2031 : (Jvm.Cond.instanceMethod ({ cls := "FerryClocksModel", name := "wrap", desc := "(I)I" } : Jvm.MethodName)) ∈ lw_all := lw_g (lw_at lw_m9 20 rfl) rfl
theorem q2032 : (Jvm.Cond.selects "FerryClocksModel" ({ cls := "FerryClocksModel", name := "wrap", desc := "(I)I" } : Jvm.MethodName) ({ cls := "FerryClocksModel", name := "wrap", desc := "(I)I" } : Jvm.MethodName)) ∈ lw_all := lw_g (lw_at lw_m9 21 rfl) rfl
theorem q2033 : (Jvm.Cond.code ({ cls := "FerryClocksModel", name := "wrap", desc := "(I)I" } : Jvm.MethodName) prog_9_method_53_code (4 : Nat) (Option.some Jvm.ClassFile.FieldType.int)) ∈ lw_all := lw_g (lw_at lw_m9 22 rfl) rfl
theorem q2034 : (Jvm.Cond.methodLink "FerryClocksModel" (170 : Nat) ({ cls := "FerryClocksModel", name := "looksAt", desc := "(I)Z" } : Jvm.MethodName)) ∈ lw_all := lw_g (lw_at lw_m9 23 rfl) rfl
theorem q2035 : (Jvm.Cond.privateMethod ({ cls := "FerryClocksModel", name := "looksAt", desc := "(I)Z" } : Jvm.MethodName)) ∈ lw_tbl := lw_at lw_m9 24 rfl
theorem q2036 : (Jvm.Cond.instanceMethod ({ cls := "FerryClocksModel", name := "looksAt", desc := "(I)Z" } : Jvm.MethodName)) ∈ lw_all := lw_g (lw_at lw_m9 25 rfl) rfl
theorem q2037 : (Jvm.Cond.code ({ cls := "FerryClocksModel", name := "looksAt", desc := "(I)Z" } : Jvm.MethodName) prog_9_method_17_code (2 : Nat) (Option.some Jvm.ClassFile.FieldType.boolean)) ∈ lw_all := lw_g (lw_at lw_m9 26 rfl) rfl
theorem q2038 : (Jvm.Cond.methodLink "FerryClocksModel" (173 : Nat) ({ cls := "FerryClocksModel", name := "more", desc := "(II)I" } : Jvm.MethodName)) ∈ lw_all := lw_g (lw_at lw_m9 27 rfl) rfl
theorem q2039 : (Jvm.Cond.static ({ cls := "FerryClocksModel", name := "more", desc := "(II)I" } : Jvm.MethodName)) ∈ lw_all := lw_g (lw_at lw_m9 28 rfl) rfl
theorem q2040 : (Jvm.Cond.code ({ cls := "FerryClocksModel", name := "more", desc := "(II)I" } : Jvm.MethodName) prog_9_method_7_code (2 : Nat) (Option.some Jvm.ClassFile.FieldType.int)) ∈ lw_all := lw_g (lw_at lw_m9 29 rfl) rfl
theorem q2042 : (Jvm.Cond.instanceMethod ({ cls := "FerryClocksModel", name := "setStay", desc := "(III)I" } : Jvm.MethodName)) ∈ lw_all := lw_g (lw_at lw_m9 31 rfl) rfl
theorem q2043 : (Jvm.Cond.selects "FerryClocksModel" ({ cls := "FerryClocksModel", name := "setStay", desc := "(III)I" } : Jvm.MethodName) ({ cls := "FerryClocksModel", name := "setStay", desc := "(III)I" } : Jvm.MethodName)) ∈ lw_all := lw_g (lw_at lw_m9 32 rfl) rfl
theorem q2044 : (Jvm.Cond.code ({ cls := "FerryClocksModel", name := "setStay", desc := "(III)I" } : Jvm.MethodName) prog_9_method_58_code (5 : Nat) (Option.some Jvm.ClassFile.FieldType.int)) ∈ lw_all := lw_g (lw_at lw_m9 33 rfl) rfl
theorem q2045 : (Jvm.Cond.methodLink "FerryClocksModel" (176 : Nat) ({ cls := "FerryClocksModel", name := "isHarbour", desc := "(I)Z" } : Jvm.MethodName)) ∈ lw_all := lw_g (lw_at lw_m9 34 rfl) rfl
theorem q2046 : (Jvm.Cond.static ({ cls := "FerryClocksModel", name := "isHarbour", desc := "(I)Z" } : Jvm.MethodName)) ∈ lw_all := lw_g (lw_at lw_m9 35 rfl) rfl
theorem q2047 : (Jvm.Cond.code ({ cls := "FerryClocksModel", name := "isHarbour", desc := "(I)Z" } : Jvm.MethodName) prog_9_method_54_code (1 : Nat) (Option.some Jvm.ClassFile.FieldType.boolean)) ∈ lw_all := lw_g (lw_at lw_m9 36 rfl) rfl
theorem q2049 : (Jvm.Cond.instanceMethod ({ cls := "FerryClocksModel", name := "addLine", desc := "(II)I" } : Jvm.MethodName)) ∈ lw_all := lw_g (lw_at lw_m9 38 rfl) rfl
theorem q2050 : (Jvm.Cond.selects "FerryClocksModel" ({ cls := "FerryClocksModel", name := "addLine", desc := "(II)I" } : Jvm.MethodName) ({ cls := "FerryClocksModel", name := "addLine", desc := "(II)I" } : Jvm.MethodName)) ∈ lw_all := lw_g (lw_at lw_m9 39 rfl) rfl
theorem q2051 : (Jvm.Cond.code ({ cls := "FerryClocksModel", name := "addLine", desc := "(II)I" } : Jvm.MethodName) prog_9_method_59_code (5 : Nat) (Option.some Jvm.ClassFile.FieldType.int)) ∈ lw_all := lw_g (lw_at lw_m9 40 rfl) rfl
theorem q2052 : (Jvm.Cond.methodLink "FerryClocksModel" (179 : Nat) ({ cls := "FerryClocksModel", name := "lays", desc := "(III)V" } : Jvm.MethodName)) ∈ lw_all := lw_g (lw_at lw_m9 41 rfl) rfl
theorem q2053 : (Jvm.Cond.privateMethod ({ cls := "FerryClocksModel", name := "lays", desc := "(III)V" } : Jvm.MethodName)) ∈ lw_tbl := lw_at lw_m9 42 rfl
theorem q2054 : (Jvm.Cond.instanceMethod ({ cls := "FerryClocksModel", name := "lays", desc := "(III)V" } : Jvm.MethodName)) ∈ lw_all := lw_g (lw_at lw_m9 43 rfl) rfl
theorem q2055 : (Jvm.Cond.code ({ cls := "FerryClocksModel", name := "lays", desc := "(III)V" } : Jvm.MethodName) prog_9_method_57_code (4 : Nat) (Option.none : Option Jvm.ClassFile.FieldType)) ∈ lw_all := lw_g (lw_at lw_m9 44 rfl) rfl
theorem q2057 : (Jvm.Cond.instanceMethod ({ cls := "FerryClocksModel", name := "setNeed", desc := "(IIII)I" } : Jvm.MethodName)) ∈ lw_all := lw_g (lw_at lw_m9 46 rfl) rfl
theorem q2058 : (Jvm.Cond.selects "FerryClocksModel" ({ cls := "FerryClocksModel", name := "setNeed", desc := "(IIII)I" } : Jvm.MethodName) ({ cls := "FerryClocksModel", name := "setNeed", desc := "(IIII)I" } : Jvm.MethodName)) ∈ lw_all := lw_g (lw_at lw_m9 47 rfl) rfl
theorem q2059 : (Jvm.Cond.code ({ cls := "FerryClocksModel", name := "setNeed", desc := "(IIII)I" } : Jvm.MethodName) prog_9_method_60_code (6 : Nat) (Option.some Jvm.ClassFile.FieldType.int)) ∈ lw_all := lw_g (lw_at lw_m9 48 rfl) rfl
theorem q2060 : (Jvm.Cond.methodLink "FerryClocksModel" (183 : Nat) ({ cls := "FerryClocksModel", name := "isLine", desc := "(I)Z" } : Jvm.MethodName)) ∈ lw_all := lw_g (lw_at lw_m9 49 rfl) rfl
theorem q2061 : (Jvm.Cond.privateMethod ({ cls := "FerryClocksModel", name := "isLine", desc := "(I)Z" } : Jvm.MethodName)) ∈ lw_tbl := lw_at lw_m9 50 rfl
theorem q2062 : (Jvm.Cond.instanceMethod ({ cls := "FerryClocksModel", name := "isLine", desc := "(I)Z" } : Jvm.MethodName)) ∈ lw_all := lw_g (lw_at lw_m9 51 rfl) rfl
theorem q2063 : (Jvm.Cond.code ({ cls := "FerryClocksModel", name := "isLine", desc := "(I)Z" } : Jvm.MethodName) prog_9_method_55_code (2 : Nat) (Option.some Jvm.ClassFile.FieldType.boolean)) ∈ lw_all := lw_g (lw_at lw_m9 52 rfl) rfl
theorem q2064 : (Jvm.Cond.methodLink "FerryClocksModel" (186 : Nat) ({ cls := "FerryClocksModel", name := "line", desc := "(II)I" } : Jvm.MethodName)) ∈ lw_all := lw_g (lw_at lw_m9 53 rfl) rfl
theorem q2065 : (Jvm.Cond.privateMethod ({ cls := "FerryClocksModel", name := "line", desc := "(II)I" } : Jvm.MethodName)) ∈ lw_tbl := lw_at lw_m9 54 rfl
theorem q2066 : (Jvm.Cond.instanceMethod ({ cls := "FerryClocksModel", name := "line", desc := "(II)I" } : Jvm.MethodName)) ∈ lw_all := lw_g (lw_at lw_m9 55 rfl) rfl
theorem q2067 : (Jvm.Cond.code ({ cls := "FerryClocksModel", name := "line", desc := "(II)I" } : Jvm.MethodName) prog_9_method_56_code (3 : Nat) (Option.some Jvm.ClassFile.FieldType.int)) ∈ lw_all := lw_g (lw_at lw_m9 56 rfl) rfl
theorem q2069 : (Jvm.Cond.instanceMethod ({ cls := "FerryClocksModel", name := "turnReset", desc := "(II)Z" } : Jvm.MethodName)) ∈ lw_all := lw_g (lw_at lw_m9 58 rfl) rfl
theorem q2070 : (Jvm.Cond.selects "FerryClocksModel" ({ cls := "FerryClocksModel", name := "turnReset", desc := "(II)Z" } : Jvm.MethodName) ({ cls := "FerryClocksModel", name := "turnReset", desc := "(II)Z" } : Jvm.MethodName)) ∈ lw_all := lw_g (lw_at lw_m9 59 rfl) rfl
theorem q2071 : (Jvm.Cond.code ({ cls := "FerryClocksModel", name := "turnReset", desc := "(II)Z" } : Jvm.MethodName) prog_9_method_61_code (4 : Nat) (Option.some Jvm.ClassFile.FieldType.boolean)) ∈ lw_all := lw_g (lw_at lw_m9 60 rfl) rfl
theorem q2073 : (Jvm.Cond.instanceMethod ({ cls := "FerryClocksModel", name := "told", desc := "(II)I" } : Jvm.MethodName)) ∈ lw_all := lw_g (lw_at lw_m9 62 rfl) rfl
theorem q2074 : (Jvm.Cond.selects "FerryClocksModel" ({ cls := "FerryClocksModel", name := "told", desc := "(II)I" } : Jvm.MethodName) ({ cls := "FerryClocksModel", name := "told", desc := "(II)I" } : Jvm.MethodName)) ∈ lw_all := lw_g (lw_at lw_m9 63 rfl) rfl
theorem q2075 : (Jvm.Cond.code ({ cls := "FerryClocksModel", name := "told", desc := "(II)I" } : Jvm.MethodName) prog_9_method_63_code (3 : Nat) (Option.some Jvm.ClassFile.FieldType.int)) ∈ lw_all := lw_g (lw_at lw_m9 64 rfl) rfl
theorem q2076 : (Jvm.Cond.methodLink "FerryClocksModel" (189 : Nat) ({ cls := "FerryClocksModel", name := "asks", desc := "(Z)Z" } : Jvm.MethodName)) ∈ lw_all := lw_g (lw_at lw_m9 65 rfl) rfl
theorem q2077 : (Jvm.Cond.privateMethod ({ cls := "FerryClocksModel", name := "asks", desc := "(Z)Z" } : Jvm.MethodName)) ∈ lw_tbl := lw_at lw_m9 66 rfl
theorem q2078 : (Jvm.Cond.instanceMethod ({ cls := "FerryClocksModel", name := "asks", desc := "(Z)Z" } : Jvm.MethodName)) ∈ lw_all := lw_g (lw_at lw_m9 67 rfl) rfl
theorem q2079 : (Jvm.Cond.code ({ cls := "FerryClocksModel", name := "asks", desc := "(Z)Z" } : Jvm.MethodName) prog_9_method_4_code (2 : Nat) (Option.some Jvm.ClassFile.FieldType.boolean)) ∈ lw_all := lw_g (lw_at lw_m9 68 rfl) rfl
theorem q2080 : (Jvm.Cond.methodLink "FerryClocksModel" (193 : Nat) ({ cls := "FerryClocksModel", name := "bound", desc := "([II)I" } : Jvm.MethodName)) ∈ lw_all := lw_g (lw_at lw_m9 69 rfl) rfl
theorem q2081 : (Jvm.Cond.privateMethod ({ cls := "FerryClocksModel", name := "bound", desc := "([II)I" } : Jvm.MethodName)) ∈ lw_tbl := lw_at lw_m9 70 rfl
theorem q2082 : (Jvm.Cond.instanceMethod ({ cls := "FerryClocksModel", name := "bound", desc := "([II)I" } : Jvm.MethodName)) ∈ lw_all := lw_g (lw_at lw_m9 71 rfl) rfl
theorem q2083 : (Jvm.Cond.code ({ cls := "FerryClocksModel", name := "bound", desc := "([II)I" } : Jvm.MethodName) prog_9_method_62_code (3 : Nat) (Option.some Jvm.ClassFile.FieldType.int)) ∈ lw_all := lw_g (lw_at lw_m9 72 rfl) rfl
theorem q2085 : (Jvm.Cond.instanceMethod ({ cls := "FerryClocksModel", name := "tightened", desc := "(II)I" } : Jvm.MethodName)) ∈ lw_all := lw_g (lw_at lw_m9 74 rfl) rfl
theorem q2086 : (Jvm.Cond.selects "FerryClocksModel" ({ cls := "FerryClocksModel", name := "tightened", desc := "(II)I" } : Jvm.MethodName) ({ cls := "FerryClocksModel", name := "tightened", desc := "(II)I" } : Jvm.MethodName)) ∈ lw_all := lw_g (lw_at lw_m9 75 rfl) rfl
theorem q2087 : (Jvm.Cond.code ({ cls := "FerryClocksModel", name := "tightened", desc := "(II)I" } : Jvm.MethodName) prog_9_method_64_code (3 : Nat) (Option.some Jvm.ClassFile.FieldType.int)) ∈ lw_all := lw_g (lw_at lw_m9 76 rfl) rfl
theorem q2089 : (Jvm.Cond.instanceMethod ({ cls := "FerryClocksModel", name := "isTight", desc := "()Z" } : Jvm.MethodName)) ∈ lw_all := lw_g (lw_at lw_m9 78 rfl) rfl
theorem q2090 : (Jvm.Cond.selects "FerryClocksModel" ({ cls := "FerryClocksModel", name := "isTight", desc := "()Z" } : Jvm.MethodName) ({ cls := "FerryClocksModel", name := "isTight", desc := "()Z" } : Jvm.MethodName)) ∈ lw_all := lw_g (lw_at lw_m9 79 rfl) rfl
theorem q2091 : (Jvm.Cond.code ({ cls := "FerryClocksModel", name := "isTight", desc := "()Z" } : Jvm.MethodName) prog_9_method_65_code (3 : Nat) (Option.some Jvm.ClassFile.FieldType.boolean)) ∈ lw_all := lw_g (lw_at lw_m9 80 rfl) rfl
theorem q2093 : (Jvm.Cond.instanceMethod ({ cls := "FerryClocksModel", name := "isEmpty", desc := "()Z" } : Jvm.MethodName)) ∈ lw_all := lw_g (lw_at lw_m9 82 rfl) rfl
theorem q2094 : (Jvm.Cond.selects "FerryClocksModel" ({ cls := "FerryClocksModel", name := "isEmpty", desc := "()Z" } : Jvm.MethodName) ({ cls := "FerryClocksModel", name := "isEmpty", desc := "()Z" } : Jvm.MethodName)) ∈ lw_all := lw_g (lw_at lw_m9 83 rfl) rfl
theorem q2095 : (Jvm.Cond.code ({ cls := "FerryClocksModel", name := "isEmpty", desc := "()Z" } : Jvm.MethodName) prog_9_method_67_code (1 : Nat) (Option.some Jvm.ClassFile.FieldType.boolean)) ∈ lw_all := lw_g (lw_at lw_m9 84 rfl) rfl
theorem q2096 : (Jvm.Cond.methodLink "FerryClocksModel" (197 : Nat) ({ cls := "FerryClocksModel", name := "hasNone", desc := "()Z" } : Jvm.MethodName)) ∈ lw_all := lw_g (lw_at lw_m9 85 rfl) rfl
theorem q2097 : (Jvm.Cond.privateMethod ({ cls := "FerryClocksModel", name := "hasNone", desc := "()Z" } : Jvm.MethodName)) ∈ lw_tbl := lw_at lw_m9 86 rfl
theorem q2098 : (Jvm.Cond.instanceMethod ({ cls := "FerryClocksModel", name := "hasNone", desc := "()Z" } : Jvm.MethodName)) ∈ lw_all := lw_g (lw_at lw_m9 87 rfl) rfl
theorem q2099 : (Jvm.Cond.code ({ cls := "FerryClocksModel", name := "hasNone", desc := "()Z" } : Jvm.MethodName) prog_9_method_66_code (1 : Nat) (Option.some Jvm.ClassFile.FieldType.boolean)) ∈ lw_all := lw_g (lw_at lw_m9 88 rfl) rfl
theorem q2101 : (Jvm.Cond.instanceMethod ({ cls := "FerryClocksModel", name := "isEmptyByMoments", desc := "()Z" } : Jvm.MethodName)) ∈ lw_all := lw_g (lw_at lw_m9 90 rfl) rfl
theorem q2102 : (Jvm.Cond.selects "FerryClocksModel" ({ cls := "FerryClocksModel", name := "isEmptyByMoments", desc := "()Z" } : Jvm.MethodName) ({ cls := "FerryClocksModel", name := "isEmptyByMoments", desc := "()Z" } : Jvm.MethodName)) ∈ lw_all := lw_g (lw_at lw_m9 91 rfl) rfl
theorem q2103 : (Jvm.Cond.code ({ cls := "FerryClocksModel", name := "isEmptyByMoments", desc := "()Z" } : Jvm.MethodName) prog_9_method_68_code (1 : Nat) (Option.some Jvm.ClassFile.FieldType.boolean)) ∈ lw_all := lw_g (lw_at lw_m9 92 rfl) rfl
theorem q2105 : (Jvm.Cond.instanceMethod ({ cls := "FerryClocksModel", name := "hasMoment", desc := "(III)Z" } : Jvm.MethodName)) ∈ lw_all := lw_g (lw_at lw_m9 94 rfl) rfl
theorem q2106 : (Jvm.Cond.selects "FerryClocksModel" ({ cls := "FerryClocksModel", name := "hasMoment", desc := "(III)Z" } : Jvm.MethodName) ({ cls := "FerryClocksModel", name := "hasMoment", desc := "(III)Z" } : Jvm.MethodName)) ∈ lw_all := lw_g (lw_at lw_m9 95 rfl) rfl
theorem q2107 : (Jvm.Cond.code ({ cls := "FerryClocksModel", name := "hasMoment", desc := "(III)Z" } : Jvm.MethodName) prog_9_method_71_code (4 : Nat) (Option.some Jvm.ClassFile.FieldType.boolean)) ∈ lw_all := lw_g (lw_at lw_m9 96 rfl) rfl
theorem q2108 : (Jvm.Cond.methodLink "FerryClocksModel" (200 : Nat) ({ cls := "FerryClocksModel", name := "isMoment", desc := "(III)Z" } : Jvm.MethodName)) ∈ lw_all := lw_g (lw_at lw_m9 97 rfl) rfl
theorem q2109 : (Jvm.Cond.static ({ cls := "FerryClocksModel", name := "isMoment", desc := "(III)Z" } : Jvm.MethodName)) ∈ lw_all := lw_g (lw_at lw_m9 98 rfl) rfl
theorem q2110 : (Jvm.Cond.code ({ cls := "FerryClocksModel", name := "isMoment", desc := "(III)Z" } : Jvm.MethodName) prog_9_method_70_code (3 : Nat) (Option.some Jvm.ClassFile.FieldType.boolean)) ∈ lw_all := lw_g (lw_at lw_m9 99 rfl) rfl
theorem q2111 : (Jvm.Cond.methodLink "FerryClocksModel" (203 : Nat) ({ cls := "FerryClocksModel", name := "allows", desc := "([IIIII)Z" } : Jvm.MethodName)) ∈ lw_all := lw_g (lw_at lw_m9 100 rfl) rfl
theorem q2112 : (Jvm.Cond.static ({ cls := "FerryClocksModel", name := "allows", desc := "([IIIII)Z" } : Jvm.MethodName)) ∈ lw_all := lw_g (lw_at lw_m9 101 rfl) rfl
theorem q2113 : (Jvm.Cond.code ({ cls := "FerryClocksModel", name := "allows", desc := "([IIIII)Z" } : Jvm.MethodName) prog_9_method_69_code (11 : Nat) (Option.some Jvm.ClassFile.FieldType.boolean)) ∈ lw_all := lw_g (lw_at lw_m9 102 rfl) rfl
theorem q2115 : (Jvm.Cond.instanceMethod ({ cls := "FerryClocksModel", name := "moments", desc := "()I" } : Jvm.MethodName)) ∈ lw_all := lw_g (lw_at lw_m9 104 rfl) rfl
theorem q2116 : (Jvm.Cond.selects "FerryClocksModel" ({ cls := "FerryClocksModel", name := "moments", desc := "()I" } : Jvm.MethodName) ({ cls := "FerryClocksModel", name := "moments", desc := "()I" } : Jvm.MethodName)) ∈ lw_all := lw_g (lw_at lw_m9 105 rfl) rfl
theorem q2117 : (Jvm.Cond.code ({ cls := "FerryClocksModel", name := "moments", desc := "()I" } : Jvm.MethodName) prog_9_method_75_code (1 : Nat) (Option.some Jvm.ClassFile.FieldType.int)) ∈ lw_all := lw_g (lw_at lw_m9 106 rfl) rfl
theorem q2118 : (Jvm.Cond.methodLink "FerryClocksModel" (220 : Nat) ({ cls := "FerryClocksModel", name := "toldCount", desc := "()I" } : Jvm.MethodName)) ∈ lw_all := lw_g (lw_at lw_m9 107 rfl) rfl
theorem q2119 : (Jvm.Cond.privateMethod ({ cls := "FerryClocksModel", name := "toldCount", desc := "()I" } : Jvm.MethodName)) ∈ lw_tbl := lw_at lw_m9 108 rfl
theorem q2120 : (Jvm.Cond.instanceMethod ({ cls := "FerryClocksModel", name := "toldCount", desc := "()I" } : Jvm.MethodName)) ∈ lw_all := lw_g (lw_at lw_m9 109 rfl) rfl
theorem q2121 : (Jvm.Cond.code ({ cls := "FerryClocksModel", name := "toldCount", desc := "()I" } : Jvm.MethodName) prog_9_method_74_code (1 : Nat) (Option.some Jvm.ClassFile.FieldType.int)) ∈ lw_all := lw_g (lw_at lw_m9 110 rfl) rfl
theorem q2122 : (Jvm.Cond.methodLink "FerryClocksModel" (217 : Nat) ({ cls := "FerryClocksModel", name := "count", desc := "()I" } : Jvm.MethodName)) ∈ lw_all := lw_g (lw_at lw_m9 111 rfl) rfl
theorem q2123 : (Jvm.Cond.privateMethod ({ cls := "FerryClocksModel", name := "count", desc := "()I" } : Jvm.MethodName)) ∈ lw_tbl := lw_at lw_m9 112 rfl
theorem q2124 : (Jvm.Cond.instanceMethod ({ cls := "FerryClocksModel", name := "count", desc := "()I" } : Jvm.MethodName)) ∈ lw_all := lw_g (lw_at lw_m9 113 rfl) rfl
theorem q2125 : (Jvm.Cond.code ({ cls := "FerryClocksModel", name := "count", desc := "()I" } : Jvm.MethodName) prog_9_method_73_code (1 : Nat) (Option.some Jvm.ClassFile.FieldType.int)) ∈ lw_all := lw_g (lw_at lw_m9 114 rfl) rfl
theorem q2126 : (Jvm.Cond.methodLink "FerryClocksModel" (214 : Nat) ({ cls := "FerryClocksModel", name := "looksAtMoments", desc := "(II)V" } : Jvm.MethodName)) ∈ lw_all := lw_g (lw_at lw_m9 115 rfl) rfl
theorem q2127 : (Jvm.Cond.privateMethod ({ cls := "FerryClocksModel", name := "looksAtMoments", desc := "(II)V" } : Jvm.MethodName)) ∈ lw_tbl := lw_at lw_m9 116 rfl
theorem q2128 : (Jvm.Cond.instanceMethod ({ cls := "FerryClocksModel", name := "looksAtMoments", desc := "(II)V" } : Jvm.MethodName)) ∈ lw_all := lw_g (lw_at lw_m9 117 rfl) rfl
theorem q2129 : (Jvm.Cond.code ({ cls := "FerryClocksModel", name := "looksAtMoments", desc := "(II)V" } : Jvm.MethodName) prog_9_method_72_code (7 : Nat) (Option.none : Option Jvm.ClassFile.FieldType)) ∈ lw_all := lw_g (lw_at lw_m9 118 rfl) rfl
theorem q2131 : (Jvm.Cond.instanceMethod ({ cls := "FerryClocksModel", name := "momentsTightened", desc := "()I" } : Jvm.MethodName)) ∈ lw_all := lw_g (lw_at lw_m9 120 rfl) rfl
theorem q2132 : (Jvm.Cond.selects "FerryClocksModel" ({ cls := "FerryClocksModel", name := "momentsTightened", desc := "()I" } : Jvm.MethodName) ({ cls := "FerryClocksModel", name := "momentsTightened", desc := "()I" } : Jvm.MethodName)) ∈ lw_all := lw_g (lw_at lw_m9 121 rfl) rfl
theorem q2133 : (Jvm.Cond.code ({ cls := "FerryClocksModel", name := "momentsTightened", desc := "()I" } : Jvm.MethodName) prog_9_method_76_code (1 : Nat) (Option.some Jvm.ClassFile.FieldType.int)) ∈ lw_all := lw_g (lw_at lw_m9 122 rfl) rfl
theorem q2135 : (Jvm.Cond.instanceMethod ({ cls := "FerryClocksModel", name := "leastOf", desc := "(I)I" } : Jvm.MethodName)) ∈ lw_all := lw_g (lw_at lw_m9 124 rfl) rfl
theorem q2136 : (Jvm.Cond.selects "FerryClocksModel" ({ cls := "FerryClocksModel", name := "leastOf", desc := "(I)I" } : Jvm.MethodName) ({ cls := "FerryClocksModel", name := "leastOf", desc := "(I)I" } : Jvm.MethodName)) ∈ lw_all := lw_g (lw_at lw_m9 125 rfl) rfl
theorem q2137 : (Jvm.Cond.code ({ cls := "FerryClocksModel", name := "leastOf", desc := "(I)I" } : Jvm.MethodName) prog_9_method_77_code (2 : Nat) (Option.some Jvm.ClassFile.FieldType.int)) ∈ lw_all := lw_g (lw_at lw_m9 126 rfl) rfl
theorem q2139 : (Jvm.Cond.instanceMethod ({ cls := "FerryClocksModel", name := "mostOf", desc := "(I)I" } : Jvm.MethodName)) ∈ lw_all := lw_g (lw_at lw_m9 128 rfl) rfl
theorem q2140 : (Jvm.Cond.selects "FerryClocksModel" ({ cls := "FerryClocksModel", name := "mostOf", desc := "(I)I" } : Jvm.MethodName) ({ cls := "FerryClocksModel", name := "mostOf", desc := "(I)I" } : Jvm.MethodName)) ∈ lw_all := lw_g (lw_at lw_m9 129 rfl) rfl
theorem q2141 : (Jvm.Cond.code ({ cls := "FerryClocksModel", name := "mostOf", desc := "(I)I" } : Jvm.MethodName) prog_9_method_78_code (2 : Nat) (Option.some Jvm.ClassFile.FieldType.int)) ∈ lw_all := lw_g (lw_at lw_m9 130 rfl) rfl
theorem q2143 : (Jvm.Cond.instanceMethod ({ cls := "FerryClocksModel", name := "longestDelay", desc := "(III)I" } : Jvm.MethodName)) ∈ lw_all := lw_g (lw_at lw_m9 132 rfl) rfl
theorem q2144 : (Jvm.Cond.selects "FerryClocksModel" ({ cls := "FerryClocksModel", name := "longestDelay", desc := "(III)I" } : Jvm.MethodName) ({ cls := "FerryClocksModel", name := "longestDelay", desc := "(III)I" } : Jvm.MethodName)) ∈ lw_all := lw_g (lw_at lw_m9 133 rfl) rfl
theorem q2145 : (Jvm.Cond.code ({ cls := "FerryClocksModel", name := "longestDelay", desc := "(III)I" } : Jvm.MethodName) prog_9_method_79_code (8 : Nat) (Option.some Jvm.ClassFile.FieldType.int)) ∈ lw_all := lw_g (lw_at lw_m9 134 rfl) rfl
theorem q2146 : (Jvm.Cond.constant "FerryClocksModel" (223 : Nat) (99999 : Int32)) ∈ lw_all := lw_g (lw_at lw_m9 135 rfl) rfl
theorem q2148 : (Jvm.Cond.instanceMethod ({ cls := "FerryClocksModel", name := "needless", desc := "()I" } : Jvm.MethodName)) ∈ lw_all := lw_g (lw_at lw_m9 137 rfl) rfl
theorem q2149 : (Jvm.Cond.selects "FerryClocksModel" ({ cls := "FerryClocksModel", name := "needless", desc := "()I" } : Jvm.MethodName) ({ cls := "FerryClocksModel", name := "needless", desc := "()I" } : Jvm.MethodName)) ∈ lw_all := lw_g (lw_at lw_m9 138 rfl) rfl
theorem q2150 : (Jvm.Cond.code ({ cls := "FerryClocksModel", name := "needless", desc := "()I" } : Jvm.MethodName) prog_9_method_81_code (3 : Nat) (Option.some Jvm.ClassFile.FieldType.int)) ∈ lw_all := lw_g (lw_at lw_m9 139 rfl) rfl
theorem q2151 : (Jvm.Cond.methodLink "FerryClocksModel" (224 : Nat) ({ cls := "FerryClocksModel", name := "isNeedless", desc := "(I)Z" } : Jvm.MethodName)) ∈ lw_all := lw_g (lw_at lw_m9 140 rfl) rfl
theorem q2152 : (Jvm.Cond.privateMethod ({ cls := "FerryClocksModel", name := "isNeedless", desc := "(I)Z" } : Jvm.MethodName)) ∈ lw_tbl := lw_at lw_m9 141 rfl
theorem q2153 : (Jvm.Cond.instanceMethod ({ cls := "FerryClocksModel", name := "isNeedless", desc := "(I)Z" } : Jvm.MethodName)) ∈ lw_all := lw_g (lw_at lw_m9 142 rfl) rfl
theorem q2154 : (Jvm.Cond.code ({ cls := "FerryClocksModel", name := "isNeedless", desc := "(I)Z" } : Jvm.MethodName) prog_9_method_80_code (3 : Nat) (Option.some Jvm.ClassFile.FieldType.boolean)) ∈ lw_all := lw_g (lw_at lw_m9 143 rfl) rfl
theorem q2156 : (Jvm.Cond.instanceMethod ({ cls := "FerryClocksModel", name := "isShelfEmpty", desc := "(I)Z" } : Jvm.MethodName)) ∈ lw_all := lw_g (lw_at lw_m9 145 rfl) rfl
theorem q2157 : (Jvm.Cond.selects "FerryClocksModel" ({ cls := "FerryClocksModel", name := "isShelfEmpty", desc := "(I)Z" } : Jvm.MethodName) ({ cls := "FerryClocksModel", name := "isShelfEmpty", desc := "(I)Z" } : Jvm.MethodName)) ∈ lw_all := lw_g (lw_at lw_m9 146 rfl) rfl
theorem q2158 : (Jvm.Cond.code ({ cls := "FerryClocksModel", name := "isShelfEmpty", desc := "(I)Z" } : Jvm.MethodName) prog_9_method_83_code (2 : Nat) (Option.some Jvm.ClassFile.FieldType.boolean)) ∈ lw_all := lw_g (lw_at lw_m9 147 rfl) rfl
theorem q2160 : (Jvm.Cond.instanceMethod ({ cls := "FerryClocksModel", name := "isWithin", desc := "(I)Z" } : Jvm.MethodName)) ∈ lw_all := lw_g (lw_at lw_m9 149 rfl) rfl
theorem q2161 : (Jvm.Cond.selects "FerryClocksModel" ({ cls := "FerryClocksModel", name := "isWithin", desc := "(I)Z" } : Jvm.MethodName) ({ cls := "FerryClocksModel", name := "isWithin", desc := "(I)Z" } : Jvm.MethodName)) ∈ lw_all := lw_g (lw_at lw_m9 150 rfl) rfl
theorem q2162 : (Jvm.Cond.code ({ cls := "FerryClocksModel", name := "isWithin", desc := "(I)Z" } : Jvm.MethodName) prog_9_method_85_code (2 : Nat) (Option.some Jvm.ClassFile.FieldType.boolean)) ∈ lw_all := lw_g (lw_at lw_m9 151 rfl) rfl
theorem q2163 : (Jvm.Cond.methodLink "FerryClocksModel" (227 : Nat) ({ cls := "FerryClocksModel", name := "asksShelf", desc := "(I)Z" } : Jvm.MethodName)) ∈ lw_all := lw_g (lw_at lw_m9 152 rfl) rfl
theorem q2164 : (Jvm.Cond.privateMethod ({ cls := "FerryClocksModel", name := "asksShelf", desc := "(I)Z" } : Jvm.MethodName)) ∈ lw_tbl := lw_at lw_m9 153 rfl
theorem q2165 : (Jvm.Cond.instanceMethod ({ cls := "FerryClocksModel", name := "asksShelf", desc := "(I)Z" } : Jvm.MethodName)) ∈ lw_all := lw_g (lw_at lw_m9 154 rfl) rfl
theorem q2166 : (Jvm.Cond.code ({ cls := "FerryClocksModel", name := "asksShelf", desc := "(I)Z" } : Jvm.MethodName) prog_9_method_82_code (2 : Nat) (Option.some Jvm.ClassFile.FieldType.boolean)) ∈ lw_all := lw_g (lw_at lw_m9 155 rfl) rfl
theorem q2167 : (Jvm.Cond.methodLink "FerryClocksModel" (230 : Nat) ({ cls := "FerryClocksModel", name := "isInside", desc := "([II[II)Z" } : Jvm.MethodName)) ∈ lw_all := lw_g (lw_at lw_m9 156 rfl) rfl
theorem q2168 : (Jvm.Cond.static ({ cls := "FerryClocksModel", name := "isInside", desc := "([II[II)Z" } : Jvm.MethodName)) ∈ lw_all := lw_g (lw_at lw_m9 157 rfl) rfl
theorem q2169 : (Jvm.Cond.code ({ cls := "FerryClocksModel", name := "isInside", desc := "([II[II)Z" } : Jvm.MethodName) prog_9_method_84_code (6 : Nat) (Option.some Jvm.ClassFile.FieldType.boolean)) ∈ lw_all := lw_g (lw_at lw_m9 158 rfl) rfl
theorem q2171 : (Jvm.Cond.instanceMethod ({ cls := "FerryClocksModel", name := "momentsBeyond", desc := "(I)I" } : Jvm.MethodName)) ∈ lw_all := lw_g (lw_at lw_m9 160 rfl) rfl
theorem q2172 : (Jvm.Cond.selects "FerryClocksModel" ({ cls := "FerryClocksModel", name := "momentsBeyond", desc := "(I)I" } : Jvm.MethodName) ({ cls := "FerryClocksModel", name := "momentsBeyond", desc := "(I)I" } : Jvm.MethodName)) ∈ lw_all := lw_g (lw_at lw_m9 161 rfl) rfl
theorem q2173 : (Jvm.Cond.code ({ cls := "FerryClocksModel", name := "momentsBeyond", desc := "(I)I" } : Jvm.MethodName) prog_9_method_86_code (2 : Nat) (Option.some Jvm.ClassFile.FieldType.int)) ∈ lw_all := lw_g (lw_at lw_m9 162 rfl) rfl
theorem q2175 : (Jvm.Cond.instanceMethod ({ cls := "FerryClocksModel", name := "doMeet", desc := "(I)Z" } : Jvm.MethodName)) ∈ lw_all := lw_g (lw_at lw_m9 164 rfl) rfl
theorem q2176 : (Jvm.Cond.selects "FerryClocksModel" ({ cls := "FerryClocksModel", name := "doMeet", desc := "(I)Z" } : Jvm.MethodName) ({ cls := "FerryClocksModel", name := "doMeet", desc := "(I)Z" } : Jvm.MethodName)) ∈ lw_all := lw_g (lw_at lw_m9 165 rfl) rfl
theorem q2177 : (Jvm.Cond.code ({ cls := "FerryClocksModel", name := "doMeet", desc := "(I)Z" } : Jvm.MethodName) prog_9_method_87_code (3 : Nat) (Option.some Jvm.ClassFile.FieldType.boolean)) ∈ lw_all := lw_g (lw_at lw_m9 166 rfl) rfl
theorem q2179 : (Jvm.Cond.instanceMethod ({ cls := "FerryClocksModel", name := "stayOf", desc := "(II)I" } : Jvm.MethodName)) ∈ lw_all := lw_g (lw_at lw_m9 168 rfl) rfl
theorem q2180 : (Jvm.Cond.selects "FerryClocksModel" ({ cls := "FerryClocksModel", name := "stayOf", desc := "(II)I" } : Jvm.MethodName) ({ cls := "FerryClocksModel", name := "stayOf", desc := "(II)I" } : Jvm.MethodName)) ∈ lw_all := lw_g (lw_at lw_m9 169 rfl) rfl
theorem q2181 : (Jvm.Cond.code ({ cls := "FerryClocksModel", name := "stayOf", desc := "(II)I" } : Jvm.MethodName) prog_9_method_89_code (3 : Nat) (Option.some Jvm.ClassFile.FieldType.int)) ∈ lw_all := lw_g (lw_at lw_m9 170 rfl) rfl
theorem q2182 : (Jvm.Cond.methodLink "FerryClocksModel" (234 : Nat) ({ cls := "FerryClocksModel", name := "stay", desc := "(II)I" } : Jvm.MethodName)) ∈ lw_all := lw_g (lw_at lw_m9 171 rfl) rfl
theorem q2183 : (Jvm.Cond.privateMethod ({ cls := "FerryClocksModel", name := "stay", desc := "(II)I" } : Jvm.MethodName)) ∈ lw_tbl := lw_at lw_m9 172 rfl
theorem q2184 : (Jvm.Cond.instanceMethod ({ cls := "FerryClocksModel", name := "stay", desc := "(II)I" } : Jvm.MethodName)) ∈ lw_all := lw_g (lw_at lw_m9 173 rfl) rfl
theorem q2185 : (Jvm.Cond.code ({ cls := "FerryClocksModel", name := "stay", desc := "(II)I" } : Jvm.MethodName) prog_9_method_88_code (3 : Nat) (Option.some Jvm.ClassFile.FieldType.int)) ∈ lw_all := lw_g (lw_at lw_m9 174 rfl) rfl
theorem q2187 : (Jvm.Cond.instanceMethod ({ cls := "FerryClocksModel", name := "lines", desc := "()I" } : Jvm.MethodName)) ∈ lw_all := lw_g (lw_at lw_m9 176 rfl) rfl
theorem q2188 : (Jvm.Cond.selects "FerryClocksModel" ({ cls := "FerryClocksModel", name := "lines", desc := "()I" } : Jvm.MethodName) ({ cls := "FerryClocksModel", name := "lines", desc := "()I" } : Jvm.MethodName)) ∈ lw_all := lw_g (lw_at lw_m9 177 rfl) rfl
theorem q2189 : (Jvm.Cond.code ({ cls := "FerryClocksModel", name := "lines", desc := "()I" } : Jvm.MethodName) prog_9_method_90_code (1 : Nat) (Option.some Jvm.ClassFile.FieldType.int)) ∈ lw_all := lw_g (lw_at lw_m9 178 rfl) rfl
theorem q2191 : (Jvm.Cond.instanceMethod ({ cls := "FerryClocksModel", name := "fromOf", desc := "(I)I" } : Jvm.MethodName)) ∈ lw_all := lw_g (lw_at lw_m9 180 rfl) rfl
theorem q2192 : (Jvm.Cond.selects "FerryClocksModel" ({ cls := "FerryClocksModel", name := "fromOf", desc := "(I)I" } : Jvm.MethodName) ({ cls := "FerryClocksModel", name := "fromOf", desc := "(I)I" } : Jvm.MethodName)) ∈ lw_all := lw_g (lw_at lw_m9 181 rfl) rfl
theorem q2193 : (Jvm.Cond.code ({ cls := "FerryClocksModel", name := "fromOf", desc := "(I)I" } : Jvm.MethodName) prog_9_method_91_code (2 : Nat) (Option.some Jvm.ClassFile.FieldType.int)) ∈ lw_all := lw_g (lw_at lw_m9 182 rfl) rfl
theorem q2195 : (Jvm.Cond.instanceMethod ({ cls := "FerryClocksModel", name := "toOf", desc := "(I)I" } : Jvm.MethodName)) ∈ lw_all := lw_g (lw_at lw_m9 184 rfl) rfl
theorem q2196 : (Jvm.Cond.selects "FerryClocksModel" ({ cls := "FerryClocksModel", name := "toOf", desc := "(I)I" } : Jvm.MethodName) ({ cls := "FerryClocksModel", name := "toOf", desc := "(I)I" } : Jvm.MethodName)) ∈ lw_all := lw_g (lw_at lw_m9 185 rfl) rfl
theorem q2197 : (Jvm.Cond.code ({ cls := "FerryClocksModel", name := "toOf", desc := "(I)I" } : Jvm.MethodName) prog_9_method_92_code (2 : Nat) (Option.some Jvm.ClassFile.FieldType.int)) ∈ lw_all := lw_g (lw_at lw_m9 186 rfl) rfl
theorem q2199 : (Jvm.Cond.instanceMethod ({ cls := "FerryClocksModel", name := "doesReset", desc := "(II)Z" } : Jvm.MethodName)) ∈ lw_all := lw_g (lw_at lw_m9 188 rfl) rfl
theorem q2200 : (Jvm.Cond.selects "FerryClocksModel" ({ cls := "FerryClocksModel", name := "doesReset", desc := "(II)Z" } : Jvm.MethodName) ({ cls := "FerryClocksModel", name := "doesReset", desc := "(II)Z" } : Jvm.MethodName)) ∈ lw_all := lw_g (lw_at lw_m9 189 rfl) rfl
theorem q2201 : (Jvm.Cond.code ({ cls := "FerryClocksModel", name := "doesReset", desc := "(II)Z" } : Jvm.MethodName) prog_9_method_93_code (3 : Nat) (Option.some Jvm.ClassFile.FieldType.boolean)) ∈ lw_all := lw_g (lw_at lw_m9 190 rfl) rfl
theorem q2203 : (Jvm.Cond.instanceMethod ({ cls := "FerryClocksModel", name := "reachable", desc := "()I" } : Jvm.MethodName)) ∈ lw_all := lw_g (lw_at lw_m9 192 rfl) rfl
theorem q2204 : (Jvm.Cond.selects "FerryClocksModel" ({ cls := "FerryClocksModel", name := "reachable", desc := "()I" } : Jvm.MethodName) ({ cls := "FerryClocksModel", name := "reachable", desc := "()I" } : Jvm.MethodName)) ∈ lw_all := lw_g (lw_at lw_m9 193 rfl) rfl
theorem q2205 : (Jvm.Cond.code ({ cls := "FerryClocksModel", name := "reachable", desc := "()I" } : Jvm.MethodName) prog_9_method_101_code (3 : Nat) (Option.some Jvm.ClassFile.FieldType.int)) ∈ lw_all := lw_g (lw_at lw_m9 194 rfl) rfl
theorem q2206 : (Jvm.Cond.methodLink "FerryClocksModel" (258 : Nat) ({ cls := "FerryClocksModel", name := "spreads", desc := "()Z" } : Jvm.MethodName)) ∈ lw_all := lw_g (lw_at lw_m9 195 rfl) rfl
theorem q2207 : (Jvm.Cond.privateMethod ({ cls := "FerryClocksModel", name := "spreads", desc := "()Z" } : Jvm.MethodName)) ∈ lw_tbl := lw_at lw_m9 196 rfl
theorem q2208 : (Jvm.Cond.instanceMethod ({ cls := "FerryClocksModel", name := "spreads", desc := "()Z" } : Jvm.MethodName)) ∈ lw_all := lw_g (lw_at lw_m9 197 rfl) rfl
theorem q2209 : (Jvm.Cond.code ({ cls := "FerryClocksModel", name := "spreads", desc := "()Z" } : Jvm.MethodName) prog_9_method_100_code (6 : Nat) (Option.some Jvm.ClassFile.FieldType.boolean)) ∈ lw_all := lw_g (lw_at lw_m9 198 rfl) rfl
theorem q2210 : (Jvm.Cond.methodLink "FerryClocksModel" (243 : Nat) ({ cls := "FerryClocksModel", name := "staysIn", desc := "(I)Z" } : Jvm.MethodName)) ∈ lw_all := lw_g (lw_at lw_m9 199 rfl) rfl
theorem q2211 : (Jvm.Cond.privateMethod ({ cls := "FerryClocksModel", name := "staysIn", desc := "(I)Z" } : Jvm.MethodName)) ∈ lw_tbl := lw_at lw_m9 200 rfl
theorem q2212 : (Jvm.Cond.instanceMethod ({ cls := "FerryClocksModel", name := "staysIn", desc := "(I)Z" } : Jvm.MethodName)) ∈ lw_all := lw_g (lw_at lw_m9 201 rfl) rfl
theorem q2213 : (Jvm.Cond.code ({ cls := "FerryClocksModel", name := "staysIn", desc := "(I)Z" } : Jvm.MethodName) prog_9_method_94_code (4 : Nat) (Option.some Jvm.ClassFile.FieldType.boolean)) ∈ lw_all := lw_g (lw_at lw_m9 202 rfl) rfl
theorem q2214 : (Jvm.Cond.methodLink "FerryClocksModel" (249 : Nat) ({ cls := "FerryClocksModel", name := "adds", desc := "(II)V" } : Jvm.MethodName)) ∈ lw_all := lw_g (lw_at lw_m9 203 rfl) rfl
theorem q2215 : (Jvm.Cond.privateMethod ({ cls := "FerryClocksModel", name := "adds", desc := "(II)V" } : Jvm.MethodName)) ∈ lw_tbl := lw_at lw_m9 204 rfl
theorem q2216 : (Jvm.Cond.instanceMethod ({ cls := "FerryClocksModel", name := "adds", desc := "(II)V" } : Jvm.MethodName)) ∈ lw_all := lw_g (lw_at lw_m9 205 rfl) rfl
theorem q2217 : (Jvm.Cond.code ({ cls := "FerryClocksModel", name := "adds", desc := "(II)V" } : Jvm.MethodName) prog_9_method_98_code (3 : Nat) (Option.none : Option Jvm.ClassFile.FieldType)) ∈ lw_all := lw_g (lw_at lw_m9 206 rfl) rfl
theorem q2218 : (Jvm.Cond.methodLink "FerryClocksModel" (252 : Nat) ({ cls := "FerryClocksModel", name := "goes", desc := "(II)Z" } : Jvm.MethodName)) ∈ lw_all := lw_g (lw_at lw_m9 207 rfl) rfl
theorem q2219 : (Jvm.Cond.privateMethod ({ cls := "FerryClocksModel", name := "goes", desc := "(II)Z" } : Jvm.MethodName)) ∈ lw_tbl := lw_at lw_m9 208 rfl
theorem q2220 : (Jvm.Cond.instanceMethod ({ cls := "FerryClocksModel", name := "goes", desc := "(II)Z" } : Jvm.MethodName)) ∈ lw_all := lw_g (lw_at lw_m9 209 rfl) rfl
theorem q2221 : (Jvm.Cond.code ({ cls := "FerryClocksModel", name := "goes", desc := "(II)Z" } : Jvm.MethodName) prog_9_method_99_code (5 : Nat) (Option.some Jvm.ClassFile.FieldType.boolean)) ∈ lw_all := lw_g (lw_at lw_m9 210 rfl) rfl
theorem q2222 : (Jvm.Cond.methodLink "FerryClocksModel" (240 : Nat) ({ cls := "FerryClocksModel", name := "needs", desc := "(I)Z" } : Jvm.MethodName)) ∈ lw_all := lw_g (lw_at lw_m9 211 rfl) rfl
theorem q2223 : (Jvm.Cond.privateMethod ({ cls := "FerryClocksModel", name := "needs", desc := "(I)Z" } : Jvm.MethodName)) ∈ lw_tbl := lw_at lw_m9 212 rfl
theorem q2224 : (Jvm.Cond.instanceMethod ({ cls := "FerryClocksModel", name := "needs", desc := "(I)Z" } : Jvm.MethodName)) ∈ lw_all := lw_g (lw_at lw_m9 213 rfl) rfl
theorem q2225 : (Jvm.Cond.code ({ cls := "FerryClocksModel", name := "needs", desc := "(I)Z" } : Jvm.MethodName) prog_9_method_95_code (4 : Nat) (Option.some Jvm.ClassFile.FieldType.boolean)) ∈ lw_all := lw_g (lw_at lw_m9 214 rfl) rfl
theorem q2226 : (Jvm.Cond.methodLink "FerryClocksModel" (246 : Nat) ({ cls := "FerryClocksModel", name := "widens", desc := "()V" } : Jvm.MethodName)) ∈ lw_all := lw_g (lw_at lw_m9 215 rfl) rfl
theorem q2227 : (Jvm.Cond.privateMethod ({ cls := "FerryClocksModel", name := "widens", desc := "()V" } : Jvm.MethodName)) ∈ lw_tbl := lw_at lw_m9 216 rfl
theorem q2228 : (Jvm.Cond.instanceMethod ({ cls := "FerryClocksModel", name := "widens", desc := "()V" } : Jvm.MethodName)) ∈ lw_all := lw_g (lw_at lw_m9 217 rfl) rfl
theorem q2229 : (Jvm.Cond.code ({ cls := "FerryClocksModel", name := "widens", desc := "()V" } : Jvm.MethodName) prog_9_method_96_code (3 : Nat) (Option.none : Option Jvm.ClassFile.FieldType)) ∈ lw_all := lw_g (lw_at lw_m9 218 rfl) rfl
theorem q2230 : (Jvm.Cond.methodLink "FerryClocksModel" (255 : Nat) ({ cls := "FerryClocksModel", name := "isNew", desc := "(I)Z" } : Jvm.MethodName)) ∈ lw_all := lw_g (lw_at lw_m9 219 rfl) rfl
theorem q2231 : (Jvm.Cond.privateMethod ({ cls := "FerryClocksModel", name := "isNew", desc := "(I)Z" } : Jvm.MethodName)) ∈ lw_tbl := lw_at lw_m9 220 rfl
theorem q2232 : (Jvm.Cond.instanceMethod ({ cls := "FerryClocksModel", name := "isNew", desc := "(I)Z" } : Jvm.MethodName)) ∈ lw_all := lw_g (lw_at lw_m9 221 rfl) rfl
theorem q2233 : (Jvm.Cond.code ({ cls := "FerryClocksModel", name := "isNew", desc := "(I)Z" } : Jvm.MethodName) prog_9_method_97_code (4 : Nat) (Option.some Jvm.ClassFile.FieldType.boolean)) ∈ lw_all := lw_g (lw_at lw_m9 222 rfl) rfl
theorem q2235 : (Jvm.Cond.instanceMethod ({ cls := "FerryClocksModel", name := "zones", desc := "()I" } : Jvm.MethodName)) ∈ lw_all := lw_g (lw_at lw_m9 224 rfl) rfl
theorem q2236 : (Jvm.Cond.selects "FerryClocksModel" ({ cls := "FerryClocksModel", name := "zones", desc := "()I" } : Jvm.MethodName) ({ cls := "FerryClocksModel", name := "zones", desc := "()I" } : Jvm.MethodName)) ∈ lw_all := lw_g (lw_at lw_m9 225 rfl) rfl
theorem q2237 : (Jvm.Cond.code ({ cls := "FerryClocksModel", name := "zones", desc := "()I" } : Jvm.MethodName) prog_9_method_102_code (1 : Nat) (Option.some Jvm.ClassFile.FieldType.int)) ∈ lw_all := lw_g (lw_at lw_m9 226 rfl) rfl
theorem q2239 : (Jvm.Cond.instanceMethod ({ cls := "FerryClocksModel", name := "zonesOf", desc := "(I)I" } : Jvm.MethodName)) ∈ lw_all := lw_g (lw_at lw_m9 228 rfl) rfl
theorem q2240 : (Jvm.Cond.selects "FerryClocksModel" ({ cls := "FerryClocksModel", name := "zonesOf", desc := "(I)I" } : Jvm.MethodName) ({ cls := "FerryClocksModel", name := "zonesOf", desc := "(I)I" } : Jvm.MethodName)) ∈ lw_all := lw_g (lw_at lw_m9 229 rfl) rfl
theorem q2241 : (Jvm.Cond.code ({ cls := "FerryClocksModel", name := "zonesOf", desc := "(I)I" } : Jvm.MethodName) prog_9_method_104_code (4 : Nat) (Option.some Jvm.ClassFile.FieldType.int)) ∈ lw_all := lw_g (lw_at lw_m9 230 rfl) rfl
theorem q2242 : (Jvm.Cond.methodLink "FerryClocksModel" (261 : Nat) ({ cls := "FerryClocksModel", name := "asksZones", desc := "(I)Z" } : Jvm.MethodName)) ∈ lw_all := lw_g (lw_at lw_m9 231 rfl) rfl
theorem q2243 : (Jvm.Cond.privateMethod ({ cls := "FerryClocksModel", name := "asksZones", desc := "(I)Z" } : Jvm.MethodName)) ∈ lw_tbl := lw_at lw_m9 232 rfl
theorem q2244 : (Jvm.Cond.instanceMethod ({ cls := "FerryClocksModel", name := "asksZones", desc := "(I)Z" } : Jvm.MethodName)) ∈ lw_all := lw_g (lw_at lw_m9 233 rfl) rfl
theorem q2245 : (Jvm.Cond.code ({ cls := "FerryClocksModel", name := "asksZones", desc := "(I)Z" } : Jvm.MethodName) prog_9_method_103_code (2 : Nat) (Option.some Jvm.ClassFile.FieldType.boolean)) ∈ lw_all := lw_g (lw_at lw_m9 234 rfl) rfl
theorem q2247 : (Jvm.Cond.instanceMethod ({ cls := "FerryClocksModel", name := "fewestLines", desc := "(I)I" } : Jvm.MethodName)) ∈ lw_all := lw_g (lw_at lw_m9 236 rfl) rfl
theorem q2248 : (Jvm.Cond.selects "FerryClocksModel" ({ cls := "FerryClocksModel", name := "fewestLines", desc := "(I)I" } : Jvm.MethodName) ({ cls := "FerryClocksModel", name := "fewestLines", desc := "(I)I" } : Jvm.MethodName)) ∈ lw_all := lw_g (lw_at lw_m9 237 rfl) rfl
theorem q2249 : (Jvm.Cond.code ({ cls := "FerryClocksModel", name := "fewestLines", desc := "(I)I" } : Jvm.MethodName) prog_9_method_105_code (4 : Nat) (Option.some Jvm.ClassFile.FieldType.int)) ∈ lw_all := lw_g (lw_at lw_m9 238 rfl) rfl
theorem q2251 : (Jvm.Cond.instanceMethod ({ cls := "FerryClocksModel", name := "reachableByMoments", desc := "()I" } : Jvm.MethodName)) ∈ lw_all := lw_g (lw_at lw_m10 0 rfl) rfl
theorem q2252 : (Jvm.Cond.selects "FerryClocksModel" ({ cls := "FerryClocksModel", name := "reachableByMoments", desc := "()I" } : Jvm.MethodName) ({ cls := "FerryClocksModel", name := "reachableByMoments", desc := "()I" } : Jvm.MethodName)) ∈ lw_all := lw_g (lw_at lw_m10 1 rfl) rfl
theorem q2253 : (Jvm.Cond.code ({ cls := "FerryClocksModel", name := "reachableByMoments", desc := "()I" } : Jvm.MethodName) prog_9_method_113_code (3 : Nat) (Option.some Jvm.ClassFile.FieldType.int)) ∈ lw_all := lw_g (lw_at lw_m10 2 rfl) rfl
theorem q2254 : (Jvm.Cond.methodLink "FerryClocksModel" (286 : Nat) ({ cls := "FerryClocksModel", name := "rides", desc := "()V" } : Jvm.MethodName)) ∈ lw_all := lw_g (lw_at lw_m10 3 rfl) rfl
theorem q2255 : (Jvm.Cond.privateMethod ({ cls := "FerryClocksModel", name := "rides", desc := "()V" } : Jvm.MethodName)) ∈ lw_tbl := lw_at lw_m10 4 rfl
theorem q2256 : (Jvm.Cond.instanceMethod ({ cls := "FerryClocksModel", name := "rides", desc := "()V" } : Jvm.MethodName)) ∈ lw_all := lw_g (lw_at lw_m10 5 rfl) rfl
theorem q2257 : (Jvm.Cond.code ({ cls := "FerryClocksModel", name := "rides", desc := "()V" } : Jvm.MethodName) prog_9_method_112_code (5 : Nat) (Option.none : Option Jvm.ClassFile.FieldType)) ∈ lw_all := lw_g (lw_at lw_m10 6 rfl) rfl
theorem q2258 : (Jvm.Cond.methodLink "FerryClocksModel" (277 : Nat) ({ cls := "FerryClocksModel", name := "comes", desc := "(II)V" } : Jvm.MethodName)) ∈ lw_all := lw_g (lw_at lw_m10 7 rfl) rfl
theorem q2259 : (Jvm.Cond.privateMethod ({ cls := "FerryClocksModel", name := "comes", desc := "(II)V" } : Jvm.MethodName)) ∈ lw_tbl := lw_at lw_m10 8 rfl
theorem q2260 : (Jvm.Cond.instanceMethod ({ cls := "FerryClocksModel", name := "comes", desc := "(II)V" } : Jvm.MethodName)) ∈ lw_all := lw_g (lw_at lw_m10 9 rfl) rfl
theorem q2261 : (Jvm.Cond.code ({ cls := "FerryClocksModel", name := "comes", desc := "(II)V" } : Jvm.MethodName) prog_9_method_111_code (3 : Nat) (Option.none : Option Jvm.ClassFile.FieldType)) ∈ lw_all := lw_g (lw_at lw_m10 10 rfl) rfl
theorem q2262 : (Jvm.Cond.methodLink "FerryClocksModel" (280 : Nat) ({ cls := "FerryClocksModel", name := "carried", desc := "(II)I" } : Jvm.MethodName)) ∈ lw_all := lw_g (lw_at lw_m10 11 rfl) rfl
theorem q2263 : (Jvm.Cond.privateMethod ({ cls := "FerryClocksModel", name := "carried", desc := "(II)I" } : Jvm.MethodName)) ∈ lw_tbl := lw_at lw_m10 12 rfl
theorem q2264 : (Jvm.Cond.instanceMethod ({ cls := "FerryClocksModel", name := "carried", desc := "(II)I" } : Jvm.MethodName)) ∈ lw_all := lw_g (lw_at lw_m10 13 rfl) rfl
theorem q2265 : (Jvm.Cond.code ({ cls := "FerryClocksModel", name := "carried", desc := "(II)I" } : Jvm.MethodName) prog_9_method_110_code (7 : Nat) (Option.some Jvm.ClassFile.FieldType.int)) ∈ lw_all := lw_g (lw_at lw_m10 14 rfl) rfl
theorem q2266 : (Jvm.Cond.methodLink "FerryClocksModel" (271 : Nat) ({ cls := "FerryClocksModel", name := "behind", desc := "(III)I" } : Jvm.MethodName)) ∈ lw_all := lw_g (lw_at lw_m10 15 rfl) rfl
theorem q2267 : (Jvm.Cond.privateMethod ({ cls := "FerryClocksModel", name := "behind", desc := "(III)I" } : Jvm.MethodName)) ∈ lw_tbl := lw_at lw_m10 16 rfl
theorem q2268 : (Jvm.Cond.instanceMethod ({ cls := "FerryClocksModel", name := "behind", desc := "(III)I" } : Jvm.MethodName)) ∈ lw_all := lw_g (lw_at lw_m10 17 rfl) rfl
theorem q2269 : (Jvm.Cond.code ({ cls := "FerryClocksModel", name := "behind", desc := "(III)I" } : Jvm.MethodName) prog_9_method_109_code (8 : Nat) (Option.some Jvm.ClassFile.FieldType.int)) ∈ lw_all := lw_g (lw_at lw_m10 18 rfl) rfl
theorem q2270 : (Jvm.Cond.methodLink "FerryClocksModel" (264 : Nat) ({ cls := "FerryClocksModel", name := "clockAt", desc := "(II)I" } : Jvm.MethodName)) ∈ lw_all := lw_g (lw_at lw_m10 19 rfl) rfl
theorem q2271 : (Jvm.Cond.static ({ cls := "FerryClocksModel", name := "clockAt", desc := "(II)I" } : Jvm.MethodName)) ∈ lw_all := lw_g (lw_at lw_m10 20 rfl) rfl
theorem q2272 : (Jvm.Cond.code ({ cls := "FerryClocksModel", name := "clockAt", desc := "(II)I" } : Jvm.MethodName) prog_9_method_107_code (2 : Nat) (Option.some Jvm.ClassFile.FieldType.int)) ∈ lw_all := lw_g (lw_at lw_m10 21 rfl) rfl
theorem q2273 : (Jvm.Cond.methodLink "FerryClocksModel" (267 : Nat) ({ cls := "FerryClocksModel", name := "momentAt", desc := "(IIII)I" } : Jvm.MethodName)) ∈ lw_all := lw_g (lw_at lw_m10 22 rfl) rfl
theorem q2274 : (Jvm.Cond.static ({ cls := "FerryClocksModel", name := "momentAt", desc := "(IIII)I" } : Jvm.MethodName)) ∈ lw_all := lw_g (lw_at lw_m10 23 rfl) rfl
theorem q2275 : (Jvm.Cond.code ({ cls := "FerryClocksModel", name := "momentAt", desc := "(IIII)I" } : Jvm.MethodName) prog_9_method_106_code (4 : Nat) (Option.some Jvm.ClassFile.FieldType.int)) ∈ lw_all := lw_g (lw_at lw_m10 24 rfl) rfl
theorem q2276 : (Jvm.Cond.methodLink "FerryClocksModel" (283 : Nat) ({ cls := "FerryClocksModel", name := "ticked", desc := "(I)I" } : Jvm.MethodName)) ∈ lw_all := lw_g (lw_at lw_m10 25 rfl) rfl
theorem q2277 : (Jvm.Cond.privateMethod ({ cls := "FerryClocksModel", name := "ticked", desc := "(I)I" } : Jvm.MethodName)) ∈ lw_tbl := lw_at lw_m10 26 rfl
theorem q2278 : (Jvm.Cond.instanceMethod ({ cls := "FerryClocksModel", name := "ticked", desc := "(I)I" } : Jvm.MethodName)) ∈ lw_all := lw_g (lw_at lw_m10 27 rfl) rfl
theorem q2279 : (Jvm.Cond.code ({ cls := "FerryClocksModel", name := "ticked", desc := "(I)I" } : Jvm.MethodName) prog_9_method_108_code (7 : Nat) (Option.some Jvm.ClassFile.FieldType.int)) ∈ lw_all := lw_g (lw_at lw_m10 28 rfl) rfl
theorem q2281 : (Jvm.Cond.instanceMethod ({ cls := "FerryClocksModel", name := "fewestTicks", desc := "(I)I" } : Jvm.MethodName)) ∈ lw_all := lw_g (lw_at lw_m10 30 rfl) rfl
theorem q2282 : (Jvm.Cond.selects "FerryClocksModel" ({ cls := "FerryClocksModel", name := "fewestTicks", desc := "(I)I" } : Jvm.MethodName) ({ cls := "FerryClocksModel", name := "fewestTicks", desc := "(I)I" } : Jvm.MethodName)) ∈ lw_all := lw_g (lw_at lw_m10 31 rfl) rfl
theorem q2283 : (Jvm.Cond.code ({ cls := "FerryClocksModel", name := "fewestTicks", desc := "(I)I" } : Jvm.MethodName) prog_9_method_114_code (4 : Nat) (Option.some Jvm.ClassFile.FieldType.int)) ∈ lw_all := lw_g (lw_at lw_m10 32 rfl) rfl
theorem q2285 : (Jvm.Cond.instanceMethod ({ cls := "FerryClocksModel", name := "stuckIn", desc := "()I" } : Jvm.MethodName)) ∈ lw_all := lw_g (lw_at lw_m10 34 rfl) rfl
theorem q2286 : (Jvm.Cond.selects "FerryClocksModel" ({ cls := "FerryClocksModel", name := "stuckIn", desc := "()I" } : Jvm.MethodName) ({ cls := "FerryClocksModel", name := "stuckIn", desc := "()I" } : Jvm.MethodName)) ∈ lw_all := lw_g (lw_at lw_m10 35 rfl) rfl
theorem q2287 : (Jvm.Cond.code ({ cls := "FerryClocksModel", name := "stuckIn", desc := "()I" } : Jvm.MethodName) prog_9_method_116_code (4 : Nat) (Option.some Jvm.ClassFile.FieldType.int)) ∈ lw_all := lw_g (lw_at lw_m10 36 rfl) rfl
theorem q2288 : (Jvm.Cond.methodLink "FerryClocksModel" (289 : Nat) ({ cls := "FerryClocksModel", name := "linesAt", desc := "(I)I" } : Jvm.MethodName)) ∈ lw_all := lw_g (lw_at lw_m10 37 rfl) rfl
theorem q2289 : (Jvm.Cond.privateMethod ({ cls := "FerryClocksModel", name := "linesAt", desc := "(I)I" } : Jvm.MethodName)) ∈ lw_tbl := lw_at lw_m10 38 rfl
theorem q2290 : (Jvm.Cond.instanceMethod ({ cls := "FerryClocksModel", name := "linesAt", desc := "(I)I" } : Jvm.MethodName)) ∈ lw_all := lw_g (lw_at lw_m10 39 rfl) rfl
theorem q2291 : (Jvm.Cond.code ({ cls := "FerryClocksModel", name := "linesAt", desc := "(I)I" } : Jvm.MethodName) prog_9_method_115_code (4 : Nat) (Option.some Jvm.ClassFile.FieldType.int)) ∈ lw_all := lw_g (lw_at lw_m10 40 rfl) rfl
theorem q2293 : (Jvm.Cond.instanceMethod ({ cls := "FerryClocksModel", name := "usableLines", desc := "()I" } : Jvm.MethodName)) ∈ lw_all := lw_g (lw_at lw_m10 42 rfl) rfl
theorem q2294 : (Jvm.Cond.selects "FerryClocksModel" ({ cls := "FerryClocksModel", name := "usableLines", desc := "()I" } : Jvm.MethodName) ({ cls := "FerryClocksModel", name := "usableLines", desc := "()I" } : Jvm.MethodName)) ∈ lw_all := lw_g (lw_at lw_m10 43 rfl) rfl
theorem q2295 : (Jvm.Cond.code ({ cls := "FerryClocksModel", name := "usableLines", desc := "()I" } : Jvm.MethodName) prog_9_method_117_code (3 : Nat) (Option.some Jvm.ClassFile.FieldType.int)) ∈ lw_all := lw_g (lw_at lw_m10 44 rfl) rfl
theorem q2297 : (Jvm.Cond.instanceMethod ({ cls := "FerryClocksModel", name := "share", desc := "()F" } : Jvm.MethodName)) ∈ lw_all := lw_g (lw_at lw_m10 46 rfl) rfl
theorem q2298 : (Jvm.Cond.selects "FerryClocksModel" ({ cls := "FerryClocksModel", name := "share", desc := "()F" } : Jvm.MethodName) ({ cls := "FerryClocksModel", name := "share", desc := "()F" } : Jvm.MethodName)) ∈ lw_all := lw_g (lw_at lw_m10 47 rfl) rfl
theorem q2299 : (Jvm.Cond.code ({ cls := "FerryClocksModel", name := "share", desc := "()F" } : Jvm.MethodName) prog_9_method_119_code (1 : Nat) (Option.some Jvm.ClassFile.FieldType.float)) ∈ lw_all := lw_g (lw_at lw_m10 48 rfl) rfl
theorem q2300 : (Jvm.Cond.methodLink "FerryClocksModel" (293 : Nat) ({ cls := "FerryClocksModel", name := "part", desc := "()F" } : Jvm.MethodName)) ∈ lw_all := lw_g (lw_at lw_m10 49 rfl) rfl
theorem q2301 : (Jvm.Cond.privateMethod ({ cls := "FerryClocksModel", name := "part", desc := "()F" } : Jvm.MethodName)) ∈ lw_tbl := lw_at lw_m10 50 rfl
theorem q2302 : (Jvm.Cond.instanceMethod ({ cls := "FerryClocksModel", name := "part", desc := "()F" } : Jvm.MethodName)) ∈ lw_all := lw_g (lw_at lw_m10 51 rfl) rfl
theorem q2303 : (Jvm.Cond.code ({ cls := "FerryClocksModel", name := "part", desc := "()F" } : Jvm.MethodName) prog_9_method_118_code (1 : Nat) (Option.some Jvm.ClassFile.FieldType.float)) ∈ lw_all := lw_g (lw_at lw_m10 52 rfl) rfl
theorem q2304 : (Jvm.Cond.constantFloat "FerryClocksModel" (292 : Nat) (1189658112 : UInt32)) ∈ lw_all := lw_g (lw_at lw_m10 53 rfl) rfl
theorem q2306 : (Jvm.Cond.instanceMethod ({ cls := "FerryClocksModel", name := "shareBits", desc := "()I" } : Jvm.MethodName)) ∈ lw_all := lw_g (lw_at lw_m10 55 rfl) rfl
theorem q2307 : (Jvm.Cond.selects "FerryClocksModel" ({ cls := "FerryClocksModel", name := "shareBits", desc := "()I" } : Jvm.MethodName) ({ cls := "FerryClocksModel", name := "shareBits", desc := "()I" } : Jvm.MethodName)) ∈ lw_all := lw_g (lw_at lw_m10 56 rfl) rfl
theorem q2308 : (Jvm.Cond.code ({ cls := "FerryClocksModel", name := "shareBits", desc := "()I" } : Jvm.MethodName) prog_9_method_120_code (1 : Nat) (Option.some Jvm.ClassFile.FieldType.int)) ∈ lw_all := lw_g (lw_at lw_m10 57 rfl) rfl
theorem q2309 : (Jvm.Cond.methodLink "FerryClocksModel" (297 : Nat) ({ cls := "java/lang/Float", name := "floatToIntBits", desc := "(F)I" } : Jvm.MethodName)) ∈ lw_all := lw_g (lw_at lw_m10 58 rfl) rfl
theorem q2311 : (Jvm.Cond.instanceMethod ({ cls := "FerryClocksModel", name := "meanBits", desc := "(I)J" } : Jvm.MethodName)) ∈ lw_all := lw_g (lw_at lw_m10 60 rfl) rfl
theorem q2312 : (Jvm.Cond.selects "FerryClocksModel" ({ cls := "FerryClocksModel", name := "meanBits", desc := "(I)J" } : Jvm.MethodName) ({ cls := "FerryClocksModel", name := "meanBits", desc := "(I)J" } : Jvm.MethodName)) ∈ lw_all := lw_g (lw_at lw_m10 61 rfl) rfl
theorem q2313 : (Jvm.Cond.code ({ cls := "FerryClocksModel", name := "meanBits", desc := "(I)J" } : Jvm.MethodName) prog_9_method_121_code (2 : Nat) (Option.some Jvm.ClassFile.FieldType.long)) ∈ lw_all := lw_g (lw_at lw_m10 62 rfl) rfl
theorem q2314 : (Jvm.Cond.methodLink "FerryClocksModel" (303 : Nat) ({ cls := "java/lang/Double", name := "doubleToLongBits", desc := "(D)J" } : Jvm.MethodName)) ∈ lw_all := lw_g (lw_at lw_m10 63 rfl) rfl
theorem q2316 : (Jvm.Cond.instanceMethod ({ cls := "FerryClocksModel", name := "worked", desc := "()I" } : Jvm.MethodName)) ∈ lw_all := lw_g (lw_at lw_m10 65 rfl) rfl
theorem q2317 : (Jvm.Cond.selects "FerryClocksModel" ({ cls := "FerryClocksModel", name := "worked", desc := "()I" } : Jvm.MethodName) ({ cls := "FerryClocksModel", name := "worked", desc := "()I" } : Jvm.MethodName)) ∈ lw_all := lw_g (lw_at lw_m10 66 rfl) rfl
theorem q2318 : (Jvm.Cond.code ({ cls := "FerryClocksModel", name := "worked", desc := "()I" } : Jvm.MethodName) prog_9_method_122_code (1 : Nat) (Option.some Jvm.ClassFile.FieldType.int)) ∈ lw_all := lw_g (lw_at lw_m10 67 rfl) rfl
theorem q2320 : (Jvm.Cond.instanceMethod ({ cls := "FerryClocksModel", name := "keep", desc := "()I" } : Jvm.MethodName)) ∈ lw_all := lw_g (lw_at lw_m10 69 rfl) rfl
theorem q2321 : (Jvm.Cond.selects "FerryClocksModel" ({ cls := "FerryClocksModel", name := "keep", desc := "()I" } : Jvm.MethodName) ({ cls := "FerryClocksModel", name := "keep", desc := "()I" } : Jvm.MethodName)) ∈ lw_all := lw_g (lw_at lw_m10 70 rfl) rfl
theorem q2322 : (Jvm.Cond.code ({ cls := "FerryClocksModel", name := "keep", desc := "()I" } : Jvm.MethodName) prog_9_method_123_code (1 : Nat) (Option.some Jvm.ClassFile.FieldType.int)) ∈ lw_all := lw_g (lw_at lw_m10 71 rfl) rfl
theorem q2324 : (Jvm.Cond.instanceMethod ({ cls := "FerryClocksModel", name := "goBack", desc := "()I" } : Jvm.MethodName)) ∈ lw_all := lw_g (lw_at lw_m10 73 rfl) rfl
theorem q2325 : (Jvm.Cond.selects "FerryClocksModel" ({ cls := "FerryClocksModel", name := "goBack", desc := "()I" } : Jvm.MethodName) ({ cls := "FerryClocksModel", name := "goBack", desc := "()I" } : Jvm.MethodName)) ∈ lw_all := lw_g (lw_at lw_m10 74 rfl) rfl
theorem q2326 : (Jvm.Cond.code ({ cls := "FerryClocksModel", name := "goBack", desc := "()I" } : Jvm.MethodName) prog_9_method_124_code (1 : Nat) (Option.some Jvm.ClassFile.FieldType.int)) ∈ lw_all := lw_g (lw_at lw_m10 75 rfl) rfl
theorem q2328 : (Jvm.Cond.instanceMethod ({ cls := "FerryClocksModel", name := "undo", desc := "()I" } : Jvm.MethodName)) ∈ lw_all := lw_g (lw_at lw_m10 77 rfl) rfl
theorem q2329 : (Jvm.Cond.selects "FerryClocksModel" ({ cls := "FerryClocksModel", name := "undo", desc := "()I" } : Jvm.MethodName) ({ cls := "FerryClocksModel", name := "undo", desc := "()I" } : Jvm.MethodName)) ∈ lw_all := lw_g (lw_at lw_m10 78 rfl) rfl
theorem q2330 : (Jvm.Cond.code ({ cls := "FerryClocksModel", name := "undo", desc := "()I" } : Jvm.MethodName) prog_9_method_125_code (1 : Nat) (Option.some Jvm.ClassFile.FieldType.int)) ∈ lw_all := lw_g (lw_at lw_m10 79 rfl) rfl
theorem q2332 : (Jvm.Cond.instanceMethod ({ cls := "FerryClocksModel", name := "states", desc := "()I" } : Jvm.MethodName)) ∈ lw_all := lw_g (lw_at lw_m10 81 rfl) rfl
theorem q2333 : (Jvm.Cond.selects "FerryClocksModel" ({ cls := "FerryClocksModel", name := "states", desc := "()I" } : Jvm.MethodName) ({ cls := "FerryClocksModel", name := "states", desc := "()I" } : Jvm.MethodName)) ∈ lw_all := lw_g (lw_at lw_m10 82 rfl) rfl
theorem q2334 : (Jvm.Cond.code ({ cls := "FerryClocksModel", name := "states", desc := "()I" } : Jvm.MethodName) prog_9_method_126_code (1 : Nat) (Option.some Jvm.ClassFile.FieldType.int)) ∈ lw_all := lw_g (lw_at lw_m10 83 rfl) rfl
theorem q2336 : (Jvm.Cond.instanceMethod ({ cls := "FerryClocksModel", name := "type", desc := "(I)I" } : Jvm.MethodName)) ∈ lw_all := lw_g (lw_at lw_m10 85 rfl) rfl
theorem q2337 : (Jvm.Cond.selects "FerryClocksModel" ({ cls := "FerryClocksModel", name := "type", desc := "(I)I" } : Jvm.MethodName) ({ cls := "FerryClocksModel", name := "type", desc := "(I)I" } : Jvm.MethodName)) ∈ lw_all := lw_g (lw_at lw_m10 86 rfl) rfl
theorem q2338 : (Jvm.Cond.code ({ cls := "FerryClocksModel", name := "type", desc := "(I)I" } : Jvm.MethodName) prog_9_method_127_code (2 : Nat) (Option.some Jvm.ClassFile.FieldType.int)) ∈ lw_all := lw_g (lw_at lw_m10 87 rfl) rfl
theorem q2340 : (Jvm.Cond.instanceMethod ({ cls := "FerryClocksModel", name := "clearText", desc := "()I" } : Jvm.MethodName)) ∈ lw_all := lw_g (lw_at lw_m10 89 rfl) rfl
theorem q2341 : (Jvm.Cond.selects "FerryClocksModel" ({ cls := "FerryClocksModel", name := "clearText", desc := "()I" } : Jvm.MethodName) ({ cls := "FerryClocksModel", name := "clearText", desc := "()I" } : Jvm.MethodName)) ∈ lw_all := lw_g (lw_at lw_m10 90 rfl) rfl
theorem q2342 : (Jvm.Cond.code ({ cls := "FerryClocksModel", name := "clearText", desc := "()I" } : Jvm.MethodName) prog_9_method_128_code (2 : Nat) (Option.some Jvm.ClassFile.FieldType.int)) ∈ lw_all := lw_g (lw_at lw_m10 91 rfl) rfl
theorem q2344 : (Jvm.Cond.instanceMethod ({ cls := "FerryClocksModel", name := "faultPosition", desc := "()I" } : Jvm.MethodName)) ∈ lw_all := lw_g (lw_at lw_m10 93 rfl) rfl
theorem q2345 : (Jvm.Cond.selects "FerryClocksModel" ({ cls := "FerryClocksModel", name := "faultPosition", desc := "()I" } : Jvm.MethodName) ({ cls := "FerryClocksModel", name := "faultPosition", desc := "()I" } : Jvm.MethodName)) ∈ lw_all := lw_g (lw_at lw_m10 94 rfl) rfl
theorem q2346 : (Jvm.Cond.code ({ cls := "FerryClocksModel", name := "faultPosition", desc := "()I" } : Jvm.MethodName) prog_9_method_136_code (1 : Nat) (Option.some Jvm.ClassFile.FieldType.int)) ∈ lw_all := lw_g (lw_at lw_m10 95 rfl) rfl
theorem q2347 : (Jvm.Cond.methodLink "FerryClocksModel" (362 : Nat) ({ cls := "FerryClocksModel", name := "faultTold", desc := "(I)I" } : Jvm.MethodName)) ∈ lw_all := lw_g (lw_at lw_m10 96 rfl) rfl
theorem q2348 : (Jvm.Cond.privateMethod ({ cls := "FerryClocksModel", name := "faultTold", desc := "(I)I" } : Jvm.MethodName)) ∈ lw_tbl := lw_at lw_m10 97 rfl
theorem q2349 : (Jvm.Cond.instanceMethod ({ cls := "FerryClocksModel", name := "faultTold", desc := "(I)I" } : Jvm.MethodName)) ∈ lw_all := lw_g (lw_at lw_m10 98 rfl) rfl
theorem q2350 : (Jvm.Cond.code ({ cls := "FerryClocksModel", name := "faultTold", desc := "(I)I" } : Jvm.MethodName) prog_9_method_135_code (3 : Nat) (Option.some Jvm.ClassFile.FieldType.int)) ∈ lw_all := lw_g (lw_at lw_m10 99 rfl) rfl
theorem q2351 : (Jvm.Cond.methodLink "FerryClocksModel" (359 : Nat) ({ cls := "FerryClocksModel", name := "doesAll", desc := "()I" } : Jvm.MethodName)) ∈ lw_all := lw_g (lw_at lw_m10 100 rfl) rfl
theorem q2352 : (Jvm.Cond.privateMethod ({ cls := "FerryClocksModel", name := "doesAll", desc := "()I" } : Jvm.MethodName)) ∈ lw_tbl := lw_at lw_m10 101 rfl
theorem q2353 : (Jvm.Cond.instanceMethod ({ cls := "FerryClocksModel", name := "doesAll", desc := "()I" } : Jvm.MethodName)) ∈ lw_all := lw_g (lw_at lw_m10 102 rfl) rfl
theorem q2354 : (Jvm.Cond.code ({ cls := "FerryClocksModel", name := "doesAll", desc := "()I" } : Jvm.MethodName) prog_9_method_134_code (3 : Nat) (Option.some Jvm.ClassFile.FieldType.int)) ∈ lw_all := lw_g (lw_at lw_m10 103 rfl) rfl
theorem q2355 : (Jvm.Cond.methodLink "FerryClocksModel" (350 : Nat) ({ cls := "FerryClocksModel", name := "takesOrder", desc := "()V" } : Jvm.MethodName)) ∈ lw_all := lw_g (lw_at lw_m10 104 rfl) rfl
theorem q2356 : (Jvm.Cond.privateMethod ({ cls := "FerryClocksModel", name := "takesOrder", desc := "()V" } : Jvm.MethodName)) ∈ lw_tbl := lw_at lw_m10 105 rfl
theorem q2357 : (Jvm.Cond.instanceMethod ({ cls := "FerryClocksModel", name := "takesOrder", desc := "()V" } : Jvm.MethodName)) ∈ lw_all := lw_g (lw_at lw_m10 106 rfl) rfl
theorem q2358 : (Jvm.Cond.code ({ cls := "FerryClocksModel", name := "takesOrder", desc := "()V" } : Jvm.MethodName) prog_9_method_132_code (3 : Nat) (Option.none : Option Jvm.ClassFile.FieldType)) ∈ lw_all := lw_g (lw_at lw_m10 107 rfl) rfl
theorem q2359 : (Jvm.Cond.methodLink "FerryClocksModel" (322 : Nat) ({ cls := "FerryClocksModel", name := "here", desc := "()I" } : Jvm.MethodName)) ∈ lw_all := lw_g (lw_at lw_m10 108 rfl) rfl
theorem q2360 : (Jvm.Cond.privateMethod ({ cls := "FerryClocksModel", name := "here", desc := "()I" } : Jvm.MethodName)) ∈ lw_tbl := lw_at lw_m10 109 rfl
theorem q2361 : (Jvm.Cond.instanceMethod ({ cls := "FerryClocksModel", name := "here", desc := "()I" } : Jvm.MethodName)) ∈ lw_all := lw_g (lw_at lw_m10 110 rfl) rfl
theorem q2362 : (Jvm.Cond.code ({ cls := "FerryClocksModel", name := "here", desc := "()I" } : Jvm.MethodName) prog_9_method_129_code (1 : Nat) (Option.some Jvm.ClassFile.FieldType.int)) ∈ lw_all := lw_g (lw_at lw_m10 111 rfl) rfl
theorem q2363 : (Jvm.Cond.methodLink "FerryClocksModel" (325 : Nat) ({ cls := "FerryClocksModel", name := "takes", desc := "(Z)V" } : Jvm.MethodName)) ∈ lw_all := lw_g (lw_at lw_m10 112 rfl) rfl
theorem q2364 : (Jvm.Cond.privateMethod ({ cls := "FerryClocksModel", name := "takes", desc := "(Z)V" } : Jvm.MethodName)) ∈ lw_tbl := lw_at lw_m10 113 rfl
theorem q2365 : (Jvm.Cond.instanceMethod ({ cls := "FerryClocksModel", name := "takes", desc := "(Z)V" } : Jvm.MethodName)) ∈ lw_all := lw_g (lw_at lw_m10 114 rfl) rfl
theorem q2366 : (Jvm.Cond.code ({ cls := "FerryClocksModel", name := "takes", desc := "(Z)V" } : Jvm.MethodName) prog_9_method_130_code (2 : Nat) (Option.none : Option Jvm.ClassFile.FieldType)) ∈ lw_all := lw_g (lw_at lw_m10 115 rfl) rfl
theorem q2367 : (Jvm.Cond.methodLink "FerryClocksModel" (335 : Nat) ({ cls := "FerryClocksModel", name := "takesDigit", desc := "()I" } : Jvm.MethodName)) ∈ lw_all := lw_g (lw_at lw_m10 116 rfl) rfl
theorem q2368 : (Jvm.Cond.privateMethod ({ cls := "FerryClocksModel", name := "takesDigit", desc := "()I" } : Jvm.MethodName)) ∈ lw_tbl := lw_at lw_m10 117 rfl
theorem q2369 : (Jvm.Cond.instanceMethod ({ cls := "FerryClocksModel", name := "takesDigit", desc := "()I" } : Jvm.MethodName)) ∈ lw_all := lw_g (lw_at lw_m10 118 rfl) rfl
theorem q2370 : (Jvm.Cond.code ({ cls := "FerryClocksModel", name := "takesDigit", desc := "()I" } : Jvm.MethodName) prog_9_method_131_code (2 : Nat) (Option.some Jvm.ClassFile.FieldType.int)) ∈ lw_all := lw_g (lw_at lw_m10 119 rfl) rfl
theorem q2371 : (Jvm.Cond.methodLink "FerryClocksModel" (353 : Nat) ({ cls := "FerryClocksModel", name := "doesOrder", desc := "()I" } : Jvm.MethodName)) ∈ lw_all := lw_g (lw_at lw_m10 120 rfl) rfl
theorem q2372 : (Jvm.Cond.privateMethod ({ cls := "FerryClocksModel", name := "doesOrder", desc := "()I" } : Jvm.MethodName)) ∈ lw_tbl := lw_at lw_m10 121 rfl
theorem q2373 : (Jvm.Cond.instanceMethod ({ cls := "FerryClocksModel", name := "doesOrder", desc := "()I" } : Jvm.MethodName)) ∈ lw_all := lw_g (lw_at lw_m10 122 rfl) rfl
theorem q2374 : (Jvm.Cond.code ({ cls := "FerryClocksModel", name := "doesOrder", desc := "()I" } : Jvm.MethodName) prog_9_method_133_code (1 : Nat) (Option.some Jvm.ClassFile.FieldType.int)) ∈ lw_all := lw_g (lw_at lw_m10 123 rfl) rfl
theorem q2376 : (Jvm.Cond.instanceMethod ({ cls := "FerryClocksModel", name := "faultReason", desc := "()I" } : Jvm.MethodName)) ∈ lw_all := lw_g (lw_at lw_m10 125 rfl) rfl
theorem q2377 : (Jvm.Cond.selects "FerryClocksModel" ({ cls := "FerryClocksModel", name := "faultReason", desc := "()I" } : Jvm.MethodName) ({ cls := "FerryClocksModel", name := "faultReason", desc := "()I" } : Jvm.MethodName)) ∈ lw_all := lw_g (lw_at lw_m10 126 rfl) rfl
theorem q2378 : (Jvm.Cond.code ({ cls := "FerryClocksModel", name := "faultReason", desc := "()I" } : Jvm.MethodName) prog_9_method_137_code (1 : Nat) (Option.some Jvm.ClassFile.FieldType.int)) ∈ lw_all := lw_g (lw_at lw_m10 127 rfl) rfl
theorem q2380 : (Jvm.Cond.instanceMethod ({ cls := "FerryClocksModel", name := "faultCause", desc := "()I" } : Jvm.MethodName)) ∈ lw_all := lw_g (lw_at lw_m10 129 rfl) rfl
theorem q2381 : (Jvm.Cond.selects "FerryClocksModel" ({ cls := "FerryClocksModel", name := "faultCause", desc := "()I" } : Jvm.MethodName) ({ cls := "FerryClocksModel", name := "faultCause", desc := "()I" } : Jvm.MethodName)) ∈ lw_all := lw_g (lw_at lw_m10 130 rfl) rfl
theorem q2382 : (Jvm.Cond.code ({ cls := "FerryClocksModel", name := "faultCause", desc := "()I" } : Jvm.MethodName) prog_9_method_138_code (1 : Nat) (Option.some Jvm.ClassFile.FieldType.int)) ∈ lw_all := lw_g (lw_at lw_m10 131 rfl) rfl
theorem q2384 : (Jvm.Cond.instanceMethod ({ cls := "FerryClocksModel", name := "play", desc := "()I" } : Jvm.MethodName)) ∈ lw_all := lw_g (lw_at lw_m10 133 rfl) rfl
theorem q2385 : (Jvm.Cond.selects "FerryClocksModel" ({ cls := "FerryClocksModel", name := "play", desc := "()I" } : Jvm.MethodName) ({ cls := "FerryClocksModel", name := "play", desc := "()I" } : Jvm.MethodName)) ∈ lw_all := lw_g (lw_at lw_m10 134 rfl) rfl
theorem q2386 : (Jvm.Cond.code ({ cls := "FerryClocksModel", name := "play", desc := "()I" } : Jvm.MethodName) prog_9_method_139_code (2 : Nat) (Option.some Jvm.ClassFile.FieldType.int)) ∈ lw_all := lw_g (lw_at lw_m10 135 rfl) rfl
theorem q2409 : (Jvm.Cond.castable "FerryClocksModel" "java/lang/Object") ∈ lw_tbl := lw_at lw_m10 158 rfl
theorem in_X4 : ∀ w ∈ wsX40, w ∈ lw_all := lw_in wsX40 [1792, 1794, 1796, 1798, 1800, 1802, 1804, 1806, 1808, 1810, 1812, 1814, 1816, 1818, 1820, 1822, 1824, 1826, 1828, 1830, 1832, 1834, 1836, 1838, 1840, 1842, 1844, 1846, 1848] (by decide +kernel) (by decide +kernel)
