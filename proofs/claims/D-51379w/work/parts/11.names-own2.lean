/-! HeirCases$Reader -/
set_option maxRecDepth 100000
def RX2 : String := "HeirCases$Reader"
def TX2 : u_T := fun k => match k with
  | 0 => ("HeirCases$Reader", "text", "Ljava/lang/CharSequence;", true)
  | 1 => ("HeirCases$Reader", "end", "I", true)
  | 2 => ("HeirCases$Reader", "fresh", "LHeirCases$Will;", false)
  | 3 => ("HeirCases$Reader", "at", "I", false)
  | 4 => ("HeirCases$Reader", "from", "I", false)
  | 5 => ("HeirCases$Reader", "token", "LHeirCases$Token;", false)
  | 6 => ("HeirCases$Reader", "word", "Ljava/lang/String;", false)
  | 7 => ("HeirCases$Reader", "value", "I", false)
  | 8 => ("HeirCases$Reader", "factors", "I", false)
  | _ => ("HeirCases$Reader", "nots", "I", false)
def tyX2 : Nat → FieldType := fun k => match k with
  | 0 => .object "java/lang/CharSequence"
  | 1 => .int
  | 2 => .object "HeirCases$Will"
  | 3 => .int
  | 4 => .int
  | 5 => .object "HeirCases$Token"
  | 6 => .object "java/lang/String"
  | 7 => .int
  | 8 => .int
  | _ => .int
abbrev wsX20 : List Cond := u_ws RX2 TX2 10
theorem nmX2 : ∀ a, a < 10 → ∀ b, b < 10 → a ≠ b → (TX2 a).2.1 ≠ (TX2 b).2.1 := by decide +kernel
theorem tyX2_ok : ∀ k, k < 10 → parseFieldDescriptor (TX2 k).2.2.1 = some (tyX2 k) := by decide +kernel
abbrev cX2_init : ByteArray := prog_12_method_1_code
def yX2_init : MethodName := ⟨RX2, "<init>", "(Ljava/lang/CharSequence;I)V"⟩
def dkwX2_init_0 : List UInt8 := [42, 183, 0, 3, 42, 18, 9, 181, 0, 11, 42, 43, 181, 0, 17, 42, 28, 181, 0, 21, 177]
abbrev dktX2_init_0 : List UInt8 := dkwX2_init_0 ++ []
theorem dksX2_init_0 : cX2_init.data.toList.drop 0 = dktX2_init_0 := by decide +kernel
theorem dX2_init_0 : decode cX2_init 0 = .ok (.aload_n 0, 1) := dk_42 (dk_at dksX2_init_0 0 rfl rfl)
theorem dX2_init_1 : decode cX2_init 1 = .ok (.invokespecial 3, 3) := dk_183 0 3 (dk_at dksX2_init_0 1 rfl rfl)
theorem dX2_init_4 : decode cX2_init 4 = .ok (.aload_n 0, 1) := dk_42 (dk_at dksX2_init_0 4 rfl rfl)
theorem dX2_init_5 : decode cX2_init 5 = .ok (.ldc 9, 2) := dk_18 9 (dk_at dksX2_init_0 5 rfl rfl)
theorem dX2_init_7 : decode cX2_init 7 = .ok (.putfield 11, 3) := dk_181 0 11 (dk_at dksX2_init_0 7 rfl rfl)
theorem dX2_init_10 : decode cX2_init 10 = .ok (.aload_n 0, 1) := dk_42 (dk_at dksX2_init_0 10 rfl rfl)
theorem dX2_init_11 : decode cX2_init 11 = .ok (.aload_n 1, 1) := dk_43 (dk_at dksX2_init_0 11 rfl rfl)
theorem dX2_init_12 : decode cX2_init 12 = .ok (.putfield 17, 3) := dk_181 0 17 (dk_at dksX2_init_0 12 rfl rfl)
theorem dX2_init_15 : decode cX2_init 15 = .ok (.aload_n 0, 1) := dk_42 (dk_at dksX2_init_0 15 rfl rfl)
theorem dX2_init_16 : decode cX2_init 16 = .ok (.iload_n 2, 1) := dk_28 (dk_at dksX2_init_0 16 rfl rfl)
theorem dX2_init_17 : decode cX2_init 17 = .ok (.putfield 21, 3) := dk_181 0 21 (dk_at dksX2_init_0 17 rfl rfl)
theorem dX2_init_20 : decode cX2_init 20 = .ok (.return_, 1) := dk_177 (dk_at dksX2_init_0 20 rfl rfl)
abbrev cX2_read : ByteArray := prog_12_method_2_code
def yX2_read : MethodName := ⟨RX2, "read", "()LHeirCases$Will;"⟩
def dkwX2_read_6 : List UInt8 := [178, 0, 80, 165, 0, 16, 42, 182, 0, 83, 42, 16, 59, 182, 0, 54, 167, 255, 236, 42, 180, 0, 76, 176]
abbrev dktX2_read_6 : List UInt8 := dkwX2_read_6 ++ []
def dkwX2_read_5 : List UInt8 := [21, 4, 4, 100, 182, 0, 66, 183, 0, 73, 181, 0, 76, 42, 16, 59, 182, 0, 54, 42, 180, 0, 33]
abbrev dktX2_read_5 : List UInt8 := dkwX2_read_5 ++ dktX2_read_6
def dkwX2_read_4 : List UInt8 := [4, 7, 182, 0, 66, 54, 4, 42, 18, 69, 182, 0, 30, 42, 187, 0, 71, 89, 45, 21, 4, 42, 3]
abbrev dktX2_read_4 : List UInt8 := dkwX2_read_4 ++ dktX2_read_5
def dkwX2_read_3 : List UInt8 := [16, 59, 182, 0, 54, 28, 188, 10, 78, 43, 3, 45, 3, 28, 184, 0, 58, 42, 18, 64, 182, 0, 30, 42]
abbrev dktX2_read_3 : List UInt8 := dkwX2_read_3 ++ dktX2_read_4
def dkwX2_read_2 : List UInt8 := [180, 0, 48, 7, 183, 0, 51, 191, 43, 28, 29, 79, 132, 2, 1, 42, 182, 0, 25, 167, 255, 206, 42]
abbrev dktX2_read_2 : List UInt8 := dkwX2_read_2 ++ dktX2_read_3
def dkwX2_read_1 : List UInt8 := [178, 0, 37, 166, 0, 42, 42, 5, 7, 182, 0, 42, 62, 28, 7, 160, 0, 16, 187, 0, 46, 89, 42]
abbrev dktX2_read_1 : List UInt8 := dkwX2_read_1 ++ dktX2_read_2
def dkwX2_read_0 : List UInt8 := [42, 182, 0, 25, 42, 18, 28, 182, 0, 30, 7, 188, 10, 76, 3, 61, 28, 153, 0, 13, 42, 180, 0, 33]
abbrev dktX2_read_0 : List UInt8 := dkwX2_read_0 ++ dktX2_read_1
theorem dksX2_read_0 : cX2_read.data.toList.drop 0 = dktX2_read_0 := by decide +kernel
theorem dksX2_read_1 : cX2_read.data.toList.drop 24 = dktX2_read_1 := dk_seg dksX2_read_0 24 rfl rfl
theorem dksX2_read_2 : cX2_read.data.toList.drop 47 = dktX2_read_2 := dk_seg dksX2_read_1 23 rfl rfl
theorem dksX2_read_3 : cX2_read.data.toList.drop 70 = dktX2_read_3 := dk_seg dksX2_read_2 23 rfl rfl
theorem dksX2_read_4 : cX2_read.data.toList.drop 94 = dktX2_read_4 := dk_seg dksX2_read_3 24 rfl rfl
theorem dksX2_read_5 : cX2_read.data.toList.drop 117 = dktX2_read_5 := dk_seg dksX2_read_4 23 rfl rfl
theorem dksX2_read_6 : cX2_read.data.toList.drop 140 = dktX2_read_6 := dk_seg dksX2_read_5 23 rfl rfl
theorem dX2_read_0 : decode cX2_read 0 = .ok (.aload_n 0, 1) := dk_42 (dk_at dksX2_read_0 0 rfl rfl)
theorem dX2_read_1 : decode cX2_read 1 = .ok (.invokevirtual 25, 3) := dk_182 0 25 (dk_at dksX2_read_0 1 rfl rfl)
theorem dX2_read_4 : decode cX2_read 4 = .ok (.aload_n 0, 1) := dk_42 (dk_at dksX2_read_0 4 rfl rfl)
theorem dX2_read_5 : decode cX2_read 5 = .ok (.ldc 28, 2) := dk_18 28 (dk_at dksX2_read_0 5 rfl rfl)
theorem dX2_read_7 : decode cX2_read 7 = .ok (.invokevirtual 30, 3) := dk_182 0 30 (dk_at dksX2_read_0 7 rfl rfl)
theorem dX2_read_10 : decode cX2_read 10 = .ok (.iconst 4, 1) := dk_7 (dk_at dksX2_read_0 10 rfl rfl)
theorem dX2_read_11 : decode cX2_read 11 = .ok (.newarray .int, 2) := dk_188_10 (dk_at dksX2_read_0 11 rfl rfl)
theorem dX2_read_13 : decode cX2_read 13 = .ok (.astore_n 1, 1) := dk_76 (dk_at dksX2_read_0 13 rfl rfl)
theorem dX2_read_14 : decode cX2_read 14 = .ok (.iconst 0, 1) := dk_3 (dk_at dksX2_read_0 14 rfl rfl)
theorem dX2_read_15 : decode cX2_read 15 = .ok (.istore_n 2, 1) := dk_61 (dk_at dksX2_read_0 15 rfl rfl)
theorem dX2_read_16 : decode cX2_read 16 = .ok (.iload_n 2, 1) := dk_28 (dk_at dksX2_read_0 16 rfl rfl)
theorem dX2_read_17 : decode cX2_read 17 = .ok (.ifCond .eq 13, 3) := dk_153 0 13 (dk_at dksX2_read_0 17 rfl rfl)
theorem dX2_read_20 : decode cX2_read 20 = .ok (.aload_n 0, 1) := dk_42 (dk_at dksX2_read_0 20 rfl rfl)
theorem dX2_read_21 : decode cX2_read 21 = .ok (.getfield 33, 3) := dk_180 0 33 (dk_at dksX2_read_0 21 rfl rfl)
theorem dX2_read_24 : decode cX2_read 24 = .ok (.getstatic 37, 3) := dk_178 0 37 (dk_at dksX2_read_1 0 rfl rfl)
theorem dX2_read_27 : decode cX2_read 27 = .ok (.if_acmp .ne 42, 3) := dk_166 0 42 (dk_at dksX2_read_1 3 rfl rfl)
theorem dX2_read_30 : decode cX2_read 30 = .ok (.aload_n 0, 1) := dk_42 (dk_at dksX2_read_1 6 rfl rfl)
theorem dX2_read_31 : decode cX2_read 31 = .ok (.iconst 2, 1) := dk_5 (dk_at dksX2_read_1 7 rfl rfl)
theorem dX2_read_32 : decode cX2_read 32 = .ok (.iconst 4, 1) := dk_7 (dk_at dksX2_read_1 8 rfl rfl)
theorem dX2_read_33 : decode cX2_read 33 = .ok (.invokevirtual 42, 3) := dk_182 0 42 (dk_at dksX2_read_1 9 rfl rfl)
theorem dX2_read_36 : decode cX2_read 36 = .ok (.istore_n 3, 1) := dk_62 (dk_at dksX2_read_1 12 rfl rfl)
theorem dX2_read_37 : decode cX2_read 37 = .ok (.iload_n 2, 1) := dk_28 (dk_at dksX2_read_1 13 rfl rfl)
theorem dX2_read_38 : decode cX2_read 38 = .ok (.iconst 4, 1) := dk_7 (dk_at dksX2_read_1 14 rfl rfl)
theorem dX2_read_39 : decode cX2_read 39 = .ok (.if_icmp .ne 16, 3) := dk_160 0 16 (dk_at dksX2_read_1 15 rfl rfl)
theorem dX2_read_42 : decode cX2_read 42 = .ok (.new 46, 3) := dk_187 0 46 (dk_at dksX2_read_1 18 rfl rfl)
theorem dX2_read_45 : decode cX2_read 45 = .ok (.dup, 1) := dk_89 (dk_at dksX2_read_1 21 rfl rfl)
theorem dX2_read_46 : decode cX2_read 46 = .ok (.aload_n 0, 1) := dk_42 (dk_at dksX2_read_1 22 rfl rfl)
theorem dX2_read_47 : decode cX2_read 47 = .ok (.getfield 48, 3) := dk_180 0 48 (dk_at dksX2_read_2 0 rfl rfl)
theorem dX2_read_50 : decode cX2_read 50 = .ok (.iconst 4, 1) := dk_7 (dk_at dksX2_read_2 3 rfl rfl)
theorem dX2_read_51 : decode cX2_read 51 = .ok (.invokespecial 51, 3) := dk_183 0 51 (dk_at dksX2_read_2 4 rfl rfl)
theorem dX2_read_54 : decode cX2_read 54 = .ok (.athrow, 1) := dk_191 (dk_at dksX2_read_2 7 rfl rfl)
theorem dX2_read_55 : decode cX2_read 55 = .ok (.aload_n 1, 1) := dk_43 (dk_at dksX2_read_2 8 rfl rfl)
theorem dX2_read_56 : decode cX2_read 56 = .ok (.iload_n 2, 1) := dk_28 (dk_at dksX2_read_2 9 rfl rfl)
theorem dX2_read_57 : decode cX2_read 57 = .ok (.iload_n 3, 1) := dk_29 (dk_at dksX2_read_2 10 rfl rfl)
theorem dX2_read_58 : decode cX2_read 58 = .ok (.iastore, 1) := dk_79 (dk_at dksX2_read_2 11 rfl rfl)
theorem dX2_read_59 : decode cX2_read 59 = .ok (.iinc 2 1, 3) := dk_132 2 1 (dk_at dksX2_read_2 12 rfl rfl)
theorem dX2_read_62 : decode cX2_read 62 = .ok (.aload_n 0, 1) := dk_42 (dk_at dksX2_read_2 15 rfl rfl)
theorem dX2_read_63 : decode cX2_read 63 = .ok (.invokevirtual 25, 3) := dk_182 0 25 (dk_at dksX2_read_2 16 rfl rfl)
theorem dX2_read_66 : decode cX2_read 66 = .ok (.goto (-50), 3) := dk_167 255 206 (dk_at dksX2_read_2 19 rfl rfl)
theorem dX2_read_69 : decode cX2_read 69 = .ok (.aload_n 0, 1) := dk_42 (dk_at dksX2_read_2 22 rfl rfl)
theorem dX2_read_70 : decode cX2_read 70 = .ok (.bipush 59, 2) := dk_16 59 (dk_at dksX2_read_3 0 rfl rfl)
theorem dX2_read_72 : decode cX2_read 72 = .ok (.invokevirtual 54, 3) := dk_182 0 54 (dk_at dksX2_read_3 2 rfl rfl)
theorem dX2_read_75 : decode cX2_read 75 = .ok (.iload_n 2, 1) := dk_28 (dk_at dksX2_read_3 5 rfl rfl)
theorem dX2_read_76 : decode cX2_read 76 = .ok (.newarray .int, 2) := dk_188_10 (dk_at dksX2_read_3 6 rfl rfl)
theorem dX2_read_78 : decode cX2_read 78 = .ok (.astore_n 3, 1) := dk_78 (dk_at dksX2_read_3 8 rfl rfl)
theorem dX2_read_79 : decode cX2_read 79 = .ok (.aload_n 1, 1) := dk_43 (dk_at dksX2_read_3 9 rfl rfl)
theorem dX2_read_80 : decode cX2_read 80 = .ok (.iconst 0, 1) := dk_3 (dk_at dksX2_read_3 10 rfl rfl)
theorem dX2_read_81 : decode cX2_read 81 = .ok (.aload_n 3, 1) := dk_45 (dk_at dksX2_read_3 11 rfl rfl)
theorem dX2_read_82 : decode cX2_read 82 = .ok (.iconst 0, 1) := dk_3 (dk_at dksX2_read_3 12 rfl rfl)
theorem dX2_read_83 : decode cX2_read 83 = .ok (.iload_n 2, 1) := dk_28 (dk_at dksX2_read_3 13 rfl rfl)
theorem dX2_read_84 : decode cX2_read 84 = .ok (.invokestatic 58, 3) := dk_184 0 58 (dk_at dksX2_read_3 14 rfl rfl)
theorem dX2_read_87 : decode cX2_read 87 = .ok (.aload_n 0, 1) := dk_42 (dk_at dksX2_read_3 17 rfl rfl)
theorem dX2_read_88 : decode cX2_read 88 = .ok (.ldc 64, 2) := dk_18 64 (dk_at dksX2_read_3 18 rfl rfl)
theorem dX2_read_90 : decode cX2_read 90 = .ok (.invokevirtual 30, 3) := dk_182 0 30 (dk_at dksX2_read_3 20 rfl rfl)
theorem dX2_read_93 : decode cX2_read 93 = .ok (.aload_n 0, 1) := dk_42 (dk_at dksX2_read_3 23 rfl rfl)
theorem dX2_read_94 : decode cX2_read 94 = .ok (.iconst 1, 1) := dk_4 (dk_at dksX2_read_4 0 rfl rfl)
theorem dX2_read_95 : decode cX2_read 95 = .ok (.iconst 4, 1) := dk_7 (dk_at dksX2_read_4 1 rfl rfl)
theorem dX2_read_96 : decode cX2_read 96 = .ok (.invokevirtual 66, 3) := dk_182 0 66 (dk_at dksX2_read_4 2 rfl rfl)
theorem dX2_read_99 : decode cX2_read 99 = .ok (.istore 4, 2) := dk_54 4 (dk_at dksX2_read_4 5 rfl rfl)
theorem dX2_read_101 : decode cX2_read 101 = .ok (.aload_n 0, 1) := dk_42 (dk_at dksX2_read_4 7 rfl rfl)
theorem dX2_read_102 : decode cX2_read 102 = .ok (.ldc 69, 2) := dk_18 69 (dk_at dksX2_read_4 8 rfl rfl)
theorem dX2_read_104 : decode cX2_read 104 = .ok (.invokevirtual 30, 3) := dk_182 0 30 (dk_at dksX2_read_4 10 rfl rfl)
theorem dX2_read_107 : decode cX2_read 107 = .ok (.aload_n 0, 1) := dk_42 (dk_at dksX2_read_4 13 rfl rfl)
theorem dX2_read_108 : decode cX2_read 108 = .ok (.new 71, 3) := dk_187 0 71 (dk_at dksX2_read_4 14 rfl rfl)
theorem dX2_read_111 : decode cX2_read 111 = .ok (.dup, 1) := dk_89 (dk_at dksX2_read_4 17 rfl rfl)
theorem dX2_read_112 : decode cX2_read 112 = .ok (.aload_n 3, 1) := dk_45 (dk_at dksX2_read_4 18 rfl rfl)
theorem dX2_read_113 : decode cX2_read 113 = .ok (.iload 4, 2) := dk_21 4 (dk_at dksX2_read_4 19 rfl rfl)
theorem dX2_read_115 : decode cX2_read 115 = .ok (.aload_n 0, 1) := dk_42 (dk_at dksX2_read_4 21 rfl rfl)
theorem dX2_read_116 : decode cX2_read 116 = .ok (.iconst 0, 1) := dk_3 (dk_at dksX2_read_4 22 rfl rfl)
theorem dX2_read_117 : decode cX2_read 117 = .ok (.iload 4, 2) := dk_21 4 (dk_at dksX2_read_5 0 rfl rfl)
theorem dX2_read_119 : decode cX2_read 119 = .ok (.iconst 1, 1) := dk_4 (dk_at dksX2_read_5 2 rfl rfl)
theorem dX2_read_120 : decode cX2_read 120 = .ok (.isub, 1) := dk_100 (dk_at dksX2_read_5 3 rfl rfl)
theorem dX2_read_121 : decode cX2_read 121 = .ok (.invokevirtual 66, 3) := dk_182 0 66 (dk_at dksX2_read_5 4 rfl rfl)
theorem dX2_read_124 : decode cX2_read 124 = .ok (.invokespecial 73, 3) := dk_183 0 73 (dk_at dksX2_read_5 7 rfl rfl)
theorem dX2_read_127 : decode cX2_read 127 = .ok (.putfield 76, 3) := dk_181 0 76 (dk_at dksX2_read_5 10 rfl rfl)
theorem dX2_read_130 : decode cX2_read 130 = .ok (.aload_n 0, 1) := dk_42 (dk_at dksX2_read_5 13 rfl rfl)
theorem dX2_read_131 : decode cX2_read 131 = .ok (.bipush 59, 2) := dk_16 59 (dk_at dksX2_read_5 14 rfl rfl)
theorem dX2_read_133 : decode cX2_read 133 = .ok (.invokevirtual 54, 3) := dk_182 0 54 (dk_at dksX2_read_5 16 rfl rfl)
theorem dX2_read_136 : decode cX2_read 136 = .ok (.aload_n 0, 1) := dk_42 (dk_at dksX2_read_5 19 rfl rfl)
theorem dX2_read_137 : decode cX2_read 137 = .ok (.getfield 33, 3) := dk_180 0 33 (dk_at dksX2_read_5 20 rfl rfl)
theorem dX2_read_140 : decode cX2_read 140 = .ok (.getstatic 80, 3) := dk_178 0 80 (dk_at dksX2_read_6 0 rfl rfl)
theorem dX2_read_143 : decode cX2_read 143 = .ok (.if_acmp .eq 16, 3) := dk_165 0 16 (dk_at dksX2_read_6 3 rfl rfl)
theorem dX2_read_146 : decode cX2_read 146 = .ok (.aload_n 0, 1) := dk_42 (dk_at dksX2_read_6 6 rfl rfl)
theorem dX2_read_147 : decode cX2_read 147 = .ok (.invokevirtual 83, 3) := dk_182 0 83 (dk_at dksX2_read_6 7 rfl rfl)
theorem dX2_read_150 : decode cX2_read 150 = .ok (.aload_n 0, 1) := dk_42 (dk_at dksX2_read_6 10 rfl rfl)
theorem dX2_read_151 : decode cX2_read 151 = .ok (.bipush 59, 2) := dk_16 59 (dk_at dksX2_read_6 11 rfl rfl)
theorem dX2_read_153 : decode cX2_read 153 = .ok (.invokevirtual 54, 3) := dk_182 0 54 (dk_at dksX2_read_6 13 rfl rfl)
theorem dX2_read_156 : decode cX2_read 156 = .ok (.goto (-20), 3) := dk_167 255 236 (dk_at dksX2_read_6 16 rfl rfl)
theorem dX2_read_159 : decode cX2_read 159 = .ok (.aload_n 0, 1) := dk_42 (dk_at dksX2_read_6 19 rfl rfl)
theorem dX2_read_160 : decode cX2_read 160 = .ok (.getfield 76, 3) := dk_180 0 76 (dk_at dksX2_read_6 20 rfl rfl)
theorem dX2_read_163 : decode cX2_read 163 = .ok (.areturn, 1) := dk_176 (dk_at dksX2_read_6 23 rfl rfl)
abbrev cX2_next : ByteArray := prog_12_method_5_code
def yX2_next : MethodName := ⟨RX2, "next", "()V"⟩
def dkwX2_next_14 : List UInt8 := [89, 180, 0, 99, 4, 96, 181, 0, 99, 177]
abbrev dktX2_next_14 : List UInt8 := dkwX2_next_14 ++ []
def dkwX2_next_13 : List UInt8 := [185, 0, 93, 2, 0, 182, 0, 125, 155, 0, 9, 178, 0, 131, 167, 0, 6, 178, 0, 120, 181, 0, 33, 42]
abbrev dktX2_next_13 : List UInt8 := dkwX2_next_13 ++ dktX2_next_14
def dkwX2_next_12 : List UInt8 := [178, 0, 37, 181, 0, 33, 167, 0, 47, 42, 18, 123, 42, 180, 0, 17, 42, 180, 0, 99]
abbrev dktX2_next_12 : List UInt8 := dkwX2_next_12 ++ dktX2_next_13
def dkwX2_next_11 : List UInt8 := [167, 255, 183, 42, 42, 180, 0, 99, 42, 180, 0, 48, 100, 7, 164, 0, 9, 178, 0, 120, 167, 0, 6]
abbrev dktX2_next_11 : List UInt8 := dkwX2_next_11 ++ dktX2_next_12
def dkwX2_next_10 : List UInt8 := [96, 16, 48, 100, 167, 0, 7, 42, 180, 0, 117, 181, 0, 117, 42, 89, 180, 0, 99, 4, 96, 181, 0, 99]
abbrev dktX2_next_10 : List UInt8 := dkwX2_next_10 ++ dktX2_next_11
def dkwX2_next_9 : List UInt8 := [7, 162, 0, 30, 16, 10, 42, 180, 0, 117, 104, 42, 180, 0, 17, 42, 180, 0, 99, 185, 0, 93, 2, 0]
abbrev dktX2_next_9 : List UInt8 := dkwX2_next_9 ++ dktX2_next_10
def dkwX2_next_8 : List UInt8 := [42, 180, 0, 99, 16, 48, 16, 57, 182, 0, 102, 153, 0, 64, 42, 42, 180, 0, 99, 42, 180, 0, 48, 100]
abbrev dktX2_next_8 : List UInt8 := dkwX2_next_8 ++ dktX2_next_9
def dkwX2_next_7 : List UInt8 := [167, 0, 172, 42, 42, 180, 0, 99, 16, 48, 16, 57, 182, 0, 102, 153, 0, 113, 42, 3, 181, 0, 117, 42]
abbrev dktX2_next_7 : List UInt8 := dkwX2_next_7 ++ dktX2_next_8
def dkwX2_next_6 : List UInt8 := [180, 0, 99, 185, 0, 106, 3, 0, 185, 0, 110, 1, 0, 181, 0, 11, 42, 178, 0, 114, 181, 0, 33]
abbrev dktX2_next_6 : List UInt8 := dkwX2_next_6 ++ dktX2_next_7
def dkwX2_next_5 : List UInt8 := [89, 180, 0, 99, 4, 96, 181, 0, 99, 167, 255, 231, 42, 42, 180, 0, 17, 42, 180, 0, 48, 42]
abbrev dktX2_next_5 : List UInt8 := dkwX2_next_5 ++ dktX2_next_6
def dkwX2_next_4 : List UInt8 := [16, 122, 182, 0, 102, 153, 0, 67, 42, 42, 180, 0, 99, 16, 97, 16, 122, 182, 0, 102, 153, 0, 16, 42]
abbrev dktX2_next_4 : List UInt8 := dkwX2_next_4 ++ dktX2_next_5
def dkwX2_next_3 : List UInt8 := [42, 180, 0, 21, 161, 0, 13, 42, 178, 0, 80, 181, 0, 33, 167, 0, 251, 42, 42, 180, 0, 99, 16, 97]
abbrev dktX2_next_3 : List UInt8 := dkwX2_next_3 ++ dktX2_next_4
def dkwX2_next_2 : List UInt8 := [89, 180, 0, 99, 4, 96, 181, 0, 99, 167, 255, 199, 42, 42, 180, 0, 99, 181, 0, 48, 42, 180, 0, 99]
abbrev dktX2_next_2 : List UInt8 := dkwX2_next_2 ++ dktX2_next_3
def dkwX2_next_1 : List UInt8 := [16, 32, 159, 0, 21, 42, 180, 0, 17, 42, 180, 0, 99, 185, 0, 93, 2, 0, 16, 10, 160, 0, 16, 42]
abbrev dktX2_next_1 : List UInt8 := dkwX2_next_1 ++ dktX2_next_2
def dkwX2_next_0 : List UInt8 := [42, 180, 0, 99, 42, 180, 0, 21, 162, 0, 52, 42, 180, 0, 17, 42, 180, 0, 99, 185, 0, 93, 2, 0]
abbrev dktX2_next_0 : List UInt8 := dkwX2_next_0 ++ dktX2_next_1
theorem dksX2_next_0 : cX2_next.data.toList.drop 0 = dktX2_next_0 := by decide +kernel
theorem dksX2_next_1 : cX2_next.data.toList.drop 24 = dktX2_next_1 := dk_seg dksX2_next_0 24 rfl rfl
theorem dksX2_next_2 : cX2_next.data.toList.drop 48 = dktX2_next_2 := dk_seg dksX2_next_1 24 rfl rfl
theorem dksX2_next_3 : cX2_next.data.toList.drop 72 = dktX2_next_3 := dk_seg dksX2_next_2 24 rfl rfl
theorem dksX2_next_4 : cX2_next.data.toList.drop 96 = dktX2_next_4 := dk_seg dksX2_next_3 24 rfl rfl
theorem dksX2_next_5 : cX2_next.data.toList.drop 120 = dktX2_next_5 := dk_seg dksX2_next_4 24 rfl rfl
theorem dksX2_next_6 : cX2_next.data.toList.drop 142 = dktX2_next_6 := dk_seg dksX2_next_5 22 rfl rfl
theorem dksX2_next_7 : cX2_next.data.toList.drop 165 = dktX2_next_7 := dk_seg dksX2_next_6 23 rfl rfl
theorem dksX2_next_8 : cX2_next.data.toList.drop 189 = dktX2_next_8 := dk_seg dksX2_next_7 24 rfl rfl
theorem dksX2_next_9 : cX2_next.data.toList.drop 213 = dktX2_next_9 := dk_seg dksX2_next_8 24 rfl rfl
theorem dksX2_next_10 : cX2_next.data.toList.drop 237 = dktX2_next_10 := dk_seg dksX2_next_9 24 rfl rfl
theorem dksX2_next_11 : cX2_next.data.toList.drop 261 = dktX2_next_11 := dk_seg dksX2_next_10 24 rfl rfl
theorem dksX2_next_12 : cX2_next.data.toList.drop 284 = dktX2_next_12 := dk_seg dksX2_next_11 23 rfl rfl
theorem dksX2_next_13 : cX2_next.data.toList.drop 304 = dktX2_next_13 := dk_seg dksX2_next_12 20 rfl rfl
theorem dksX2_next_14 : cX2_next.data.toList.drop 328 = dktX2_next_14 := dk_seg dksX2_next_13 24 rfl rfl
theorem dX2_next_0 : decode cX2_next 0 = .ok (.aload_n 0, 1) := dk_42 (dk_at dksX2_next_0 0 rfl rfl)
theorem dX2_next_1 : decode cX2_next 1 = .ok (.getfield 99, 3) := dk_180 0 99 (dk_at dksX2_next_0 1 rfl rfl)
theorem dX2_next_4 : decode cX2_next 4 = .ok (.aload_n 0, 1) := dk_42 (dk_at dksX2_next_0 4 rfl rfl)
theorem dX2_next_5 : decode cX2_next 5 = .ok (.getfield 21, 3) := dk_180 0 21 (dk_at dksX2_next_0 5 rfl rfl)
theorem dX2_next_8 : decode cX2_next 8 = .ok (.if_icmp .ge 52, 3) := dk_162 0 52 (dk_at dksX2_next_0 8 rfl rfl)
theorem dX2_next_11 : decode cX2_next 11 = .ok (.aload_n 0, 1) := dk_42 (dk_at dksX2_next_0 11 rfl rfl)
theorem dX2_next_12 : decode cX2_next 12 = .ok (.getfield 17, 3) := dk_180 0 17 (dk_at dksX2_next_0 12 rfl rfl)
theorem dX2_next_15 : decode cX2_next 15 = .ok (.aload_n 0, 1) := dk_42 (dk_at dksX2_next_0 15 rfl rfl)
theorem dX2_next_16 : decode cX2_next 16 = .ok (.getfield 99, 3) := dk_180 0 99 (dk_at dksX2_next_0 16 rfl rfl)
theorem dX2_next_19 : decode cX2_next 19 = .ok (.invokeinterface 93 2, 5) := by decide +kernel
theorem dX2_next_24 : decode cX2_next 24 = .ok (.bipush 32, 2) := dk_16 32 (dk_at dksX2_next_1 0 rfl rfl)
theorem dX2_next_26 : decode cX2_next 26 = .ok (.if_icmp .eq 21, 3) := dk_159 0 21 (dk_at dksX2_next_1 2 rfl rfl)
theorem dX2_next_29 : decode cX2_next 29 = .ok (.aload_n 0, 1) := dk_42 (dk_at dksX2_next_1 5 rfl rfl)
theorem dX2_next_30 : decode cX2_next 30 = .ok (.getfield 17, 3) := dk_180 0 17 (dk_at dksX2_next_1 6 rfl rfl)
theorem dX2_next_33 : decode cX2_next 33 = .ok (.aload_n 0, 1) := dk_42 (dk_at dksX2_next_1 9 rfl rfl)
theorem dX2_next_34 : decode cX2_next 34 = .ok (.getfield 99, 3) := dk_180 0 99 (dk_at dksX2_next_1 10 rfl rfl)
theorem dX2_next_37 : decode cX2_next 37 = .ok (.invokeinterface 93 2, 5) := by decide +kernel
theorem dX2_next_42 : decode cX2_next 42 = .ok (.bipush 10, 2) := dk_16 10 (dk_at dksX2_next_1 18 rfl rfl)
theorem dX2_next_44 : decode cX2_next 44 = .ok (.if_icmp .ne 16, 3) := dk_160 0 16 (dk_at dksX2_next_1 20 rfl rfl)
theorem dX2_next_47 : decode cX2_next 47 = .ok (.aload_n 0, 1) := dk_42 (dk_at dksX2_next_1 23 rfl rfl)
theorem dX2_next_48 : decode cX2_next 48 = .ok (.dup, 1) := dk_89 (dk_at dksX2_next_2 0 rfl rfl)
theorem dX2_next_49 : decode cX2_next 49 = .ok (.getfield 99, 3) := dk_180 0 99 (dk_at dksX2_next_2 1 rfl rfl)
theorem dX2_next_52 : decode cX2_next 52 = .ok (.iconst 1, 1) := dk_4 (dk_at dksX2_next_2 4 rfl rfl)
theorem dX2_next_53 : decode cX2_next 53 = .ok (.iadd, 1) := dk_96 (dk_at dksX2_next_2 5 rfl rfl)
theorem dX2_next_54 : decode cX2_next 54 = .ok (.putfield 99, 3) := dk_181 0 99 (dk_at dksX2_next_2 6 rfl rfl)
theorem dX2_next_57 : decode cX2_next 57 = .ok (.goto (-57), 3) := dk_167 255 199 (dk_at dksX2_next_2 9 rfl rfl)
theorem dX2_next_60 : decode cX2_next 60 = .ok (.aload_n 0, 1) := dk_42 (dk_at dksX2_next_2 12 rfl rfl)
theorem dX2_next_61 : decode cX2_next 61 = .ok (.aload_n 0, 1) := dk_42 (dk_at dksX2_next_2 13 rfl rfl)
theorem dX2_next_62 : decode cX2_next 62 = .ok (.getfield 99, 3) := dk_180 0 99 (dk_at dksX2_next_2 14 rfl rfl)
theorem dX2_next_65 : decode cX2_next 65 = .ok (.putfield 48, 3) := dk_181 0 48 (dk_at dksX2_next_2 17 rfl rfl)
theorem dX2_next_68 : decode cX2_next 68 = .ok (.aload_n 0, 1) := dk_42 (dk_at dksX2_next_2 20 rfl rfl)
theorem dX2_next_69 : decode cX2_next 69 = .ok (.getfield 99, 3) := dk_180 0 99 (dk_at dksX2_next_2 21 rfl rfl)
theorem dX2_next_72 : decode cX2_next 72 = .ok (.aload_n 0, 1) := dk_42 (dk_at dksX2_next_3 0 rfl rfl)
theorem dX2_next_73 : decode cX2_next 73 = .ok (.getfield 21, 3) := dk_180 0 21 (dk_at dksX2_next_3 1 rfl rfl)
theorem dX2_next_76 : decode cX2_next 76 = .ok (.if_icmp .lt 13, 3) := dk_161 0 13 (dk_at dksX2_next_3 4 rfl rfl)
theorem dX2_next_79 : decode cX2_next 79 = .ok (.aload_n 0, 1) := dk_42 (dk_at dksX2_next_3 7 rfl rfl)
theorem dX2_next_80 : decode cX2_next 80 = .ok (.getstatic 80, 3) := dk_178 0 80 (dk_at dksX2_next_3 8 rfl rfl)
theorem dX2_next_83 : decode cX2_next 83 = .ok (.putfield 33, 3) := dk_181 0 33 (dk_at dksX2_next_3 11 rfl rfl)
theorem dX2_next_86 : decode cX2_next 86 = .ok (.goto 251, 3) := dk_167 0 251 (dk_at dksX2_next_3 14 rfl rfl)
theorem dX2_next_89 : decode cX2_next 89 = .ok (.aload_n 0, 1) := dk_42 (dk_at dksX2_next_3 17 rfl rfl)
theorem dX2_next_90 : decode cX2_next 90 = .ok (.aload_n 0, 1) := dk_42 (dk_at dksX2_next_3 18 rfl rfl)
theorem dX2_next_91 : decode cX2_next 91 = .ok (.getfield 99, 3) := dk_180 0 99 (dk_at dksX2_next_3 19 rfl rfl)
theorem dX2_next_94 : decode cX2_next 94 = .ok (.bipush 97, 2) := dk_16 97 (dk_at dksX2_next_3 22 rfl rfl)
theorem dX2_next_96 : decode cX2_next 96 = .ok (.bipush 122, 2) := dk_16 122 (dk_at dksX2_next_4 0 rfl rfl)
theorem dX2_next_98 : decode cX2_next 98 = .ok (.invokevirtual 102, 3) := dk_182 0 102 (dk_at dksX2_next_4 2 rfl rfl)
theorem dX2_next_101 : decode cX2_next 101 = .ok (.ifCond .eq 67, 3) := dk_153 0 67 (dk_at dksX2_next_4 5 rfl rfl)
theorem dX2_next_104 : decode cX2_next 104 = .ok (.aload_n 0, 1) := dk_42 (dk_at dksX2_next_4 8 rfl rfl)
theorem dX2_next_105 : decode cX2_next 105 = .ok (.aload_n 0, 1) := dk_42 (dk_at dksX2_next_4 9 rfl rfl)
theorem dX2_next_106 : decode cX2_next 106 = .ok (.getfield 99, 3) := dk_180 0 99 (dk_at dksX2_next_4 10 rfl rfl)
theorem dX2_next_109 : decode cX2_next 109 = .ok (.bipush 97, 2) := dk_16 97 (dk_at dksX2_next_4 13 rfl rfl)
theorem dX2_next_111 : decode cX2_next 111 = .ok (.bipush 122, 2) := dk_16 122 (dk_at dksX2_next_4 15 rfl rfl)
theorem dX2_next_113 : decode cX2_next 113 = .ok (.invokevirtual 102, 3) := dk_182 0 102 (dk_at dksX2_next_4 17 rfl rfl)
theorem dX2_next_116 : decode cX2_next 116 = .ok (.ifCond .eq 16, 3) := dk_153 0 16 (dk_at dksX2_next_4 20 rfl rfl)
theorem dX2_next_119 : decode cX2_next 119 = .ok (.aload_n 0, 1) := dk_42 (dk_at dksX2_next_4 23 rfl rfl)
theorem dX2_next_120 : decode cX2_next 120 = .ok (.dup, 1) := dk_89 (dk_at dksX2_next_5 0 rfl rfl)
theorem dX2_next_121 : decode cX2_next 121 = .ok (.getfield 99, 3) := dk_180 0 99 (dk_at dksX2_next_5 1 rfl rfl)
theorem dX2_next_124 : decode cX2_next 124 = .ok (.iconst 1, 1) := dk_4 (dk_at dksX2_next_5 4 rfl rfl)
theorem dX2_next_125 : decode cX2_next 125 = .ok (.iadd, 1) := dk_96 (dk_at dksX2_next_5 5 rfl rfl)
theorem dX2_next_126 : decode cX2_next 126 = .ok (.putfield 99, 3) := dk_181 0 99 (dk_at dksX2_next_5 6 rfl rfl)
theorem dX2_next_129 : decode cX2_next 129 = .ok (.goto (-25), 3) := dk_167 255 231 (dk_at dksX2_next_5 9 rfl rfl)
theorem dX2_next_132 : decode cX2_next 132 = .ok (.aload_n 0, 1) := dk_42 (dk_at dksX2_next_5 12 rfl rfl)
theorem dX2_next_133 : decode cX2_next 133 = .ok (.aload_n 0, 1) := dk_42 (dk_at dksX2_next_5 13 rfl rfl)
theorem dX2_next_134 : decode cX2_next 134 = .ok (.getfield 17, 3) := dk_180 0 17 (dk_at dksX2_next_5 14 rfl rfl)
theorem dX2_next_137 : decode cX2_next 137 = .ok (.aload_n 0, 1) := dk_42 (dk_at dksX2_next_5 17 rfl rfl)
theorem dX2_next_138 : decode cX2_next 138 = .ok (.getfield 48, 3) := dk_180 0 48 (dk_at dksX2_next_5 18 rfl rfl)
theorem dX2_next_141 : decode cX2_next 141 = .ok (.aload_n 0, 1) := dk_42 (dk_at dksX2_next_5 21 rfl rfl)
theorem dX2_next_142 : decode cX2_next 142 = .ok (.getfield 99, 3) := dk_180 0 99 (dk_at dksX2_next_6 0 rfl rfl)
theorem dX2_next_145 : decode cX2_next 145 = .ok (.invokeinterface 106 3, 5) := by decide +kernel
theorem dX2_next_150 : decode cX2_next 150 = .ok (.invokeinterface 110 1, 5) := by decide +kernel
theorem dX2_next_155 : decode cX2_next 155 = .ok (.putfield 11, 3) := dk_181 0 11 (dk_at dksX2_next_6 13 rfl rfl)
theorem dX2_next_158 : decode cX2_next 158 = .ok (.aload_n 0, 1) := dk_42 (dk_at dksX2_next_6 16 rfl rfl)
theorem dX2_next_159 : decode cX2_next 159 = .ok (.getstatic 114, 3) := dk_178 0 114 (dk_at dksX2_next_6 17 rfl rfl)
theorem dX2_next_162 : decode cX2_next 162 = .ok (.putfield 33, 3) := dk_181 0 33 (dk_at dksX2_next_6 20 rfl rfl)
theorem dX2_next_165 : decode cX2_next 165 = .ok (.goto 172, 3) := dk_167 0 172 (dk_at dksX2_next_7 0 rfl rfl)
theorem dX2_next_168 : decode cX2_next 168 = .ok (.aload_n 0, 1) := dk_42 (dk_at dksX2_next_7 3 rfl rfl)
theorem dX2_next_169 : decode cX2_next 169 = .ok (.aload_n 0, 1) := dk_42 (dk_at dksX2_next_7 4 rfl rfl)
theorem dX2_next_170 : decode cX2_next 170 = .ok (.getfield 99, 3) := dk_180 0 99 (dk_at dksX2_next_7 5 rfl rfl)
theorem dX2_next_173 : decode cX2_next 173 = .ok (.bipush 48, 2) := dk_16 48 (dk_at dksX2_next_7 8 rfl rfl)
theorem dX2_next_175 : decode cX2_next 175 = .ok (.bipush 57, 2) := dk_16 57 (dk_at dksX2_next_7 10 rfl rfl)
theorem dX2_next_177 : decode cX2_next 177 = .ok (.invokevirtual 102, 3) := dk_182 0 102 (dk_at dksX2_next_7 12 rfl rfl)
theorem dX2_next_180 : decode cX2_next 180 = .ok (.ifCond .eq 113, 3) := dk_153 0 113 (dk_at dksX2_next_7 15 rfl rfl)
theorem dX2_next_183 : decode cX2_next 183 = .ok (.aload_n 0, 1) := dk_42 (dk_at dksX2_next_7 18 rfl rfl)
theorem dX2_next_184 : decode cX2_next 184 = .ok (.iconst 0, 1) := dk_3 (dk_at dksX2_next_7 19 rfl rfl)
theorem dX2_next_185 : decode cX2_next 185 = .ok (.putfield 117, 3) := dk_181 0 117 (dk_at dksX2_next_7 20 rfl rfl)
theorem dX2_next_188 : decode cX2_next 188 = .ok (.aload_n 0, 1) := dk_42 (dk_at dksX2_next_7 23 rfl rfl)
theorem dX2_next_189 : decode cX2_next 189 = .ok (.aload_n 0, 1) := dk_42 (dk_at dksX2_next_8 0 rfl rfl)
theorem dX2_next_190 : decode cX2_next 190 = .ok (.getfield 99, 3) := dk_180 0 99 (dk_at dksX2_next_8 1 rfl rfl)
theorem dX2_next_193 : decode cX2_next 193 = .ok (.bipush 48, 2) := dk_16 48 (dk_at dksX2_next_8 4 rfl rfl)
theorem dX2_next_195 : decode cX2_next 195 = .ok (.bipush 57, 2) := dk_16 57 (dk_at dksX2_next_8 6 rfl rfl)
theorem dX2_next_197 : decode cX2_next 197 = .ok (.invokevirtual 102, 3) := dk_182 0 102 (dk_at dksX2_next_8 8 rfl rfl)
theorem dX2_next_200 : decode cX2_next 200 = .ok (.ifCond .eq 64, 3) := dk_153 0 64 (dk_at dksX2_next_8 11 rfl rfl)
theorem dX2_next_203 : decode cX2_next 203 = .ok (.aload_n 0, 1) := dk_42 (dk_at dksX2_next_8 14 rfl rfl)
theorem dX2_next_204 : decode cX2_next 204 = .ok (.aload_n 0, 1) := dk_42 (dk_at dksX2_next_8 15 rfl rfl)
theorem dX2_next_205 : decode cX2_next 205 = .ok (.getfield 99, 3) := dk_180 0 99 (dk_at dksX2_next_8 16 rfl rfl)
theorem dX2_next_208 : decode cX2_next 208 = .ok (.aload_n 0, 1) := dk_42 (dk_at dksX2_next_8 19 rfl rfl)
theorem dX2_next_209 : decode cX2_next 209 = .ok (.getfield 48, 3) := dk_180 0 48 (dk_at dksX2_next_8 20 rfl rfl)
theorem dX2_next_212 : decode cX2_next 212 = .ok (.isub, 1) := dk_100 (dk_at dksX2_next_8 23 rfl rfl)
theorem dX2_next_213 : decode cX2_next 213 = .ok (.iconst 4, 1) := dk_7 (dk_at dksX2_next_9 0 rfl rfl)
theorem dX2_next_214 : decode cX2_next 214 = .ok (.if_icmp .ge 30, 3) := dk_162 0 30 (dk_at dksX2_next_9 1 rfl rfl)
theorem dX2_next_217 : decode cX2_next 217 = .ok (.bipush 10, 2) := dk_16 10 (dk_at dksX2_next_9 4 rfl rfl)
theorem dX2_next_219 : decode cX2_next 219 = .ok (.aload_n 0, 1) := dk_42 (dk_at dksX2_next_9 6 rfl rfl)
theorem dX2_next_220 : decode cX2_next 220 = .ok (.getfield 117, 3) := dk_180 0 117 (dk_at dksX2_next_9 7 rfl rfl)
theorem dX2_next_223 : decode cX2_next 223 = .ok (.imul, 1) := dk_104 (dk_at dksX2_next_9 10 rfl rfl)
theorem dX2_next_224 : decode cX2_next 224 = .ok (.aload_n 0, 1) := dk_42 (dk_at dksX2_next_9 11 rfl rfl)
theorem dX2_next_225 : decode cX2_next 225 = .ok (.getfield 17, 3) := dk_180 0 17 (dk_at dksX2_next_9 12 rfl rfl)
theorem dX2_next_228 : decode cX2_next 228 = .ok (.aload_n 0, 1) := dk_42 (dk_at dksX2_next_9 15 rfl rfl)
theorem dX2_next_229 : decode cX2_next 229 = .ok (.getfield 99, 3) := dk_180 0 99 (dk_at dksX2_next_9 16 rfl rfl)
theorem dX2_next_232 : decode cX2_next 232 = .ok (.invokeinterface 93 2, 5) := by decide +kernel
theorem dX2_next_237 : decode cX2_next 237 = .ok (.iadd, 1) := dk_96 (dk_at dksX2_next_10 0 rfl rfl)
theorem dX2_next_238 : decode cX2_next 238 = .ok (.bipush 48, 2) := dk_16 48 (dk_at dksX2_next_10 1 rfl rfl)
theorem dX2_next_240 : decode cX2_next 240 = .ok (.isub, 1) := dk_100 (dk_at dksX2_next_10 3 rfl rfl)
theorem dX2_next_241 : decode cX2_next 241 = .ok (.goto 7, 3) := dk_167 0 7 (dk_at dksX2_next_10 4 rfl rfl)
theorem dX2_next_244 : decode cX2_next 244 = .ok (.aload_n 0, 1) := dk_42 (dk_at dksX2_next_10 7 rfl rfl)
theorem dX2_next_245 : decode cX2_next 245 = .ok (.getfield 117, 3) := dk_180 0 117 (dk_at dksX2_next_10 8 rfl rfl)
theorem dX2_next_248 : decode cX2_next 248 = .ok (.putfield 117, 3) := dk_181 0 117 (dk_at dksX2_next_10 11 rfl rfl)
theorem dX2_next_251 : decode cX2_next 251 = .ok (.aload_n 0, 1) := dk_42 (dk_at dksX2_next_10 14 rfl rfl)
theorem dX2_next_252 : decode cX2_next 252 = .ok (.dup, 1) := dk_89 (dk_at dksX2_next_10 15 rfl rfl)
theorem dX2_next_253 : decode cX2_next 253 = .ok (.getfield 99, 3) := dk_180 0 99 (dk_at dksX2_next_10 16 rfl rfl)
theorem dX2_next_256 : decode cX2_next 256 = .ok (.iconst 1, 1) := dk_4 (dk_at dksX2_next_10 19 rfl rfl)
theorem dX2_next_257 : decode cX2_next 257 = .ok (.iadd, 1) := dk_96 (dk_at dksX2_next_10 20 rfl rfl)
theorem dX2_next_258 : decode cX2_next 258 = .ok (.putfield 99, 3) := dk_181 0 99 (dk_at dksX2_next_10 21 rfl rfl)
theorem dX2_next_261 : decode cX2_next 261 = .ok (.goto (-73), 3) := dk_167 255 183 (dk_at dksX2_next_11 0 rfl rfl)
theorem dX2_next_264 : decode cX2_next 264 = .ok (.aload_n 0, 1) := dk_42 (dk_at dksX2_next_11 3 rfl rfl)
theorem dX2_next_265 : decode cX2_next 265 = .ok (.aload_n 0, 1) := dk_42 (dk_at dksX2_next_11 4 rfl rfl)
theorem dX2_next_266 : decode cX2_next 266 = .ok (.getfield 99, 3) := dk_180 0 99 (dk_at dksX2_next_11 5 rfl rfl)
theorem dX2_next_269 : decode cX2_next 269 = .ok (.aload_n 0, 1) := dk_42 (dk_at dksX2_next_11 8 rfl rfl)
theorem dX2_next_270 : decode cX2_next 270 = .ok (.getfield 48, 3) := dk_180 0 48 (dk_at dksX2_next_11 9 rfl rfl)
theorem dX2_next_273 : decode cX2_next 273 = .ok (.isub, 1) := dk_100 (dk_at dksX2_next_11 12 rfl rfl)
theorem dX2_next_274 : decode cX2_next 274 = .ok (.iconst 4, 1) := dk_7 (dk_at dksX2_next_11 13 rfl rfl)
theorem dX2_next_275 : decode cX2_next 275 = .ok (.if_icmp .le 9, 3) := dk_164 0 9 (dk_at dksX2_next_11 14 rfl rfl)
theorem dX2_next_278 : decode cX2_next 278 = .ok (.getstatic 120, 3) := dk_178 0 120 (dk_at dksX2_next_11 17 rfl rfl)
theorem dX2_next_281 : decode cX2_next 281 = .ok (.goto 6, 3) := dk_167 0 6 (dk_at dksX2_next_11 20 rfl rfl)
theorem dX2_next_284 : decode cX2_next 284 = .ok (.getstatic 37, 3) := dk_178 0 37 (dk_at dksX2_next_12 0 rfl rfl)
theorem dX2_next_287 : decode cX2_next 287 = .ok (.putfield 33, 3) := dk_181 0 33 (dk_at dksX2_next_12 3 rfl rfl)
theorem dX2_next_290 : decode cX2_next 290 = .ok (.goto 47, 3) := dk_167 0 47 (dk_at dksX2_next_12 6 rfl rfl)
theorem dX2_next_293 : decode cX2_next 293 = .ok (.aload_n 0, 1) := dk_42 (dk_at dksX2_next_12 9 rfl rfl)
theorem dX2_next_294 : decode cX2_next 294 = .ok (.ldc 123, 2) := dk_18 123 (dk_at dksX2_next_12 10 rfl rfl)
theorem dX2_next_296 : decode cX2_next 296 = .ok (.aload_n 0, 1) := dk_42 (dk_at dksX2_next_12 12 rfl rfl)
theorem dX2_next_297 : decode cX2_next 297 = .ok (.getfield 17, 3) := dk_180 0 17 (dk_at dksX2_next_12 13 rfl rfl)
theorem dX2_next_300 : decode cX2_next 300 = .ok (.aload_n 0, 1) := dk_42 (dk_at dksX2_next_12 16 rfl rfl)
theorem dX2_next_301 : decode cX2_next 301 = .ok (.getfield 99, 3) := dk_180 0 99 (dk_at dksX2_next_12 17 rfl rfl)
theorem dX2_next_304 : decode cX2_next 304 = .ok (.invokeinterface 93 2, 5) := by decide +kernel
theorem dX2_next_309 : decode cX2_next 309 = .ok (.invokevirtual 125, 3) := dk_182 0 125 (dk_at dksX2_next_13 5 rfl rfl)
theorem dX2_next_312 : decode cX2_next 312 = .ok (.ifCond .lt 9, 3) := dk_155 0 9 (dk_at dksX2_next_13 8 rfl rfl)
theorem dX2_next_315 : decode cX2_next 315 = .ok (.getstatic 131, 3) := dk_178 0 131 (dk_at dksX2_next_13 11 rfl rfl)
theorem dX2_next_318 : decode cX2_next 318 = .ok (.goto 6, 3) := dk_167 0 6 (dk_at dksX2_next_13 14 rfl rfl)
theorem dX2_next_321 : decode cX2_next 321 = .ok (.getstatic 120, 3) := dk_178 0 120 (dk_at dksX2_next_13 17 rfl rfl)
theorem dX2_next_324 : decode cX2_next 324 = .ok (.putfield 33, 3) := dk_181 0 33 (dk_at dksX2_next_13 20 rfl rfl)
theorem dX2_next_327 : decode cX2_next 327 = .ok (.aload_n 0, 1) := dk_42 (dk_at dksX2_next_13 23 rfl rfl)
theorem dX2_next_328 : decode cX2_next 328 = .ok (.dup, 1) := dk_89 (dk_at dksX2_next_14 0 rfl rfl)
theorem dX2_next_329 : decode cX2_next 329 = .ok (.getfield 99, 3) := dk_180 0 99 (dk_at dksX2_next_14 1 rfl rfl)
theorem dX2_next_332 : decode cX2_next 332 = .ok (.iconst 1, 1) := dk_4 (dk_at dksX2_next_14 4 rfl rfl)
theorem dX2_next_333 : decode cX2_next 333 = .ok (.iadd, 1) := dk_96 (dk_at dksX2_next_14 5 rfl rfl)
theorem dX2_next_334 : decode cX2_next 334 = .ok (.putfield 99, 3) := dk_181 0 99 (dk_at dksX2_next_14 6 rfl rfl)
theorem dX2_next_337 : decode cX2_next 337 = .ok (.return_, 1) := dk_177 (dk_at dksX2_next_14 9 rfl rfl)
abbrev cX2_within : ByteArray := prog_12_method_4_code
def yX2_within : MethodName := ⟨RX2, "within", "(ICC)Z"⟩
def dkwX2_within_1 : List UInt8 := [180, 0, 17, 27, 185, 0, 93, 2, 0, 29, 163, 0, 7, 4, 167, 0, 4, 3, 172]
abbrev dktX2_within_1 : List UInt8 := dkwX2_within_1 ++ []
def dkwX2_within_0 : List UInt8 := [27, 42, 180, 0, 21, 162, 0, 35, 42, 180, 0, 17, 27, 185, 0, 93, 2, 0, 28, 161, 0, 21, 42]
abbrev dktX2_within_0 : List UInt8 := dkwX2_within_0 ++ dktX2_within_1
theorem dksX2_within_0 : cX2_within.data.toList.drop 0 = dktX2_within_0 := by decide +kernel
theorem dksX2_within_1 : cX2_within.data.toList.drop 23 = dktX2_within_1 := dk_seg dksX2_within_0 23 rfl rfl
theorem dX2_within_0 : decode cX2_within 0 = .ok (.iload_n 1, 1) := dk_27 (dk_at dksX2_within_0 0 rfl rfl)
theorem dX2_within_1 : decode cX2_within 1 = .ok (.aload_n 0, 1) := dk_42 (dk_at dksX2_within_0 1 rfl rfl)
theorem dX2_within_2 : decode cX2_within 2 = .ok (.getfield 21, 3) := dk_180 0 21 (dk_at dksX2_within_0 2 rfl rfl)
theorem dX2_within_5 : decode cX2_within 5 = .ok (.if_icmp .ge 35, 3) := dk_162 0 35 (dk_at dksX2_within_0 5 rfl rfl)
theorem dX2_within_8 : decode cX2_within 8 = .ok (.aload_n 0, 1) := dk_42 (dk_at dksX2_within_0 8 rfl rfl)
theorem dX2_within_9 : decode cX2_within 9 = .ok (.getfield 17, 3) := dk_180 0 17 (dk_at dksX2_within_0 9 rfl rfl)
theorem dX2_within_12 : decode cX2_within 12 = .ok (.iload_n 1, 1) := dk_27 (dk_at dksX2_within_0 12 rfl rfl)
theorem dX2_within_13 : decode cX2_within 13 = .ok (.invokeinterface 93 2, 5) := by decide +kernel
theorem dX2_within_18 : decode cX2_within 18 = .ok (.iload_n 2, 1) := dk_28 (dk_at dksX2_within_0 18 rfl rfl)
theorem dX2_within_19 : decode cX2_within 19 = .ok (.if_icmp .lt 21, 3) := dk_161 0 21 (dk_at dksX2_within_0 19 rfl rfl)
theorem dX2_within_22 : decode cX2_within 22 = .ok (.aload_n 0, 1) := dk_42 (dk_at dksX2_within_0 22 rfl rfl)
theorem dX2_within_23 : decode cX2_within 23 = .ok (.getfield 17, 3) := dk_180 0 17 (dk_at dksX2_within_1 0 rfl rfl)
theorem dX2_within_26 : decode cX2_within 26 = .ok (.iload_n 1, 1) := dk_27 (dk_at dksX2_within_1 3 rfl rfl)
theorem dX2_within_27 : decode cX2_within 27 = .ok (.invokeinterface 93 2, 5) := by decide +kernel
theorem dX2_within_32 : decode cX2_within 32 = .ok (.iload_n 3, 1) := dk_29 (dk_at dksX2_within_1 9 rfl rfl)
theorem dX2_within_33 : decode cX2_within 33 = .ok (.if_icmp .gt 7, 3) := dk_163 0 7 (dk_at dksX2_within_1 10 rfl rfl)
theorem dX2_within_36 : decode cX2_within 36 = .ok (.iconst 1, 1) := dk_4 (dk_at dksX2_within_1 13 rfl rfl)
theorem dX2_within_37 : decode cX2_within 37 = .ok (.goto 4, 3) := dk_167 0 4 (dk_at dksX2_within_1 14 rfl rfl)
theorem dX2_within_40 : decode cX2_within 40 = .ok (.iconst 0, 1) := dk_3 (dk_at dksX2_within_1 17 rfl rfl)
theorem dX2_within_41 : decode cX2_within 41 = .ok (.ireturn, 1) := dk_172 (dk_at dksX2_within_1 18 rfl rfl)
abbrev cX2_word : ByteArray := prog_12_method_9_code
def yX2_word : MethodName := ⟨RX2, "word", "(Ljava/lang/CharSequence;)V"⟩
def dkwX2_word_1 : List UInt8 := [182, 0, 25, 177]
abbrev dktX2_word_1 : List UInt8 := dkwX2_word_1 ++ []
def dkwX2_word_0 : List UInt8 := [42, 43, 182, 0, 138, 154, 0, 16, 187, 0, 46, 89, 42, 180, 0, 48, 4, 183, 0, 51, 191, 42]
abbrev dktX2_word_0 : List UInt8 := dkwX2_word_0 ++ dktX2_word_1
theorem dksX2_word_0 : cX2_word.data.toList.drop 0 = dktX2_word_0 := by decide +kernel
theorem dksX2_word_1 : cX2_word.data.toList.drop 22 = dktX2_word_1 := dk_seg dksX2_word_0 22 rfl rfl
theorem dX2_word_0 : decode cX2_word 0 = .ok (.aload_n 0, 1) := dk_42 (dk_at dksX2_word_0 0 rfl rfl)
theorem dX2_word_1 : decode cX2_word 1 = .ok (.aload_n 1, 1) := dk_43 (dk_at dksX2_word_0 1 rfl rfl)
theorem dX2_word_2 : decode cX2_word 2 = .ok (.invokevirtual 138, 3) := dk_182 0 138 (dk_at dksX2_word_0 2 rfl rfl)
theorem dX2_word_5 : decode cX2_word 5 = .ok (.ifCond .ne 16, 3) := dk_154 0 16 (dk_at dksX2_word_0 5 rfl rfl)
theorem dX2_word_8 : decode cX2_word 8 = .ok (.new 46, 3) := dk_187 0 46 (dk_at dksX2_word_0 8 rfl rfl)
theorem dX2_word_11 : decode cX2_word 11 = .ok (.dup, 1) := dk_89 (dk_at dksX2_word_0 11 rfl rfl)
theorem dX2_word_12 : decode cX2_word 12 = .ok (.aload_n 0, 1) := dk_42 (dk_at dksX2_word_0 12 rfl rfl)
theorem dX2_word_13 : decode cX2_word 13 = .ok (.getfield 48, 3) := dk_180 0 48 (dk_at dksX2_word_0 13 rfl rfl)
theorem dX2_word_16 : decode cX2_word 16 = .ok (.iconst 1, 1) := dk_4 (dk_at dksX2_word_0 16 rfl rfl)
theorem dX2_word_17 : decode cX2_word 17 = .ok (.invokespecial 51, 3) := dk_183 0 51 (dk_at dksX2_word_0 17 rfl rfl)
theorem dX2_word_20 : decode cX2_word 20 = .ok (.athrow, 1) := dk_191 (dk_at dksX2_word_0 20 rfl rfl)
theorem dX2_word_21 : decode cX2_word 21 = .ok (.aload_n 0, 1) := dk_42 (dk_at dksX2_word_0 21 rfl rfl)
theorem dX2_word_22 : decode cX2_word 22 = .ok (.invokevirtual 25, 3) := dk_182 0 25 (dk_at dksX2_word_1 0 rfl rfl)
theorem dX2_word_25 : decode cX2_word 25 = .ok (.return_, 1) := dk_177 (dk_at dksX2_word_1 3 rfl rfl)
abbrev cX2_isWord : ByteArray := prog_12_method_7_code
def yX2_isWord : MethodName := ⟨RX2, "isWord", "(Ljava/lang/CharSequence;)Z"⟩
def dkwX2_isWord_1 : List UInt8 := [153, 0, 7, 4, 167, 0, 4, 3, 172]
abbrev dktX2_isWord_1 : List UInt8 := dkwX2_isWord_1 ++ []
def dkwX2_isWord_0 : List UInt8 := [42, 180, 0, 33, 178, 0, 114, 166, 0, 23, 42, 180, 0, 11, 43, 185, 0, 110, 1, 0, 182, 0, 134]
abbrev dktX2_isWord_0 : List UInt8 := dkwX2_isWord_0 ++ dktX2_isWord_1
theorem dksX2_isWord_0 : cX2_isWord.data.toList.drop 0 = dktX2_isWord_0 := by decide +kernel
theorem dksX2_isWord_1 : cX2_isWord.data.toList.drop 23 = dktX2_isWord_1 := dk_seg dksX2_isWord_0 23 rfl rfl
theorem dX2_isWord_0 : decode cX2_isWord 0 = .ok (.aload_n 0, 1) := dk_42 (dk_at dksX2_isWord_0 0 rfl rfl)
theorem dX2_isWord_1 : decode cX2_isWord 1 = .ok (.getfield 33, 3) := dk_180 0 33 (dk_at dksX2_isWord_0 1 rfl rfl)
theorem dX2_isWord_4 : decode cX2_isWord 4 = .ok (.getstatic 114, 3) := dk_178 0 114 (dk_at dksX2_isWord_0 4 rfl rfl)
theorem dX2_isWord_7 : decode cX2_isWord 7 = .ok (.if_acmp .ne 23, 3) := dk_166 0 23 (dk_at dksX2_isWord_0 7 rfl rfl)
theorem dX2_isWord_10 : decode cX2_isWord 10 = .ok (.aload_n 0, 1) := dk_42 (dk_at dksX2_isWord_0 10 rfl rfl)
theorem dX2_isWord_11 : decode cX2_isWord 11 = .ok (.getfield 11, 3) := dk_180 0 11 (dk_at dksX2_isWord_0 11 rfl rfl)
theorem dX2_isWord_14 : decode cX2_isWord 14 = .ok (.aload_n 1, 1) := dk_43 (dk_at dksX2_isWord_0 14 rfl rfl)
theorem dX2_isWord_15 : decode cX2_isWord 15 = .ok (.invokeinterface 110 1, 5) := by decide +kernel
theorem dX2_isWord_20 : decode cX2_isWord 20 = .ok (.invokevirtual 134, 3) := dk_182 0 134 (dk_at dksX2_isWord_0 20 rfl rfl)
theorem dX2_isWord_23 : decode cX2_isWord 23 = .ok (.ifCond .eq 7, 3) := dk_153 0 7 (dk_at dksX2_isWord_1 0 rfl rfl)
theorem dX2_isWord_26 : decode cX2_isWord 26 = .ok (.iconst 1, 1) := dk_4 (dk_at dksX2_isWord_1 3 rfl rfl)
theorem dX2_isWord_27 : decode cX2_isWord 27 = .ok (.goto 4, 3) := dk_167 0 4 (dk_at dksX2_isWord_1 4 rfl rfl)
theorem dX2_isWord_30 : decode cX2_isWord 30 = .ok (.iconst 0, 1) := dk_3 (dk_at dksX2_isWord_1 7 rfl rfl)
theorem dX2_isWord_31 : decode cX2_isWord 31 = .ok (.ireturn, 1) := dk_172 (dk_at dksX2_isWord_1 8 rfl rfl)
abbrev cX2_look : ByteArray := prog_12_method_11_code
def yX2_look : MethodName := ⟨RX2, "look", "(II)I"⟩
def dkwX2_look_1 : List UInt8 := [187, 0, 46, 89, 42, 180, 0, 48, 5, 183, 0, 51, 191, 42, 180, 0, 117, 172]
abbrev dktX2_look_1 : List UInt8 := dkwX2_look_1 ++ []
def dkwX2_look_0 : List UInt8 := [42, 178, 0, 37, 182, 0, 89, 42, 180, 0, 117, 27, 161, 0, 11, 42, 180, 0, 117, 28, 164, 0, 16]
abbrev dktX2_look_0 : List UInt8 := dkwX2_look_0 ++ dktX2_look_1
theorem dksX2_look_0 : cX2_look.data.toList.drop 0 = dktX2_look_0 := by decide +kernel
theorem dksX2_look_1 : cX2_look.data.toList.drop 23 = dktX2_look_1 := dk_seg dksX2_look_0 23 rfl rfl
theorem dX2_look_0 : decode cX2_look 0 = .ok (.aload_n 0, 1) := dk_42 (dk_at dksX2_look_0 0 rfl rfl)
theorem dX2_look_1 : decode cX2_look 1 = .ok (.getstatic 37, 3) := dk_178 0 37 (dk_at dksX2_look_0 1 rfl rfl)
theorem dX2_look_4 : decode cX2_look 4 = .ok (.invokevirtual 89, 3) := dk_182 0 89 (dk_at dksX2_look_0 4 rfl rfl)
theorem dX2_look_7 : decode cX2_look 7 = .ok (.aload_n 0, 1) := dk_42 (dk_at dksX2_look_0 7 rfl rfl)
theorem dX2_look_8 : decode cX2_look 8 = .ok (.getfield 117, 3) := dk_180 0 117 (dk_at dksX2_look_0 8 rfl rfl)
theorem dX2_look_11 : decode cX2_look 11 = .ok (.iload_n 1, 1) := dk_27 (dk_at dksX2_look_0 11 rfl rfl)
theorem dX2_look_12 : decode cX2_look 12 = .ok (.if_icmp .lt 11, 3) := dk_161 0 11 (dk_at dksX2_look_0 12 rfl rfl)
theorem dX2_look_15 : decode cX2_look 15 = .ok (.aload_n 0, 1) := dk_42 (dk_at dksX2_look_0 15 rfl rfl)
theorem dX2_look_16 : decode cX2_look 16 = .ok (.getfield 117, 3) := dk_180 0 117 (dk_at dksX2_look_0 16 rfl rfl)
theorem dX2_look_19 : decode cX2_look 19 = .ok (.iload_n 2, 1) := dk_28 (dk_at dksX2_look_0 19 rfl rfl)
theorem dX2_look_20 : decode cX2_look 20 = .ok (.if_icmp .le 16, 3) := dk_164 0 16 (dk_at dksX2_look_0 20 rfl rfl)
theorem dX2_look_23 : decode cX2_look 23 = .ok (.new 46, 3) := dk_187 0 46 (dk_at dksX2_look_1 0 rfl rfl)
theorem dX2_look_26 : decode cX2_look 26 = .ok (.dup, 1) := dk_89 (dk_at dksX2_look_1 3 rfl rfl)
theorem dX2_look_27 : decode cX2_look 27 = .ok (.aload_n 0, 1) := dk_42 (dk_at dksX2_look_1 4 rfl rfl)
theorem dX2_look_28 : decode cX2_look 28 = .ok (.getfield 48, 3) := dk_180 0 48 (dk_at dksX2_look_1 5 rfl rfl)
theorem dX2_look_31 : decode cX2_look 31 = .ok (.iconst 2, 1) := dk_5 (dk_at dksX2_look_1 8 rfl rfl)
theorem dX2_look_32 : decode cX2_look 32 = .ok (.invokespecial 51, 3) := dk_183 0 51 (dk_at dksX2_look_1 9 rfl rfl)
theorem dX2_look_35 : decode cX2_look 35 = .ok (.athrow, 1) := dk_191 (dk_at dksX2_look_1 12 rfl rfl)
theorem dX2_look_36 : decode cX2_look 36 = .ok (.aload_n 0, 1) := dk_42 (dk_at dksX2_look_1 13 rfl rfl)
theorem dX2_look_37 : decode cX2_look 37 = .ok (.getfield 117, 3) := dk_180 0 117 (dk_at dksX2_look_1 14 rfl rfl)
theorem dX2_look_40 : decode cX2_look 40 = .ok (.ireturn, 1) := dk_172 (dk_at dksX2_look_1 17 rfl rfl)
abbrev cX2_expect : ByteArray := prog_12_method_6_code
def yX2_expect : MethodName := ⟨RX2, "expect", "(LHeirCases$Token;)V"⟩
def dkwX2_expect_0 : List UInt8 := [42, 180, 0, 33, 43, 165, 0, 16, 187, 0, 46, 89, 42, 180, 0, 48, 4, 183, 0, 51, 191, 177]
abbrev dktX2_expect_0 : List UInt8 := dkwX2_expect_0 ++ []
theorem dksX2_expect_0 : cX2_expect.data.toList.drop 0 = dktX2_expect_0 := by decide +kernel
theorem dX2_expect_0 : decode cX2_expect 0 = .ok (.aload_n 0, 1) := dk_42 (dk_at dksX2_expect_0 0 rfl rfl)
theorem dX2_expect_1 : decode cX2_expect 1 = .ok (.getfield 33, 3) := dk_180 0 33 (dk_at dksX2_expect_0 1 rfl rfl)
theorem dX2_expect_4 : decode cX2_expect 4 = .ok (.aload_n 1, 1) := dk_43 (dk_at dksX2_expect_0 4 rfl rfl)
theorem dX2_expect_5 : decode cX2_expect 5 = .ok (.if_acmp .eq 16, 3) := dk_165 0 16 (dk_at dksX2_expect_0 5 rfl rfl)
theorem dX2_expect_8 : decode cX2_expect 8 = .ok (.new 46, 3) := dk_187 0 46 (dk_at dksX2_expect_0 8 rfl rfl)
theorem dX2_expect_11 : decode cX2_expect 11 = .ok (.dup, 1) := dk_89 (dk_at dksX2_expect_0 11 rfl rfl)
theorem dX2_expect_12 : decode cX2_expect 12 = .ok (.aload_n 0, 1) := dk_42 (dk_at dksX2_expect_0 12 rfl rfl)
theorem dX2_expect_13 : decode cX2_expect 13 = .ok (.getfield 48, 3) := dk_180 0 48 (dk_at dksX2_expect_0 13 rfl rfl)
theorem dX2_expect_16 : decode cX2_expect 16 = .ok (.iconst 1, 1) := dk_4 (dk_at dksX2_expect_0 16 rfl rfl)
theorem dX2_expect_17 : decode cX2_expect 17 = .ok (.invokespecial 51, 3) := dk_183 0 51 (dk_at dksX2_expect_0 17 rfl rfl)
theorem dX2_expect_20 : decode cX2_expect 20 = .ok (.athrow, 1) := dk_191 (dk_at dksX2_expect_0 20 rfl rfl)
theorem dX2_expect_21 : decode cX2_expect 21 = .ok (.return_, 1) := dk_177 (dk_at dksX2_expect_0 21 rfl rfl)
abbrev cX2_sign : ByteArray := prog_12_method_10_code
def yX2_sign : MethodName := ⟨RX2, "sign", "(C)V"⟩
def dkwX2_sign_1 : List UInt8 := [182, 0, 25, 177]
abbrev dktX2_sign_1 : List UInt8 := dkwX2_sign_1 ++ []
def dkwX2_sign_0 : List UInt8 := [42, 27, 182, 0, 142, 154, 0, 16, 187, 0, 46, 89, 42, 180, 0, 48, 4, 183, 0, 51, 191, 42]
abbrev dktX2_sign_0 : List UInt8 := dkwX2_sign_0 ++ dktX2_sign_1
theorem dksX2_sign_0 : cX2_sign.data.toList.drop 0 = dktX2_sign_0 := by decide +kernel
theorem dksX2_sign_1 : cX2_sign.data.toList.drop 22 = dktX2_sign_1 := dk_seg dksX2_sign_0 22 rfl rfl
theorem dX2_sign_0 : decode cX2_sign 0 = .ok (.aload_n 0, 1) := dk_42 (dk_at dksX2_sign_0 0 rfl rfl)
theorem dX2_sign_1 : decode cX2_sign 1 = .ok (.iload_n 1, 1) := dk_27 (dk_at dksX2_sign_0 1 rfl rfl)
theorem dX2_sign_2 : decode cX2_sign 2 = .ok (.invokevirtual 142, 3) := dk_182 0 142 (dk_at dksX2_sign_0 2 rfl rfl)
theorem dX2_sign_5 : decode cX2_sign 5 = .ok (.ifCond .ne 16, 3) := dk_154 0 16 (dk_at dksX2_sign_0 5 rfl rfl)
theorem dX2_sign_8 : decode cX2_sign 8 = .ok (.new 46, 3) := dk_187 0 46 (dk_at dksX2_sign_0 8 rfl rfl)
theorem dX2_sign_11 : decode cX2_sign 11 = .ok (.dup, 1) := dk_89 (dk_at dksX2_sign_0 11 rfl rfl)
theorem dX2_sign_12 : decode cX2_sign 12 = .ok (.aload_n 0, 1) := dk_42 (dk_at dksX2_sign_0 12 rfl rfl)
theorem dX2_sign_13 : decode cX2_sign 13 = .ok (.getfield 48, 3) := dk_180 0 48 (dk_at dksX2_sign_0 13 rfl rfl)
theorem dX2_sign_16 : decode cX2_sign 16 = .ok (.iconst 1, 1) := dk_4 (dk_at dksX2_sign_0 16 rfl rfl)
theorem dX2_sign_17 : decode cX2_sign 17 = .ok (.invokespecial 51, 3) := dk_183 0 51 (dk_at dksX2_sign_0 17 rfl rfl)
theorem dX2_sign_20 : decode cX2_sign 20 = .ok (.athrow, 1) := dk_191 (dk_at dksX2_sign_0 20 rfl rfl)
theorem dX2_sign_21 : decode cX2_sign 21 = .ok (.aload_n 0, 1) := dk_42 (dk_at dksX2_sign_0 21 rfl rfl)
theorem dX2_sign_22 : decode cX2_sign 22 = .ok (.invokevirtual 25, 3) := dk_182 0 25 (dk_at dksX2_sign_1 0 rfl rfl)
theorem dX2_sign_25 : decode cX2_sign 25 = .ok (.return_, 1) := dk_177 (dk_at dksX2_sign_1 3 rfl rfl)
abbrev cX2_isSign : ByteArray := prog_12_method_8_code
def yX2_isSign : MethodName := ⟨RX2, "isSign", "(C)Z"⟩
def dkwX2_isSign_1 : List UInt8 := [160, 0, 7, 4, 167, 0, 4, 3, 172]
abbrev dktX2_isSign_1 : List UInt8 := dkwX2_isSign_1 ++ []
def dkwX2_isSign_0 : List UInt8 := [42, 180, 0, 33, 178, 0, 131, 166, 0, 24, 42, 180, 0, 17, 42, 180, 0, 48, 185, 0, 93, 2, 0, 27]
abbrev dktX2_isSign_0 : List UInt8 := dkwX2_isSign_0 ++ dktX2_isSign_1
theorem dksX2_isSign_0 : cX2_isSign.data.toList.drop 0 = dktX2_isSign_0 := by decide +kernel
theorem dksX2_isSign_1 : cX2_isSign.data.toList.drop 24 = dktX2_isSign_1 := dk_seg dksX2_isSign_0 24 rfl rfl
theorem dX2_isSign_0 : decode cX2_isSign 0 = .ok (.aload_n 0, 1) := dk_42 (dk_at dksX2_isSign_0 0 rfl rfl)
theorem dX2_isSign_1 : decode cX2_isSign 1 = .ok (.getfield 33, 3) := dk_180 0 33 (dk_at dksX2_isSign_0 1 rfl rfl)
theorem dX2_isSign_4 : decode cX2_isSign 4 = .ok (.getstatic 131, 3) := dk_178 0 131 (dk_at dksX2_isSign_0 4 rfl rfl)
theorem dX2_isSign_7 : decode cX2_isSign 7 = .ok (.if_acmp .ne 24, 3) := dk_166 0 24 (dk_at dksX2_isSign_0 7 rfl rfl)
theorem dX2_isSign_10 : decode cX2_isSign 10 = .ok (.aload_n 0, 1) := dk_42 (dk_at dksX2_isSign_0 10 rfl rfl)
theorem dX2_isSign_11 : decode cX2_isSign 11 = .ok (.getfield 17, 3) := dk_180 0 17 (dk_at dksX2_isSign_0 11 rfl rfl)
theorem dX2_isSign_14 : decode cX2_isSign 14 = .ok (.aload_n 0, 1) := dk_42 (dk_at dksX2_isSign_0 14 rfl rfl)
theorem dX2_isSign_15 : decode cX2_isSign 15 = .ok (.getfield 48, 3) := dk_180 0 48 (dk_at dksX2_isSign_0 15 rfl rfl)
theorem dX2_isSign_18 : decode cX2_isSign 18 = .ok (.invokeinterface 93 2, 5) := by decide +kernel
theorem dX2_isSign_23 : decode cX2_isSign 23 = .ok (.iload_n 1, 1) := dk_27 (dk_at dksX2_isSign_0 23 rfl rfl)
theorem dX2_isSign_24 : decode cX2_isSign 24 = .ok (.if_icmp .ne 7, 3) := dk_160 0 7 (dk_at dksX2_isSign_1 0 rfl rfl)
theorem dX2_isSign_27 : decode cX2_isSign 27 = .ok (.iconst 1, 1) := dk_4 (dk_at dksX2_isSign_1 3 rfl rfl)
theorem dX2_isSign_28 : decode cX2_isSign 28 = .ok (.goto 4, 3) := dk_167 0 4 (dk_at dksX2_isSign_1 4 rfl rfl)
theorem dX2_isSign_31 : decode cX2_isSign 31 = .ok (.iconst 0, 1) := dk_3 (dk_at dksX2_isSign_1 7 rfl rfl)
theorem dX2_isSign_32 : decode cX2_isSign 32 = .ok (.ireturn, 1) := dk_172 (dk_at dksX2_isSign_1 8 rfl rfl)
abbrev cX2_number : ByteArray := prog_12_method_12_code
def yX2_number : MethodName := ⟨RX2, "number", "(II)I"⟩
def dkwX2_number_0 : List UInt8 := [42, 27, 28, 182, 0, 42, 62, 42, 182, 0, 25, 29, 172]
abbrev dktX2_number_0 : List UInt8 := dkwX2_number_0 ++ []
theorem dksX2_number_0 : cX2_number.data.toList.drop 0 = dktX2_number_0 := by decide +kernel
theorem dX2_number_0 : decode cX2_number 0 = .ok (.aload_n 0, 1) := dk_42 (dk_at dksX2_number_0 0 rfl rfl)
theorem dX2_number_1 : decode cX2_number 1 = .ok (.iload_n 1, 1) := dk_27 (dk_at dksX2_number_0 1 rfl rfl)
theorem dX2_number_2 : decode cX2_number 2 = .ok (.iload_n 2, 1) := dk_28 (dk_at dksX2_number_0 2 rfl rfl)
theorem dX2_number_3 : decode cX2_number 3 = .ok (.invokevirtual 42, 3) := dk_182 0 42 (dk_at dksX2_number_0 3 rfl rfl)
theorem dX2_number_6 : decode cX2_number 6 = .ok (.istore_n 3, 1) := dk_62 (dk_at dksX2_number_0 6 rfl rfl)
theorem dX2_number_7 : decode cX2_number 7 = .ok (.aload_n 0, 1) := dk_42 (dk_at dksX2_number_0 7 rfl rfl)
theorem dX2_number_8 : decode cX2_number 8 = .ok (.invokevirtual 25, 3) := dk_182 0 25 (dk_at dksX2_number_0 8 rfl rfl)
theorem dX2_number_11 : decode cX2_number 11 = .ok (.iload_n 3, 1) := dk_29 (dk_at dksX2_number_0 11 rfl rfl)
theorem dX2_number_12 : decode cX2_number 12 = .ok (.ireturn, 1) := dk_172 (dk_at dksX2_number_0 12 rfl rfl)
abbrev cX2_line : ByteArray := prog_12_method_14_code
def yX2_line : MethodName := ⟨RX2, "line", "()V"⟩
def dkwX2_line_11 : List UInt8 := [177]
abbrev dktX2_line_11 : List UInt8 := dkwX2_line_11 ++ []
def dkwX2_line_10 : List UInt8 := [42, 182, 0, 25, 42, 182, 0, 86, 167, 0, 16, 187, 0, 46, 89, 42, 180, 0, 48, 4, 183, 0, 51, 191]
abbrev dktX2_line_10 : List UInt8 := dkwX2_line_10 ++ dktX2_line_11
def dkwX2_line_9 : List UInt8 := [180, 0, 169, 182, 0, 173, 16, 10, 160, 0, 16, 187, 0, 46, 89, 42, 180, 0, 48, 7, 183, 0, 51, 191]
abbrev dktX2_line_9 : List UInt8 := dkwX2_line_9 ++ dktX2_line_10
def dkwX2_line_8 : List UInt8 := [180, 0, 76, 180, 0, 166, 29, 42, 3, 16, 60, 182, 0, 66, 79, 167, 0, 55, 42, 180, 0, 76]
abbrev dktX2_line_8 : List UInt8 := dkwX2_line_8 ++ dktX2_line_9
def dkwX2_line_7 : List UInt8 := [42, 180, 0, 76, 180, 0, 161, 29, 42, 3, 17, 39, 15, 182, 0, 66, 79, 42, 18, 164, 182, 0, 30, 42]
abbrev dktX2_line_7 : List UInt8 := dkwX2_line_7 ++ dktX2_line_8
def dkwX2_line_6 : List UInt8 := [182, 0, 25, 42, 3, 42, 180, 0, 76, 180, 0, 157, 4, 100, 182, 0, 66, 62, 42, 18, 159, 182, 0, 30]
abbrev dktX2_line_6 : List UInt8 := dkwX2_line_6 ++ dktX2_line_7
def dkwX2_line_5 : List UInt8 := [42, 182, 0, 25, 42, 180, 0, 76, 42, 3, 17, 39, 15, 182, 0, 66, 181, 0, 155, 167, 0, 122, 42]
abbrev dktX2_line_5 : List UInt8 := dkwX2_line_5 ++ dktX2_line_6
def dkwX2_line_4 : List UInt8 := [170, 0, 0, 0, 0, 0, 0, 156, 0, 0, 0, 0, 0, 0, 0, 2, 0, 0, 0, 28, 0, 0, 0, 50, 0, 0, 0, 117]
abbrev dktX2_line_4 : List UInt8 := dkwX2_line_4 ++ dktX2_line_5
def dkwX2_line_3 : List UInt8 := [61, 167, 0, 14, 43, 18, 154, 182, 0, 134, 153, 0, 5, 5, 61, 28]
abbrev dktX2_line_3 : List UInt8 := dkwX2_line_3 ++ dktX2_line_4
def dkwX2_line_2 : List UInt8 := [43, 18, 150, 182, 0, 134, 153, 0, 33, 3, 61, 167, 0, 28, 43, 18, 152, 182, 0, 134, 153, 0, 19, 4]
abbrev dktX2_line_2 : List UInt8 := dkwX2_line_2 ++ dktX2_line_3
def dkwX2_line_1 : List UInt8 := [171, 0, 0, 0, 0, 73, 0, 0, 0, 3, 178, 228, 59, 76, 0, 0, 0, 34, 0, 48, 206, 230, 0, 0, 0, 48, 0, 53, 150, 252, 0, 0, 0, 62]
abbrev dktX2_line_1 : List UInt8 := dkwX2_line_1 ++ dktX2_line_2
def dkwX2_line_0 : List UInt8 := [42, 178, 0, 114, 182, 0, 89, 42, 180, 0, 11, 76, 2, 61, 43, 182, 0, 146]
abbrev dktX2_line_0 : List UInt8 := dkwX2_line_0 ++ dktX2_line_1
theorem dksX2_line_0 : cX2_line.data.toList.drop 0 = dktX2_line_0 := by decide +kernel
theorem dksX2_line_1 : cX2_line.data.toList.drop 18 = dktX2_line_1 := dk_seg dksX2_line_0 18 rfl rfl
theorem dksX2_line_2 : cX2_line.data.toList.drop 52 = dktX2_line_2 := dk_seg dksX2_line_1 34 rfl rfl
theorem dksX2_line_3 : cX2_line.data.toList.drop 76 = dktX2_line_3 := dk_seg dksX2_line_2 24 rfl rfl
theorem dksX2_line_4 : cX2_line.data.toList.drop 92 = dktX2_line_4 := dk_seg dksX2_line_3 16 rfl rfl
theorem dksX2_line_5 : cX2_line.data.toList.drop 120 = dktX2_line_5 := dk_seg dksX2_line_4 28 rfl rfl
theorem dksX2_line_6 : cX2_line.data.toList.drop 143 = dktX2_line_6 := dk_seg dksX2_line_5 23 rfl rfl
theorem dksX2_line_7 : cX2_line.data.toList.drop 167 = dktX2_line_7 := dk_seg dksX2_line_6 24 rfl rfl
theorem dksX2_line_8 : cX2_line.data.toList.drop 191 = dktX2_line_8 := dk_seg dksX2_line_7 24 rfl rfl
theorem dksX2_line_9 : cX2_line.data.toList.drop 213 = dktX2_line_9 := dk_seg dksX2_line_8 22 rfl rfl
theorem dksX2_line_10 : cX2_line.data.toList.drop 237 = dktX2_line_10 := dk_seg dksX2_line_9 24 rfl rfl
theorem dksX2_line_11 : cX2_line.data.toList.drop 261 = dktX2_line_11 := dk_seg dksX2_line_10 24 rfl rfl
theorem dX2_line_0 : decode cX2_line 0 = .ok (.aload_n 0, 1) := dk_42 (dk_at dksX2_line_0 0 rfl rfl)
theorem dX2_line_1 : decode cX2_line 1 = .ok (.getstatic 114, 3) := dk_178 0 114 (dk_at dksX2_line_0 1 rfl rfl)
theorem dX2_line_4 : decode cX2_line 4 = .ok (.invokevirtual 89, 3) := dk_182 0 89 (dk_at dksX2_line_0 4 rfl rfl)
theorem dX2_line_7 : decode cX2_line 7 = .ok (.aload_n 0, 1) := dk_42 (dk_at dksX2_line_0 7 rfl rfl)
theorem dX2_line_8 : decode cX2_line 8 = .ok (.getfield 11, 3) := dk_180 0 11 (dk_at dksX2_line_0 8 rfl rfl)
theorem dX2_line_11 : decode cX2_line 11 = .ok (.astore_n 1, 1) := dk_76 (dk_at dksX2_line_0 11 rfl rfl)
theorem dX2_line_12 : decode cX2_line 12 = .ok (.iconst (-1), 1) := dk_2 (dk_at dksX2_line_0 12 rfl rfl)
theorem dX2_line_13 : decode cX2_line 13 = .ok (.istore_n 2, 1) := dk_61 (dk_at dksX2_line_0 13 rfl rfl)
theorem dX2_line_14 : decode cX2_line 14 = .ok (.aload_n 1, 1) := dk_43 (dk_at dksX2_line_0 14 rfl rfl)
theorem dX2_line_15 : decode cX2_line 15 = .ok (.invokevirtual 146, 3) := dk_182 0 146 (dk_at dksX2_line_0 15 rfl rfl)
theorem dX2_line_18 : decode cX2_line 18 = .ok (.lookupswitch 73 #[(-1293665460, 34), (3198694, 48), (3512060, 62)], 34) := by decide +kernel
theorem dX2_line_52 : decode cX2_line 52 = .ok (.aload_n 1, 1) := dk_43 (dk_at dksX2_line_2 0 rfl rfl)
theorem dX2_line_53 : decode cX2_line 53 = .ok (.ldc 150, 2) := dk_18 150 (dk_at dksX2_line_2 1 rfl rfl)
theorem dX2_line_55 : decode cX2_line 55 = .ok (.invokevirtual 134, 3) := dk_182 0 134 (dk_at dksX2_line_2 3 rfl rfl)
theorem dX2_line_58 : decode cX2_line 58 = .ok (.ifCond .eq 33, 3) := dk_153 0 33 (dk_at dksX2_line_2 6 rfl rfl)
theorem dX2_line_61 : decode cX2_line 61 = .ok (.iconst 0, 1) := dk_3 (dk_at dksX2_line_2 9 rfl rfl)
theorem dX2_line_62 : decode cX2_line 62 = .ok (.istore_n 2, 1) := dk_61 (dk_at dksX2_line_2 10 rfl rfl)
theorem dX2_line_63 : decode cX2_line 63 = .ok (.goto 28, 3) := dk_167 0 28 (dk_at dksX2_line_2 11 rfl rfl)
theorem dX2_line_66 : decode cX2_line 66 = .ok (.aload_n 1, 1) := dk_43 (dk_at dksX2_line_2 14 rfl rfl)
theorem dX2_line_67 : decode cX2_line 67 = .ok (.ldc 152, 2) := dk_18 152 (dk_at dksX2_line_2 15 rfl rfl)
theorem dX2_line_69 : decode cX2_line 69 = .ok (.invokevirtual 134, 3) := dk_182 0 134 (dk_at dksX2_line_2 17 rfl rfl)
theorem dX2_line_72 : decode cX2_line 72 = .ok (.ifCond .eq 19, 3) := dk_153 0 19 (dk_at dksX2_line_2 20 rfl rfl)
theorem dX2_line_75 : decode cX2_line 75 = .ok (.iconst 1, 1) := dk_4 (dk_at dksX2_line_2 23 rfl rfl)
theorem dX2_line_76 : decode cX2_line 76 = .ok (.istore_n 2, 1) := dk_61 (dk_at dksX2_line_3 0 rfl rfl)
theorem dX2_line_77 : decode cX2_line 77 = .ok (.goto 14, 3) := dk_167 0 14 (dk_at dksX2_line_3 1 rfl rfl)
theorem dX2_line_80 : decode cX2_line 80 = .ok (.aload_n 1, 1) := dk_43 (dk_at dksX2_line_3 4 rfl rfl)
theorem dX2_line_81 : decode cX2_line 81 = .ok (.ldc 154, 2) := dk_18 154 (dk_at dksX2_line_3 5 rfl rfl)
theorem dX2_line_83 : decode cX2_line 83 = .ok (.invokevirtual 134, 3) := dk_182 0 134 (dk_at dksX2_line_3 7 rfl rfl)
theorem dX2_line_86 : decode cX2_line 86 = .ok (.ifCond .eq 5, 3) := dk_153 0 5 (dk_at dksX2_line_3 10 rfl rfl)
theorem dX2_line_89 : decode cX2_line 89 = .ok (.iconst 2, 1) := dk_5 (dk_at dksX2_line_3 13 rfl rfl)
theorem dX2_line_90 : decode cX2_line 90 = .ok (.istore_n 2, 1) := dk_61 (dk_at dksX2_line_3 14 rfl rfl)
theorem dX2_line_91 : decode cX2_line 91 = .ok (.iload_n 2, 1) := dk_28 (dk_at dksX2_line_3 15 rfl rfl)
theorem dX2_line_92 : decode cX2_line 92 = .ok (.tableswitch 156 0 2 #[28, 50, 117], 28) := by decide +kernel
theorem dX2_line_120 : decode cX2_line 120 = .ok (.aload_n 0, 1) := dk_42 (dk_at dksX2_line_5 0 rfl rfl)
theorem dX2_line_121 : decode cX2_line 121 = .ok (.invokevirtual 25, 3) := dk_182 0 25 (dk_at dksX2_line_5 1 rfl rfl)
theorem dX2_line_124 : decode cX2_line 124 = .ok (.aload_n 0, 1) := dk_42 (dk_at dksX2_line_5 4 rfl rfl)
theorem dX2_line_125 : decode cX2_line 125 = .ok (.getfield 76, 3) := dk_180 0 76 (dk_at dksX2_line_5 5 rfl rfl)
theorem dX2_line_128 : decode cX2_line 128 = .ok (.aload_n 0, 1) := dk_42 (dk_at dksX2_line_5 8 rfl rfl)
theorem dX2_line_129 : decode cX2_line 129 = .ok (.iconst 0, 1) := dk_3 (dk_at dksX2_line_5 9 rfl rfl)
theorem dX2_line_130 : decode cX2_line 130 = .ok (.sipush 9999, 3) := dk_17 39 15 (dk_at dksX2_line_5 10 rfl rfl)
theorem dX2_line_133 : decode cX2_line 133 = .ok (.invokevirtual 66, 3) := dk_182 0 66 (dk_at dksX2_line_5 13 rfl rfl)
theorem dX2_line_136 : decode cX2_line 136 = .ok (.putfield 155, 3) := dk_181 0 155 (dk_at dksX2_line_5 16 rfl rfl)
theorem dX2_line_139 : decode cX2_line 139 = .ok (.goto 122, 3) := dk_167 0 122 (dk_at dksX2_line_5 19 rfl rfl)
theorem dX2_line_142 : decode cX2_line 142 = .ok (.aload_n 0, 1) := dk_42 (dk_at dksX2_line_5 22 rfl rfl)
theorem dX2_line_143 : decode cX2_line 143 = .ok (.invokevirtual 25, 3) := dk_182 0 25 (dk_at dksX2_line_6 0 rfl rfl)
theorem dX2_line_146 : decode cX2_line 146 = .ok (.aload_n 0, 1) := dk_42 (dk_at dksX2_line_6 3 rfl rfl)
theorem dX2_line_147 : decode cX2_line 147 = .ok (.iconst 0, 1) := dk_3 (dk_at dksX2_line_6 4 rfl rfl)
theorem dX2_line_148 : decode cX2_line 148 = .ok (.aload_n 0, 1) := dk_42 (dk_at dksX2_line_6 5 rfl rfl)
theorem dX2_line_149 : decode cX2_line 149 = .ok (.getfield 76, 3) := dk_180 0 76 (dk_at dksX2_line_6 6 rfl rfl)
theorem dX2_line_152 : decode cX2_line 152 = .ok (.getfield 157, 3) := dk_180 0 157 (dk_at dksX2_line_6 9 rfl rfl)
theorem dX2_line_155 : decode cX2_line 155 = .ok (.iconst 1, 1) := dk_4 (dk_at dksX2_line_6 12 rfl rfl)
theorem dX2_line_156 : decode cX2_line 156 = .ok (.isub, 1) := dk_100 (dk_at dksX2_line_6 13 rfl rfl)
theorem dX2_line_157 : decode cX2_line 157 = .ok (.invokevirtual 66, 3) := dk_182 0 66 (dk_at dksX2_line_6 14 rfl rfl)
theorem dX2_line_160 : decode cX2_line 160 = .ok (.istore_n 3, 1) := dk_62 (dk_at dksX2_line_6 17 rfl rfl)
theorem dX2_line_161 : decode cX2_line 161 = .ok (.aload_n 0, 1) := dk_42 (dk_at dksX2_line_6 18 rfl rfl)
theorem dX2_line_162 : decode cX2_line 162 = .ok (.ldc 159, 2) := dk_18 159 (dk_at dksX2_line_6 19 rfl rfl)
theorem dX2_line_164 : decode cX2_line 164 = .ok (.invokevirtual 30, 3) := dk_182 0 30 (dk_at dksX2_line_6 21 rfl rfl)
theorem dX2_line_167 : decode cX2_line 167 = .ok (.aload_n 0, 1) := dk_42 (dk_at dksX2_line_7 0 rfl rfl)
theorem dX2_line_168 : decode cX2_line 168 = .ok (.getfield 76, 3) := dk_180 0 76 (dk_at dksX2_line_7 1 rfl rfl)
theorem dX2_line_171 : decode cX2_line 171 = .ok (.getfield 161, 3) := dk_180 0 161 (dk_at dksX2_line_7 4 rfl rfl)
theorem dX2_line_174 : decode cX2_line 174 = .ok (.iload_n 3, 1) := dk_29 (dk_at dksX2_line_7 7 rfl rfl)
theorem dX2_line_175 : decode cX2_line 175 = .ok (.aload_n 0, 1) := dk_42 (dk_at dksX2_line_7 8 rfl rfl)
theorem dX2_line_176 : decode cX2_line 176 = .ok (.iconst 0, 1) := dk_3 (dk_at dksX2_line_7 9 rfl rfl)
theorem dX2_line_177 : decode cX2_line 177 = .ok (.sipush 9999, 3) := dk_17 39 15 (dk_at dksX2_line_7 10 rfl rfl)
theorem dX2_line_180 : decode cX2_line 180 = .ok (.invokevirtual 66, 3) := dk_182 0 66 (dk_at dksX2_line_7 13 rfl rfl)
theorem dX2_line_183 : decode cX2_line 183 = .ok (.iastore, 1) := dk_79 (dk_at dksX2_line_7 16 rfl rfl)
theorem dX2_line_184 : decode cX2_line 184 = .ok (.aload_n 0, 1) := dk_42 (dk_at dksX2_line_7 17 rfl rfl)
theorem dX2_line_185 : decode cX2_line 185 = .ok (.ldc 164, 2) := dk_18 164 (dk_at dksX2_line_7 18 rfl rfl)
theorem dX2_line_187 : decode cX2_line 187 = .ok (.invokevirtual 30, 3) := dk_182 0 30 (dk_at dksX2_line_7 20 rfl rfl)
theorem dX2_line_190 : decode cX2_line 190 = .ok (.aload_n 0, 1) := dk_42 (dk_at dksX2_line_7 23 rfl rfl)
theorem dX2_line_191 : decode cX2_line 191 = .ok (.getfield 76, 3) := dk_180 0 76 (dk_at dksX2_line_8 0 rfl rfl)
theorem dX2_line_194 : decode cX2_line 194 = .ok (.getfield 166, 3) := dk_180 0 166 (dk_at dksX2_line_8 3 rfl rfl)
theorem dX2_line_197 : decode cX2_line 197 = .ok (.iload_n 3, 1) := dk_29 (dk_at dksX2_line_8 6 rfl rfl)
theorem dX2_line_198 : decode cX2_line 198 = .ok (.aload_n 0, 1) := dk_42 (dk_at dksX2_line_8 7 rfl rfl)
theorem dX2_line_199 : decode cX2_line 199 = .ok (.iconst 0, 1) := dk_3 (dk_at dksX2_line_8 8 rfl rfl)
theorem dX2_line_200 : decode cX2_line 200 = .ok (.bipush 60, 2) := dk_16 60 (dk_at dksX2_line_8 9 rfl rfl)
theorem dX2_line_202 : decode cX2_line 202 = .ok (.invokevirtual 66, 3) := dk_182 0 66 (dk_at dksX2_line_8 11 rfl rfl)
theorem dX2_line_205 : decode cX2_line 205 = .ok (.iastore, 1) := dk_79 (dk_at dksX2_line_8 14 rfl rfl)
theorem dX2_line_206 : decode cX2_line 206 = .ok (.goto 55, 3) := dk_167 0 55 (dk_at dksX2_line_8 15 rfl rfl)
theorem dX2_line_209 : decode cX2_line 209 = .ok (.aload_n 0, 1) := dk_42 (dk_at dksX2_line_8 18 rfl rfl)
theorem dX2_line_210 : decode cX2_line 210 = .ok (.getfield 76, 3) := dk_180 0 76 (dk_at dksX2_line_8 19 rfl rfl)
theorem dX2_line_213 : decode cX2_line 213 = .ok (.getfield 169, 3) := dk_180 0 169 (dk_at dksX2_line_9 0 rfl rfl)
theorem dX2_line_216 : decode cX2_line 216 = .ok (.invokevirtual 173, 3) := dk_182 0 173 (dk_at dksX2_line_9 3 rfl rfl)
theorem dX2_line_219 : decode cX2_line 219 = .ok (.bipush 10, 2) := dk_16 10 (dk_at dksX2_line_9 6 rfl rfl)
theorem dX2_line_221 : decode cX2_line 221 = .ok (.if_icmp .ne 16, 3) := dk_160 0 16 (dk_at dksX2_line_9 8 rfl rfl)
theorem dX2_line_224 : decode cX2_line 224 = .ok (.new 46, 3) := dk_187 0 46 (dk_at dksX2_line_9 11 rfl rfl)
theorem dX2_line_227 : decode cX2_line 227 = .ok (.dup, 1) := dk_89 (dk_at dksX2_line_9 14 rfl rfl)
theorem dX2_line_228 : decode cX2_line 228 = .ok (.aload_n 0, 1) := dk_42 (dk_at dksX2_line_9 15 rfl rfl)
theorem dX2_line_229 : decode cX2_line 229 = .ok (.getfield 48, 3) := dk_180 0 48 (dk_at dksX2_line_9 16 rfl rfl)
theorem dX2_line_232 : decode cX2_line 232 = .ok (.iconst 4, 1) := dk_7 (dk_at dksX2_line_9 19 rfl rfl)
theorem dX2_line_233 : decode cX2_line 233 = .ok (.invokespecial 51, 3) := dk_183 0 51 (dk_at dksX2_line_9 20 rfl rfl)
theorem dX2_line_236 : decode cX2_line 236 = .ok (.athrow, 1) := dk_191 (dk_at dksX2_line_9 23 rfl rfl)
theorem dX2_line_237 : decode cX2_line 237 = .ok (.aload_n 0, 1) := dk_42 (dk_at dksX2_line_10 0 rfl rfl)
theorem dX2_line_238 : decode cX2_line 238 = .ok (.invokevirtual 25, 3) := dk_182 0 25 (dk_at dksX2_line_10 1 rfl rfl)
theorem dX2_line_241 : decode cX2_line 241 = .ok (.aload_n 0, 1) := dk_42 (dk_at dksX2_line_10 4 rfl rfl)
theorem dX2_line_242 : decode cX2_line 242 = .ok (.invokevirtual 86, 3) := dk_182 0 86 (dk_at dksX2_line_10 5 rfl rfl)
theorem dX2_line_245 : decode cX2_line 245 = .ok (.goto 16, 3) := dk_167 0 16 (dk_at dksX2_line_10 8 rfl rfl)
theorem dX2_line_248 : decode cX2_line 248 = .ok (.new 46, 3) := dk_187 0 46 (dk_at dksX2_line_10 11 rfl rfl)
theorem dX2_line_251 : decode cX2_line 251 = .ok (.dup, 1) := dk_89 (dk_at dksX2_line_10 14 rfl rfl)
theorem dX2_line_252 : decode cX2_line 252 = .ok (.aload_n 0, 1) := dk_42 (dk_at dksX2_line_10 15 rfl rfl)
theorem dX2_line_253 : decode cX2_line 253 = .ok (.getfield 48, 3) := dk_180 0 48 (dk_at dksX2_line_10 16 rfl rfl)
theorem dX2_line_256 : decode cX2_line 256 = .ok (.iconst 1, 1) := dk_4 (dk_at dksX2_line_10 19 rfl rfl)
theorem dX2_line_257 : decode cX2_line 257 = .ok (.invokespecial 51, 3) := dk_183 0 51 (dk_at dksX2_line_10 20 rfl rfl)
theorem dX2_line_260 : decode cX2_line 260 = .ok (.athrow, 1) := dk_191 (dk_at dksX2_line_10 23 rfl rfl)
theorem dX2_line_261 : decode cX2_line 261 = .ok (.return_, 1) := dk_177 (dk_at dksX2_line_11 0 rfl rfl)
abbrev cX2_rule : ByteArray := prog_12_method_15_code
def yX2_rule : MethodName := ⟨RX2, "rule", "()V"⟩
def dkwX2_rule_5 : List UInt8 := [167, 255, 208, 42, 180, 0, 76, 180, 0, 169, 44, 182, 0, 208, 87, 177]
abbrev dktX2_rule_5 : List UInt8 := dkwX2_rule_5 ++ []
def dkwX2_rule_4 : List UInt8 := [44, 180, 0, 203, 42, 180, 0, 76, 180, 0, 169, 182, 0, 173, 4, 100, 182, 0, 205, 120, 128, 181, 0, 203]
abbrev dktX2_rule_4 : List UInt8 := dkwX2_rule_4 ++ dktX2_rule_5
def dkwX2_rule_3 : List UInt8 := [44, 180, 0, 203, 153, 0, 13, 42, 180, 0, 33, 178, 0, 37, 166, 0, 37, 44, 89, 180, 0, 203, 4, 42]
abbrev dktX2_rule_3 : List UInt8 := dkwX2_rule_3 ++ dktX2_rule_4
def dkwX2_rule_2 : List UInt8 := [182, 0, 25, 167, 0, 8, 42, 44, 182, 0, 197, 42, 18, 201, 182, 0, 138, 153, 0, 58, 42, 182, 0, 25]
abbrev dktX2_rule_2 : List UInt8 := dkwX2_rule_2 ++ dktX2_rule_3
def dkwX2_rule_1 : List UInt8 := [180, 0, 178, 183, 0, 190, 77, 42, 18, 193, 182, 0, 30, 42, 18, 195, 182, 0, 138, 153, 0, 10, 42]
abbrev dktX2_rule_1 : List UInt8 := dkwX2_rule_1 ++ dktX2_rule_2
def dkwX2_rule_0 : List UInt8 := [42, 3, 181, 0, 178, 42, 3, 181, 0, 181, 42, 3, 182, 0, 184, 76, 187, 0, 188, 89, 43, 42]
abbrev dktX2_rule_0 : List UInt8 := dkwX2_rule_0 ++ dktX2_rule_1
theorem dksX2_rule_0 : cX2_rule.data.toList.drop 0 = dktX2_rule_0 := by decide +kernel
theorem dksX2_rule_1 : cX2_rule.data.toList.drop 22 = dktX2_rule_1 := dk_seg dksX2_rule_0 22 rfl rfl
theorem dksX2_rule_2 : cX2_rule.data.toList.drop 45 = dktX2_rule_2 := dk_seg dksX2_rule_1 23 rfl rfl
theorem dksX2_rule_3 : cX2_rule.data.toList.drop 69 = dktX2_rule_3 := dk_seg dksX2_rule_2 24 rfl rfl
theorem dksX2_rule_4 : cX2_rule.data.toList.drop 93 = dktX2_rule_4 := dk_seg dksX2_rule_3 24 rfl rfl
theorem dksX2_rule_5 : cX2_rule.data.toList.drop 117 = dktX2_rule_5 := dk_seg dksX2_rule_4 24 rfl rfl
theorem dX2_rule_0 : decode cX2_rule 0 = .ok (.aload_n 0, 1) := dk_42 (dk_at dksX2_rule_0 0 rfl rfl)
theorem dX2_rule_1 : decode cX2_rule 1 = .ok (.iconst 0, 1) := dk_3 (dk_at dksX2_rule_0 1 rfl rfl)
theorem dX2_rule_2 : decode cX2_rule 2 = .ok (.putfield 178, 3) := dk_181 0 178 (dk_at dksX2_rule_0 2 rfl rfl)
theorem dX2_rule_5 : decode cX2_rule 5 = .ok (.aload_n 0, 1) := dk_42 (dk_at dksX2_rule_0 5 rfl rfl)
theorem dX2_rule_6 : decode cX2_rule 6 = .ok (.iconst 0, 1) := dk_3 (dk_at dksX2_rule_0 6 rfl rfl)
theorem dX2_rule_7 : decode cX2_rule 7 = .ok (.putfield 181, 3) := dk_181 0 181 (dk_at dksX2_rule_0 7 rfl rfl)
theorem dX2_rule_10 : decode cX2_rule 10 = .ok (.aload_n 0, 1) := dk_42 (dk_at dksX2_rule_0 10 rfl rfl)
theorem dX2_rule_11 : decode cX2_rule 11 = .ok (.iconst 0, 1) := dk_3 (dk_at dksX2_rule_0 11 rfl rfl)
theorem dX2_rule_12 : decode cX2_rule 12 = .ok (.invokevirtual 184, 3) := dk_182 0 184 (dk_at dksX2_rule_0 12 rfl rfl)
theorem dX2_rule_15 : decode cX2_rule 15 = .ok (.astore_n 1, 1) := dk_76 (dk_at dksX2_rule_0 15 rfl rfl)
theorem dX2_rule_16 : decode cX2_rule 16 = .ok (.new 188, 3) := dk_187 0 188 (dk_at dksX2_rule_0 16 rfl rfl)
theorem dX2_rule_19 : decode cX2_rule 19 = .ok (.dup, 1) := dk_89 (dk_at dksX2_rule_0 19 rfl rfl)
theorem dX2_rule_20 : decode cX2_rule 20 = .ok (.aload_n 1, 1) := dk_43 (dk_at dksX2_rule_0 20 rfl rfl)
theorem dX2_rule_21 : decode cX2_rule 21 = .ok (.aload_n 0, 1) := dk_42 (dk_at dksX2_rule_0 21 rfl rfl)
theorem dX2_rule_22 : decode cX2_rule 22 = .ok (.getfield 178, 3) := dk_180 0 178 (dk_at dksX2_rule_1 0 rfl rfl)
theorem dX2_rule_25 : decode cX2_rule 25 = .ok (.invokespecial 190, 3) := dk_183 0 190 (dk_at dksX2_rule_1 3 rfl rfl)
theorem dX2_rule_28 : decode cX2_rule 28 = .ok (.astore_n 2, 1) := dk_77 (dk_at dksX2_rule_1 6 rfl rfl)
theorem dX2_rule_29 : decode cX2_rule 29 = .ok (.aload_n 0, 1) := dk_42 (dk_at dksX2_rule_1 7 rfl rfl)
theorem dX2_rule_30 : decode cX2_rule 30 = .ok (.ldc 193, 2) := dk_18 193 (dk_at dksX2_rule_1 8 rfl rfl)
theorem dX2_rule_32 : decode cX2_rule 32 = .ok (.invokevirtual 30, 3) := dk_182 0 30 (dk_at dksX2_rule_1 10 rfl rfl)
theorem dX2_rule_35 : decode cX2_rule 35 = .ok (.aload_n 0, 1) := dk_42 (dk_at dksX2_rule_1 13 rfl rfl)
theorem dX2_rule_36 : decode cX2_rule 36 = .ok (.ldc 195, 2) := dk_18 195 (dk_at dksX2_rule_1 14 rfl rfl)
theorem dX2_rule_38 : decode cX2_rule 38 = .ok (.invokevirtual 138, 3) := dk_182 0 138 (dk_at dksX2_rule_1 16 rfl rfl)
theorem dX2_rule_41 : decode cX2_rule 41 = .ok (.ifCond .eq 10, 3) := dk_153 0 10 (dk_at dksX2_rule_1 19 rfl rfl)
theorem dX2_rule_44 : decode cX2_rule 44 = .ok (.aload_n 0, 1) := dk_42 (dk_at dksX2_rule_1 22 rfl rfl)
theorem dX2_rule_45 : decode cX2_rule 45 = .ok (.invokevirtual 25, 3) := dk_182 0 25 (dk_at dksX2_rule_2 0 rfl rfl)
theorem dX2_rule_48 : decode cX2_rule 48 = .ok (.goto 8, 3) := dk_167 0 8 (dk_at dksX2_rule_2 3 rfl rfl)
theorem dX2_rule_51 : decode cX2_rule 51 = .ok (.aload_n 0, 1) := dk_42 (dk_at dksX2_rule_2 6 rfl rfl)
theorem dX2_rule_52 : decode cX2_rule 52 = .ok (.aload_n 2, 1) := dk_44 (dk_at dksX2_rule_2 7 rfl rfl)
theorem dX2_rule_53 : decode cX2_rule 53 = .ok (.invokevirtual 197, 3) := dk_182 0 197 (dk_at dksX2_rule_2 8 rfl rfl)
theorem dX2_rule_56 : decode cX2_rule 56 = .ok (.aload_n 0, 1) := dk_42 (dk_at dksX2_rule_2 11 rfl rfl)
theorem dX2_rule_57 : decode cX2_rule 57 = .ok (.ldc 201, 2) := dk_18 201 (dk_at dksX2_rule_2 12 rfl rfl)
theorem dX2_rule_59 : decode cX2_rule 59 = .ok (.invokevirtual 138, 3) := dk_182 0 138 (dk_at dksX2_rule_2 14 rfl rfl)
theorem dX2_rule_62 : decode cX2_rule 62 = .ok (.ifCond .eq 58, 3) := dk_153 0 58 (dk_at dksX2_rule_2 17 rfl rfl)
theorem dX2_rule_65 : decode cX2_rule 65 = .ok (.aload_n 0, 1) := dk_42 (dk_at dksX2_rule_2 20 rfl rfl)
theorem dX2_rule_66 : decode cX2_rule 66 = .ok (.invokevirtual 25, 3) := dk_182 0 25 (dk_at dksX2_rule_2 21 rfl rfl)
theorem dX2_rule_69 : decode cX2_rule 69 = .ok (.aload_n 2, 1) := dk_44 (dk_at dksX2_rule_3 0 rfl rfl)
theorem dX2_rule_70 : decode cX2_rule 70 = .ok (.getfield 203, 3) := dk_180 0 203 (dk_at dksX2_rule_3 1 rfl rfl)
theorem dX2_rule_73 : decode cX2_rule 73 = .ok (.ifCond .eq 13, 3) := dk_153 0 13 (dk_at dksX2_rule_3 4 rfl rfl)
theorem dX2_rule_76 : decode cX2_rule 76 = .ok (.aload_n 0, 1) := dk_42 (dk_at dksX2_rule_3 7 rfl rfl)
theorem dX2_rule_77 : decode cX2_rule 77 = .ok (.getfield 33, 3) := dk_180 0 33 (dk_at dksX2_rule_3 8 rfl rfl)
theorem dX2_rule_80 : decode cX2_rule 80 = .ok (.getstatic 37, 3) := dk_178 0 37 (dk_at dksX2_rule_3 11 rfl rfl)
theorem dX2_rule_83 : decode cX2_rule 83 = .ok (.if_acmp .ne 37, 3) := dk_166 0 37 (dk_at dksX2_rule_3 14 rfl rfl)
theorem dX2_rule_86 : decode cX2_rule 86 = .ok (.aload_n 2, 1) := dk_44 (dk_at dksX2_rule_3 17 rfl rfl)
theorem dX2_rule_87 : decode cX2_rule 87 = .ok (.dup, 1) := dk_89 (dk_at dksX2_rule_3 18 rfl rfl)
theorem dX2_rule_88 : decode cX2_rule 88 = .ok (.getfield 203, 3) := dk_180 0 203 (dk_at dksX2_rule_3 19 rfl rfl)
theorem dX2_rule_91 : decode cX2_rule 91 = .ok (.iconst 1, 1) := dk_4 (dk_at dksX2_rule_3 22 rfl rfl)
theorem dX2_rule_92 : decode cX2_rule 92 = .ok (.aload_n 0, 1) := dk_42 (dk_at dksX2_rule_3 23 rfl rfl)
theorem dX2_rule_93 : decode cX2_rule 93 = .ok (.aload_n 2, 1) := dk_44 (dk_at dksX2_rule_4 0 rfl rfl)
theorem dX2_rule_94 : decode cX2_rule 94 = .ok (.getfield 203, 3) := dk_180 0 203 (dk_at dksX2_rule_4 1 rfl rfl)
theorem dX2_rule_97 : decode cX2_rule 97 = .ok (.aload_n 0, 1) := dk_42 (dk_at dksX2_rule_4 4 rfl rfl)
theorem dX2_rule_98 : decode cX2_rule 98 = .ok (.getfield 76, 3) := dk_180 0 76 (dk_at dksX2_rule_4 5 rfl rfl)
theorem dX2_rule_101 : decode cX2_rule 101 = .ok (.getfield 169, 3) := dk_180 0 169 (dk_at dksX2_rule_4 8 rfl rfl)
theorem dX2_rule_104 : decode cX2_rule 104 = .ok (.invokevirtual 173, 3) := dk_182 0 173 (dk_at dksX2_rule_4 11 rfl rfl)
theorem dX2_rule_107 : decode cX2_rule 107 = .ok (.iconst 1, 1) := dk_4 (dk_at dksX2_rule_4 14 rfl rfl)
theorem dX2_rule_108 : decode cX2_rule 108 = .ok (.isub, 1) := dk_100 (dk_at dksX2_rule_4 15 rfl rfl)
theorem dX2_rule_109 : decode cX2_rule 109 = .ok (.invokevirtual 205, 3) := dk_182 0 205 (dk_at dksX2_rule_4 16 rfl rfl)
theorem dX2_rule_112 : decode cX2_rule 112 = .ok (.ishl, 1) := dk_120 (dk_at dksX2_rule_4 19 rfl rfl)
theorem dX2_rule_113 : decode cX2_rule 113 = .ok (.ior, 1) := dk_128 (dk_at dksX2_rule_4 20 rfl rfl)
theorem dX2_rule_114 : decode cX2_rule 114 = .ok (.putfield 203, 3) := dk_181 0 203 (dk_at dksX2_rule_4 21 rfl rfl)
theorem dX2_rule_117 : decode cX2_rule 117 = .ok (.goto (-48), 3) := dk_167 255 208 (dk_at dksX2_rule_5 0 rfl rfl)
theorem dX2_rule_120 : decode cX2_rule 120 = .ok (.aload_n 0, 1) := dk_42 (dk_at dksX2_rule_5 3 rfl rfl)
theorem dX2_rule_121 : decode cX2_rule 121 = .ok (.getfield 76, 3) := dk_180 0 76 (dk_at dksX2_rule_5 4 rfl rfl)
theorem dX2_rule_124 : decode cX2_rule 124 = .ok (.getfield 169, 3) := dk_180 0 169 (dk_at dksX2_rule_5 7 rfl rfl)
theorem dX2_rule_127 : decode cX2_rule 127 = .ok (.aload_n 2, 1) := dk_44 (dk_at dksX2_rule_5 10 rfl rfl)
theorem dX2_rule_128 : decode cX2_rule 128 = .ok (.invokevirtual 208, 3) := dk_182 0 208 (dk_at dksX2_rule_5 11 rfl rfl)
theorem dX2_rule_131 : decode cX2_rule 131 = .ok (.pop, 1) := dk_87 (dk_at dksX2_rule_5 14 rfl rfl)
theorem dX2_rule_132 : decode cX2_rule 132 = .ok (.return_, 1) := dk_177 (dk_at dksX2_rule_5 15 rfl rfl)
abbrev cX2_guard : ByteArray := prog_12_method_17_code
def yX2_guard : MethodName := ⟨RX2, "guard", "(I)LHeirCases$Guard;"⟩
def dkwX2_guard_2 : List UInt8 := [182, 0, 25, 45, 180, 0, 225, 42, 27, 182, 0, 215, 182, 0, 208, 87, 167, 255, 230, 45, 176]
abbrev dktX2_guard_2 : List UInt8 := dkwX2_guard_2 ++ []
def dkwX2_guard_1 : List UInt8 := [183, 0, 222, 78, 45, 180, 0, 225, 44, 182, 0, 208, 87, 42, 18, 218, 182, 0, 138, 153, 0, 23, 42]
abbrev dktX2_guard_1 : List UInt8 := dkwX2_guard_1 ++ dktX2_guard_2
def dkwX2_guard_0 : List UInt8 := [42, 27, 182, 0, 215, 77, 42, 18, 218, 182, 0, 138, 154, 0, 5, 44, 176, 187, 0, 220, 89, 3]
abbrev dktX2_guard_0 : List UInt8 := dkwX2_guard_0 ++ dktX2_guard_1
theorem dksX2_guard_0 : cX2_guard.data.toList.drop 0 = dktX2_guard_0 := by decide +kernel
theorem dksX2_guard_1 : cX2_guard.data.toList.drop 22 = dktX2_guard_1 := dk_seg dksX2_guard_0 22 rfl rfl
theorem dksX2_guard_2 : cX2_guard.data.toList.drop 45 = dktX2_guard_2 := dk_seg dksX2_guard_1 23 rfl rfl
theorem dX2_guard_0 : decode cX2_guard 0 = .ok (.aload_n 0, 1) := dk_42 (dk_at dksX2_guard_0 0 rfl rfl)
theorem dX2_guard_1 : decode cX2_guard 1 = .ok (.iload_n 1, 1) := dk_27 (dk_at dksX2_guard_0 1 rfl rfl)
theorem dX2_guard_2 : decode cX2_guard 2 = .ok (.invokevirtual 215, 3) := dk_182 0 215 (dk_at dksX2_guard_0 2 rfl rfl)
theorem dX2_guard_5 : decode cX2_guard 5 = .ok (.astore_n 2, 1) := dk_77 (dk_at dksX2_guard_0 5 rfl rfl)
theorem dX2_guard_6 : decode cX2_guard 6 = .ok (.aload_n 0, 1) := dk_42 (dk_at dksX2_guard_0 6 rfl rfl)
theorem dX2_guard_7 : decode cX2_guard 7 = .ok (.ldc 218, 2) := dk_18 218 (dk_at dksX2_guard_0 7 rfl rfl)
theorem dX2_guard_9 : decode cX2_guard 9 = .ok (.invokevirtual 138, 3) := dk_182 0 138 (dk_at dksX2_guard_0 9 rfl rfl)
theorem dX2_guard_12 : decode cX2_guard 12 = .ok (.ifCond .ne 5, 3) := dk_154 0 5 (dk_at dksX2_guard_0 12 rfl rfl)
theorem dX2_guard_15 : decode cX2_guard 15 = .ok (.aload_n 2, 1) := dk_44 (dk_at dksX2_guard_0 15 rfl rfl)
theorem dX2_guard_16 : decode cX2_guard 16 = .ok (.areturn, 1) := dk_176 (dk_at dksX2_guard_0 16 rfl rfl)
theorem dX2_guard_17 : decode cX2_guard 17 = .ok (.new 220, 3) := dk_187 0 220 (dk_at dksX2_guard_0 17 rfl rfl)
theorem dX2_guard_20 : decode cX2_guard 20 = .ok (.dup, 1) := dk_89 (dk_at dksX2_guard_0 20 rfl rfl)
theorem dX2_guard_21 : decode cX2_guard 21 = .ok (.iconst 0, 1) := dk_3 (dk_at dksX2_guard_0 21 rfl rfl)
theorem dX2_guard_22 : decode cX2_guard 22 = .ok (.invokespecial 222, 3) := dk_183 0 222 (dk_at dksX2_guard_1 0 rfl rfl)
theorem dX2_guard_25 : decode cX2_guard 25 = .ok (.astore_n 3, 1) := dk_78 (dk_at dksX2_guard_1 3 rfl rfl)
theorem dX2_guard_26 : decode cX2_guard 26 = .ok (.aload_n 3, 1) := dk_45 (dk_at dksX2_guard_1 4 rfl rfl)
theorem dX2_guard_27 : decode cX2_guard 27 = .ok (.getfield 225, 3) := dk_180 0 225 (dk_at dksX2_guard_1 5 rfl rfl)
theorem dX2_guard_30 : decode cX2_guard 30 = .ok (.aload_n 2, 1) := dk_44 (dk_at dksX2_guard_1 8 rfl rfl)
theorem dX2_guard_31 : decode cX2_guard 31 = .ok (.invokevirtual 208, 3) := dk_182 0 208 (dk_at dksX2_guard_1 9 rfl rfl)
theorem dX2_guard_34 : decode cX2_guard 34 = .ok (.pop, 1) := dk_87 (dk_at dksX2_guard_1 12 rfl rfl)
theorem dX2_guard_35 : decode cX2_guard 35 = .ok (.aload_n 0, 1) := dk_42 (dk_at dksX2_guard_1 13 rfl rfl)
theorem dX2_guard_36 : decode cX2_guard 36 = .ok (.ldc 218, 2) := dk_18 218 (dk_at dksX2_guard_1 14 rfl rfl)
theorem dX2_guard_38 : decode cX2_guard 38 = .ok (.invokevirtual 138, 3) := dk_182 0 138 (dk_at dksX2_guard_1 16 rfl rfl)
theorem dX2_guard_41 : decode cX2_guard 41 = .ok (.ifCond .eq 23, 3) := dk_153 0 23 (dk_at dksX2_guard_1 19 rfl rfl)
theorem dX2_guard_44 : decode cX2_guard 44 = .ok (.aload_n 0, 1) := dk_42 (dk_at dksX2_guard_1 22 rfl rfl)
theorem dX2_guard_45 : decode cX2_guard 45 = .ok (.invokevirtual 25, 3) := dk_182 0 25 (dk_at dksX2_guard_2 0 rfl rfl)
theorem dX2_guard_48 : decode cX2_guard 48 = .ok (.aload_n 3, 1) := dk_45 (dk_at dksX2_guard_2 3 rfl rfl)
theorem dX2_guard_49 : decode cX2_guard 49 = .ok (.getfield 225, 3) := dk_180 0 225 (dk_at dksX2_guard_2 4 rfl rfl)
theorem dX2_guard_52 : decode cX2_guard 52 = .ok (.aload_n 0, 1) := dk_42 (dk_at dksX2_guard_2 7 rfl rfl)
theorem dX2_guard_53 : decode cX2_guard 53 = .ok (.iload_n 1, 1) := dk_27 (dk_at dksX2_guard_2 8 rfl rfl)
theorem dX2_guard_54 : decode cX2_guard 54 = .ok (.invokevirtual 215, 3) := dk_182 0 215 (dk_at dksX2_guard_2 9 rfl rfl)
theorem dX2_guard_57 : decode cX2_guard 57 = .ok (.invokevirtual 208, 3) := dk_182 0 208 (dk_at dksX2_guard_2 12 rfl rfl)
theorem dX2_guard_60 : decode cX2_guard 60 = .ok (.pop, 1) := dk_87 (dk_at dksX2_guard_2 15 rfl rfl)
theorem dX2_guard_61 : decode cX2_guard 61 = .ok (.goto (-26), 3) := dk_167 255 230 (dk_at dksX2_guard_2 16 rfl rfl)
theorem dX2_guard_64 : decode cX2_guard 64 = .ok (.aload_n 3, 1) := dk_45 (dk_at dksX2_guard_2 19 rfl rfl)
theorem dX2_guard_65 : decode cX2_guard 65 = .ok (.areturn, 1) := dk_176 (dk_at dksX2_guard_2 20 rfl rfl)
abbrev cX2_term : ByteArray := prog_12_method_18_code
def yX2_term : MethodName := ⟨RX2, "term", "(I)LHeirCases$Guard;"⟩
def dkwX2_term_2 : List UInt8 := [182, 0, 25, 45, 180, 0, 225, 42, 27, 182, 0, 227, 182, 0, 208, 87, 167, 255, 230, 45, 176]
abbrev dktX2_term_2 : List UInt8 := dkwX2_term_2 ++ []
def dkwX2_term_1 : List UInt8 := [183, 0, 222, 78, 45, 180, 0, 225, 44, 182, 0, 208, 87, 42, 18, 230, 182, 0, 138, 153, 0, 23, 42]
abbrev dktX2_term_1 : List UInt8 := dkwX2_term_1 ++ dktX2_term_2
def dkwX2_term_0 : List UInt8 := [42, 27, 182, 0, 227, 77, 42, 18, 230, 182, 0, 138, 154, 0, 5, 44, 176, 187, 0, 220, 89, 4]
abbrev dktX2_term_0 : List UInt8 := dkwX2_term_0 ++ dktX2_term_1
theorem dksX2_term_0 : cX2_term.data.toList.drop 0 = dktX2_term_0 := by decide +kernel
theorem dksX2_term_1 : cX2_term.data.toList.drop 22 = dktX2_term_1 := dk_seg dksX2_term_0 22 rfl rfl
theorem dksX2_term_2 : cX2_term.data.toList.drop 45 = dktX2_term_2 := dk_seg dksX2_term_1 23 rfl rfl
theorem dX2_term_0 : decode cX2_term 0 = .ok (.aload_n 0, 1) := dk_42 (dk_at dksX2_term_0 0 rfl rfl)
theorem dX2_term_1 : decode cX2_term 1 = .ok (.iload_n 1, 1) := dk_27 (dk_at dksX2_term_0 1 rfl rfl)
theorem dX2_term_2 : decode cX2_term 2 = .ok (.invokevirtual 227, 3) := dk_182 0 227 (dk_at dksX2_term_0 2 rfl rfl)
theorem dX2_term_5 : decode cX2_term 5 = .ok (.astore_n 2, 1) := dk_77 (dk_at dksX2_term_0 5 rfl rfl)
theorem dX2_term_6 : decode cX2_term 6 = .ok (.aload_n 0, 1) := dk_42 (dk_at dksX2_term_0 6 rfl rfl)
theorem dX2_term_7 : decode cX2_term 7 = .ok (.ldc 230, 2) := dk_18 230 (dk_at dksX2_term_0 7 rfl rfl)
theorem dX2_term_9 : decode cX2_term 9 = .ok (.invokevirtual 138, 3) := dk_182 0 138 (dk_at dksX2_term_0 9 rfl rfl)
theorem dX2_term_12 : decode cX2_term 12 = .ok (.ifCond .ne 5, 3) := dk_154 0 5 (dk_at dksX2_term_0 12 rfl rfl)
theorem dX2_term_15 : decode cX2_term 15 = .ok (.aload_n 2, 1) := dk_44 (dk_at dksX2_term_0 15 rfl rfl)
theorem dX2_term_16 : decode cX2_term 16 = .ok (.areturn, 1) := dk_176 (dk_at dksX2_term_0 16 rfl rfl)
theorem dX2_term_17 : decode cX2_term 17 = .ok (.new 220, 3) := dk_187 0 220 (dk_at dksX2_term_0 17 rfl rfl)
theorem dX2_term_20 : decode cX2_term 20 = .ok (.dup, 1) := dk_89 (dk_at dksX2_term_0 20 rfl rfl)
theorem dX2_term_21 : decode cX2_term 21 = .ok (.iconst 1, 1) := dk_4 (dk_at dksX2_term_0 21 rfl rfl)
theorem dX2_term_22 : decode cX2_term 22 = .ok (.invokespecial 222, 3) := dk_183 0 222 (dk_at dksX2_term_1 0 rfl rfl)
theorem dX2_term_25 : decode cX2_term 25 = .ok (.astore_n 3, 1) := dk_78 (dk_at dksX2_term_1 3 rfl rfl)
theorem dX2_term_26 : decode cX2_term 26 = .ok (.aload_n 3, 1) := dk_45 (dk_at dksX2_term_1 4 rfl rfl)
theorem dX2_term_27 : decode cX2_term 27 = .ok (.getfield 225, 3) := dk_180 0 225 (dk_at dksX2_term_1 5 rfl rfl)
theorem dX2_term_30 : decode cX2_term 30 = .ok (.aload_n 2, 1) := dk_44 (dk_at dksX2_term_1 8 rfl rfl)
theorem dX2_term_31 : decode cX2_term 31 = .ok (.invokevirtual 208, 3) := dk_182 0 208 (dk_at dksX2_term_1 9 rfl rfl)
theorem dX2_term_34 : decode cX2_term 34 = .ok (.pop, 1) := dk_87 (dk_at dksX2_term_1 12 rfl rfl)
theorem dX2_term_35 : decode cX2_term 35 = .ok (.aload_n 0, 1) := dk_42 (dk_at dksX2_term_1 13 rfl rfl)
theorem dX2_term_36 : decode cX2_term 36 = .ok (.ldc 230, 2) := dk_18 230 (dk_at dksX2_term_1 14 rfl rfl)
theorem dX2_term_38 : decode cX2_term 38 = .ok (.invokevirtual 138, 3) := dk_182 0 138 (dk_at dksX2_term_1 16 rfl rfl)
theorem dX2_term_41 : decode cX2_term 41 = .ok (.ifCond .eq 23, 3) := dk_153 0 23 (dk_at dksX2_term_1 19 rfl rfl)
theorem dX2_term_44 : decode cX2_term 44 = .ok (.aload_n 0, 1) := dk_42 (dk_at dksX2_term_1 22 rfl rfl)
theorem dX2_term_45 : decode cX2_term 45 = .ok (.invokevirtual 25, 3) := dk_182 0 25 (dk_at dksX2_term_2 0 rfl rfl)
theorem dX2_term_48 : decode cX2_term 48 = .ok (.aload_n 3, 1) := dk_45 (dk_at dksX2_term_2 3 rfl rfl)
theorem dX2_term_49 : decode cX2_term 49 = .ok (.getfield 225, 3) := dk_180 0 225 (dk_at dksX2_term_2 4 rfl rfl)
theorem dX2_term_52 : decode cX2_term 52 = .ok (.aload_n 0, 1) := dk_42 (dk_at dksX2_term_2 7 rfl rfl)
theorem dX2_term_53 : decode cX2_term 53 = .ok (.iload_n 1, 1) := dk_27 (dk_at dksX2_term_2 8 rfl rfl)
theorem dX2_term_54 : decode cX2_term 54 = .ok (.invokevirtual 227, 3) := dk_182 0 227 (dk_at dksX2_term_2 9 rfl rfl)
theorem dX2_term_57 : decode cX2_term 57 = .ok (.invokevirtual 208, 3) := dk_182 0 208 (dk_at dksX2_term_2 12 rfl rfl)
theorem dX2_term_60 : decode cX2_term 60 = .ok (.pop, 1) := dk_87 (dk_at dksX2_term_2 15 rfl rfl)
theorem dX2_term_61 : decode cX2_term 61 = .ok (.goto (-26), 3) := dk_167 255 230 (dk_at dksX2_term_2 16 rfl rfl)
theorem dX2_term_64 : decode cX2_term 64 = .ok (.aload_n 3, 1) := dk_45 (dk_at dksX2_term_2 19 rfl rfl)
theorem dX2_term_65 : decode cX2_term 65 = .ok (.areturn, 1) := dk_176 (dk_at dksX2_term_2 20 rfl rfl)
abbrev cX2_factor : ByteArray := prog_12_method_19_code
def yX2_factor : MethodName := ⟨RX2, "factor", "(I)LHeirCases$Guard;"⟩
def dkwX2_factor_4 : List UInt8 := [182, 0, 227, 184, 0, 234, 176, 42, 182, 0, 237, 176]
abbrev dktX2_factor_4 : List UInt8 := dkwX2_factor_4 ++ []
def dkwX2_factor_3 : List UInt8 := [180, 0, 48, 7, 183, 0, 51, 191, 42, 89, 180, 0, 181, 4, 96, 181, 0, 181, 42, 182, 0, 25, 42, 27]
abbrev dktX2_factor_3 : List UInt8 := dkwX2_factor_3 ++ dktX2_factor_4
def dkwX2_factor_2 : List UInt8 := [42, 18, 232, 182, 0, 138, 153, 0, 47, 42, 180, 0, 181, 8, 160, 0, 16, 187, 0, 46, 89, 42]
abbrev dktX2_factor_2 : List UInt8 := dkwX2_factor_2 ++ dktX2_factor_3
def dkwX2_factor_1 : List UInt8 := [183, 0, 51, 191, 42, 182, 0, 25, 42, 27, 4, 96, 182, 0, 184, 77, 42, 16, 41, 182, 0, 54, 44, 176]
abbrev dktX2_factor_1 : List UInt8 := dkwX2_factor_1 ++ dktX2_factor_2
def dkwX2_factor_0 : List UInt8 := [42, 16, 40, 182, 0, 142, 153, 0, 41, 27, 8, 160, 0, 16, 187, 0, 46, 89, 42, 180, 0, 48, 7]
abbrev dktX2_factor_0 : List UInt8 := dkwX2_factor_0 ++ dktX2_factor_1
theorem dksX2_factor_0 : cX2_factor.data.toList.drop 0 = dktX2_factor_0 := by decide +kernel
theorem dksX2_factor_1 : cX2_factor.data.toList.drop 23 = dktX2_factor_1 := dk_seg dksX2_factor_0 23 rfl rfl
theorem dksX2_factor_2 : cX2_factor.data.toList.drop 47 = dktX2_factor_2 := dk_seg dksX2_factor_1 24 rfl rfl
theorem dksX2_factor_3 : cX2_factor.data.toList.drop 69 = dktX2_factor_3 := dk_seg dksX2_factor_2 22 rfl rfl
theorem dksX2_factor_4 : cX2_factor.data.toList.drop 93 = dktX2_factor_4 := dk_seg dksX2_factor_3 24 rfl rfl
theorem dX2_factor_0 : decode cX2_factor 0 = .ok (.aload_n 0, 1) := dk_42 (dk_at dksX2_factor_0 0 rfl rfl)
theorem dX2_factor_1 : decode cX2_factor 1 = .ok (.bipush 40, 2) := dk_16 40 (dk_at dksX2_factor_0 1 rfl rfl)
theorem dX2_factor_3 : decode cX2_factor 3 = .ok (.invokevirtual 142, 3) := dk_182 0 142 (dk_at dksX2_factor_0 3 rfl rfl)
theorem dX2_factor_6 : decode cX2_factor 6 = .ok (.ifCond .eq 41, 3) := dk_153 0 41 (dk_at dksX2_factor_0 6 rfl rfl)
theorem dX2_factor_9 : decode cX2_factor 9 = .ok (.iload_n 1, 1) := dk_27 (dk_at dksX2_factor_0 9 rfl rfl)
theorem dX2_factor_10 : decode cX2_factor 10 = .ok (.iconst 5, 1) := dk_8 (dk_at dksX2_factor_0 10 rfl rfl)
theorem dX2_factor_11 : decode cX2_factor 11 = .ok (.if_icmp .ne 16, 3) := dk_160 0 16 (dk_at dksX2_factor_0 11 rfl rfl)
theorem dX2_factor_14 : decode cX2_factor 14 = .ok (.new 46, 3) := dk_187 0 46 (dk_at dksX2_factor_0 14 rfl rfl)
theorem dX2_factor_17 : decode cX2_factor 17 = .ok (.dup, 1) := dk_89 (dk_at dksX2_factor_0 17 rfl rfl)
theorem dX2_factor_18 : decode cX2_factor 18 = .ok (.aload_n 0, 1) := dk_42 (dk_at dksX2_factor_0 18 rfl rfl)
theorem dX2_factor_19 : decode cX2_factor 19 = .ok (.getfield 48, 3) := dk_180 0 48 (dk_at dksX2_factor_0 19 rfl rfl)
theorem dX2_factor_22 : decode cX2_factor 22 = .ok (.iconst 4, 1) := dk_7 (dk_at dksX2_factor_0 22 rfl rfl)
theorem dX2_factor_23 : decode cX2_factor 23 = .ok (.invokespecial 51, 3) := dk_183 0 51 (dk_at dksX2_factor_1 0 rfl rfl)
theorem dX2_factor_26 : decode cX2_factor 26 = .ok (.athrow, 1) := dk_191 (dk_at dksX2_factor_1 3 rfl rfl)
theorem dX2_factor_27 : decode cX2_factor 27 = .ok (.aload_n 0, 1) := dk_42 (dk_at dksX2_factor_1 4 rfl rfl)
theorem dX2_factor_28 : decode cX2_factor 28 = .ok (.invokevirtual 25, 3) := dk_182 0 25 (dk_at dksX2_factor_1 5 rfl rfl)
theorem dX2_factor_31 : decode cX2_factor 31 = .ok (.aload_n 0, 1) := dk_42 (dk_at dksX2_factor_1 8 rfl rfl)
theorem dX2_factor_32 : decode cX2_factor 32 = .ok (.iload_n 1, 1) := dk_27 (dk_at dksX2_factor_1 9 rfl rfl)
theorem dX2_factor_33 : decode cX2_factor 33 = .ok (.iconst 1, 1) := dk_4 (dk_at dksX2_factor_1 10 rfl rfl)
theorem dX2_factor_34 : decode cX2_factor 34 = .ok (.iadd, 1) := dk_96 (dk_at dksX2_factor_1 11 rfl rfl)
theorem dX2_factor_35 : decode cX2_factor 35 = .ok (.invokevirtual 184, 3) := dk_182 0 184 (dk_at dksX2_factor_1 12 rfl rfl)
theorem dX2_factor_38 : decode cX2_factor 38 = .ok (.astore_n 2, 1) := dk_77 (dk_at dksX2_factor_1 15 rfl rfl)
theorem dX2_factor_39 : decode cX2_factor 39 = .ok (.aload_n 0, 1) := dk_42 (dk_at dksX2_factor_1 16 rfl rfl)
theorem dX2_factor_40 : decode cX2_factor 40 = .ok (.bipush 41, 2) := dk_16 41 (dk_at dksX2_factor_1 17 rfl rfl)
theorem dX2_factor_42 : decode cX2_factor 42 = .ok (.invokevirtual 54, 3) := dk_182 0 54 (dk_at dksX2_factor_1 19 rfl rfl)
theorem dX2_factor_45 : decode cX2_factor 45 = .ok (.aload_n 2, 1) := dk_44 (dk_at dksX2_factor_1 22 rfl rfl)
theorem dX2_factor_46 : decode cX2_factor 46 = .ok (.areturn, 1) := dk_176 (dk_at dksX2_factor_1 23 rfl rfl)
theorem dX2_factor_47 : decode cX2_factor 47 = .ok (.aload_n 0, 1) := dk_42 (dk_at dksX2_factor_2 0 rfl rfl)
theorem dX2_factor_48 : decode cX2_factor 48 = .ok (.ldc 232, 2) := dk_18 232 (dk_at dksX2_factor_2 1 rfl rfl)
theorem dX2_factor_50 : decode cX2_factor 50 = .ok (.invokevirtual 138, 3) := dk_182 0 138 (dk_at dksX2_factor_2 3 rfl rfl)
theorem dX2_factor_53 : decode cX2_factor 53 = .ok (.ifCond .eq 47, 3) := dk_153 0 47 (dk_at dksX2_factor_2 6 rfl rfl)
theorem dX2_factor_56 : decode cX2_factor 56 = .ok (.aload_n 0, 1) := dk_42 (dk_at dksX2_factor_2 9 rfl rfl)
theorem dX2_factor_57 : decode cX2_factor 57 = .ok (.getfield 181, 3) := dk_180 0 181 (dk_at dksX2_factor_2 10 rfl rfl)
theorem dX2_factor_60 : decode cX2_factor 60 = .ok (.iconst 5, 1) := dk_8 (dk_at dksX2_factor_2 13 rfl rfl)
theorem dX2_factor_61 : decode cX2_factor 61 = .ok (.if_icmp .ne 16, 3) := dk_160 0 16 (dk_at dksX2_factor_2 14 rfl rfl)
theorem dX2_factor_64 : decode cX2_factor 64 = .ok (.new 46, 3) := dk_187 0 46 (dk_at dksX2_factor_2 17 rfl rfl)
theorem dX2_factor_67 : decode cX2_factor 67 = .ok (.dup, 1) := dk_89 (dk_at dksX2_factor_2 20 rfl rfl)
theorem dX2_factor_68 : decode cX2_factor 68 = .ok (.aload_n 0, 1) := dk_42 (dk_at dksX2_factor_2 21 rfl rfl)
theorem dX2_factor_69 : decode cX2_factor 69 = .ok (.getfield 48, 3) := dk_180 0 48 (dk_at dksX2_factor_3 0 rfl rfl)
theorem dX2_factor_72 : decode cX2_factor 72 = .ok (.iconst 4, 1) := dk_7 (dk_at dksX2_factor_3 3 rfl rfl)
theorem dX2_factor_73 : decode cX2_factor 73 = .ok (.invokespecial 51, 3) := dk_183 0 51 (dk_at dksX2_factor_3 4 rfl rfl)
theorem dX2_factor_76 : decode cX2_factor 76 = .ok (.athrow, 1) := dk_191 (dk_at dksX2_factor_3 7 rfl rfl)
theorem dX2_factor_77 : decode cX2_factor 77 = .ok (.aload_n 0, 1) := dk_42 (dk_at dksX2_factor_3 8 rfl rfl)
theorem dX2_factor_78 : decode cX2_factor 78 = .ok (.dup, 1) := dk_89 (dk_at dksX2_factor_3 9 rfl rfl)
theorem dX2_factor_79 : decode cX2_factor 79 = .ok (.getfield 181, 3) := dk_180 0 181 (dk_at dksX2_factor_3 10 rfl rfl)
theorem dX2_factor_82 : decode cX2_factor 82 = .ok (.iconst 1, 1) := dk_4 (dk_at dksX2_factor_3 13 rfl rfl)
theorem dX2_factor_83 : decode cX2_factor 83 = .ok (.iadd, 1) := dk_96 (dk_at dksX2_factor_3 14 rfl rfl)
theorem dX2_factor_84 : decode cX2_factor 84 = .ok (.putfield 181, 3) := dk_181 0 181 (dk_at dksX2_factor_3 15 rfl rfl)
theorem dX2_factor_87 : decode cX2_factor 87 = .ok (.aload_n 0, 1) := dk_42 (dk_at dksX2_factor_3 18 rfl rfl)
theorem dX2_factor_88 : decode cX2_factor 88 = .ok (.invokevirtual 25, 3) := dk_182 0 25 (dk_at dksX2_factor_3 19 rfl rfl)
theorem dX2_factor_91 : decode cX2_factor 91 = .ok (.aload_n 0, 1) := dk_42 (dk_at dksX2_factor_3 22 rfl rfl)
theorem dX2_factor_92 : decode cX2_factor 92 = .ok (.iload_n 1, 1) := dk_27 (dk_at dksX2_factor_3 23 rfl rfl)
theorem dX2_factor_93 : decode cX2_factor 93 = .ok (.invokevirtual 227, 3) := dk_182 0 227 (dk_at dksX2_factor_4 0 rfl rfl)
theorem dX2_factor_96 : decode cX2_factor 96 = .ok (.invokestatic 234, 3) := dk_184 0 234 (dk_at dksX2_factor_4 3 rfl rfl)
theorem dX2_factor_99 : decode cX2_factor 99 = .ok (.areturn, 1) := dk_176 (dk_at dksX2_factor_4 6 rfl rfl)
theorem dX2_factor_100 : decode cX2_factor 100 = .ok (.aload_n 0, 1) := dk_42 (dk_at dksX2_factor_4 7 rfl rfl)
theorem dX2_factor_101 : decode cX2_factor 101 = .ok (.invokevirtual 237, 3) := dk_182 0 237 (dk_at dksX2_factor_4 8 rfl rfl)
theorem dX2_factor_104 : decode cX2_factor 104 = .ok (.areturn, 1) := dk_176 (dk_at dksX2_factor_4 11 rfl rfl)
abbrev cX2_simple : ByteArray := prog_12_method_20_code
def yX2_simple : MethodName := ⟨RX2, "simple", "()LHeirCases$Guard;"⟩
def dkwX2_simple_8 : List UInt8 := [3, 42, 180, 0, 76, 180, 0, 247, 28, 46, 4, 100, 182, 0, 66, 183, 1, 0, 176]
abbrev dktX2_simple_8 : List UInt8 := dkwX2_simple_8 ++ []
def dkwX2_simple_7 : List UInt8 := [187, 0, 46, 89, 42, 180, 0, 48, 4, 183, 0, 51, 191, 42, 182, 0, 25, 187, 0, 254, 89, 28, 29, 42]
abbrev dktX2_simple_7 : List UInt8 := dkwX2_simple_7 ++ dktX2_simple_8
def dkwX2_simple_6 : List UInt8 := [180, 0, 48, 185, 0, 93, 2, 0, 167, 0, 5, 16, 59, 62, 18, 252, 29, 182, 0, 125, 156, 0, 16]
abbrev dktX2_simple_6 : List UInt8 := dkwX2_simple_6 ++ dktX2_simple_7
def dkwX2_simple_5 : List UInt8 := [153, 0, 7, 184, 0, 250, 176, 42, 180, 0, 33, 178, 0, 131, 166, 0, 19, 42, 180, 0, 17, 42]
abbrev dktX2_simple_5 : List UInt8 := dkwX2_simple_5 ++ dktX2_simple_6
def dkwX2_simple_4 : List UInt8 := [180, 0, 48, 7, 183, 0, 51, 191, 42, 89, 180, 0, 178, 4, 96, 181, 0, 178, 42, 182, 0, 25, 27]
abbrev dktX2_simple_4 : List UInt8 := dkwX2_simple_4 ++ dktX2_simple_5
def dkwX2_simple_3 : List UInt8 := [89, 42, 180, 0, 48, 4, 183, 0, 51, 191, 42, 180, 0, 178, 16, 12, 160, 0, 16, 187, 0, 46, 89, 42]
abbrev dktX2_simple_3 : List UInt8 := dkwX2_simple_3 ++ dktX2_simple_4
def dkwX2_simple_2 : List UInt8 := [180, 0, 247, 190, 61, 27, 154, 0, 28, 28, 42, 180, 0, 76, 180, 0, 247, 190, 161, 0, 16, 187, 0, 46]
abbrev dktX2_simple_2 : List UInt8 := dkwX2_simple_2 ++ dktX2_simple_3
def dkwX2_simple_1 : List UInt8 := [4, 160, 0, 17, 42, 180, 0, 11, 3, 182, 0, 246, 16, 97, 100, 167, 0, 11, 42, 180, 0, 76]
abbrev dktX2_simple_1 : List UInt8 := dkwX2_simple_1 ++ dktX2_simple_2
def dkwX2_simple_0 : List UInt8 := [42, 178, 0, 114, 182, 0, 89, 42, 180, 0, 11, 18, 241, 182, 0, 134, 60, 42, 180, 0, 11, 182, 0, 243]
abbrev dktX2_simple_0 : List UInt8 := dkwX2_simple_0 ++ dktX2_simple_1
theorem dksX2_simple_0 : cX2_simple.data.toList.drop 0 = dktX2_simple_0 := by decide +kernel
theorem dksX2_simple_1 : cX2_simple.data.toList.drop 24 = dktX2_simple_1 := dk_seg dksX2_simple_0 24 rfl rfl
theorem dksX2_simple_2 : cX2_simple.data.toList.drop 46 = dktX2_simple_2 := dk_seg dksX2_simple_1 22 rfl rfl
theorem dksX2_simple_3 : cX2_simple.data.toList.drop 70 = dktX2_simple_3 := dk_seg dksX2_simple_2 24 rfl rfl
theorem dksX2_simple_4 : cX2_simple.data.toList.drop 94 = dktX2_simple_4 := dk_seg dksX2_simple_3 24 rfl rfl
theorem dksX2_simple_5 : cX2_simple.data.toList.drop 117 = dktX2_simple_5 := dk_seg dksX2_simple_4 23 rfl rfl
theorem dksX2_simple_6 : cX2_simple.data.toList.drop 139 = dktX2_simple_6 := dk_seg dksX2_simple_5 22 rfl rfl
theorem dksX2_simple_7 : cX2_simple.data.toList.drop 162 = dktX2_simple_7 := dk_seg dksX2_simple_6 23 rfl rfl
theorem dksX2_simple_8 : cX2_simple.data.toList.drop 186 = dktX2_simple_8 := dk_seg dksX2_simple_7 24 rfl rfl
theorem dX2_simple_0 : decode cX2_simple 0 = .ok (.aload_n 0, 1) := dk_42 (dk_at dksX2_simple_0 0 rfl rfl)
theorem dX2_simple_1 : decode cX2_simple 1 = .ok (.getstatic 114, 3) := dk_178 0 114 (dk_at dksX2_simple_0 1 rfl rfl)
theorem dX2_simple_4 : decode cX2_simple 4 = .ok (.invokevirtual 89, 3) := dk_182 0 89 (dk_at dksX2_simple_0 4 rfl rfl)
theorem dX2_simple_7 : decode cX2_simple 7 = .ok (.aload_n 0, 1) := dk_42 (dk_at dksX2_simple_0 7 rfl rfl)
theorem dX2_simple_8 : decode cX2_simple 8 = .ok (.getfield 11, 3) := dk_180 0 11 (dk_at dksX2_simple_0 8 rfl rfl)
theorem dX2_simple_11 : decode cX2_simple 11 = .ok (.ldc 241, 2) := dk_18 241 (dk_at dksX2_simple_0 11 rfl rfl)
theorem dX2_simple_13 : decode cX2_simple 13 = .ok (.invokevirtual 134, 3) := dk_182 0 134 (dk_at dksX2_simple_0 13 rfl rfl)
theorem dX2_simple_16 : decode cX2_simple 16 = .ok (.istore_n 1, 1) := dk_60 (dk_at dksX2_simple_0 16 rfl rfl)
theorem dX2_simple_17 : decode cX2_simple 17 = .ok (.aload_n 0, 1) := dk_42 (dk_at dksX2_simple_0 17 rfl rfl)
theorem dX2_simple_18 : decode cX2_simple 18 = .ok (.getfield 11, 3) := dk_180 0 11 (dk_at dksX2_simple_0 18 rfl rfl)
theorem dX2_simple_21 : decode cX2_simple 21 = .ok (.invokevirtual 243, 3) := dk_182 0 243 (dk_at dksX2_simple_0 21 rfl rfl)
theorem dX2_simple_24 : decode cX2_simple 24 = .ok (.iconst 1, 1) := dk_4 (dk_at dksX2_simple_1 0 rfl rfl)
theorem dX2_simple_25 : decode cX2_simple 25 = .ok (.if_icmp .ne 17, 3) := dk_160 0 17 (dk_at dksX2_simple_1 1 rfl rfl)
theorem dX2_simple_28 : decode cX2_simple 28 = .ok (.aload_n 0, 1) := dk_42 (dk_at dksX2_simple_1 4 rfl rfl)
theorem dX2_simple_29 : decode cX2_simple 29 = .ok (.getfield 11, 3) := dk_180 0 11 (dk_at dksX2_simple_1 5 rfl rfl)
theorem dX2_simple_32 : decode cX2_simple 32 = .ok (.iconst 0, 1) := dk_3 (dk_at dksX2_simple_1 8 rfl rfl)
theorem dX2_simple_33 : decode cX2_simple 33 = .ok (.invokevirtual 246, 3) := dk_182 0 246 (dk_at dksX2_simple_1 9 rfl rfl)
theorem dX2_simple_36 : decode cX2_simple 36 = .ok (.bipush 97, 2) := dk_16 97 (dk_at dksX2_simple_1 12 rfl rfl)
theorem dX2_simple_38 : decode cX2_simple 38 = .ok (.isub, 1) := dk_100 (dk_at dksX2_simple_1 14 rfl rfl)
theorem dX2_simple_39 : decode cX2_simple 39 = .ok (.goto 11, 3) := dk_167 0 11 (dk_at dksX2_simple_1 15 rfl rfl)
theorem dX2_simple_42 : decode cX2_simple 42 = .ok (.aload_n 0, 1) := dk_42 (dk_at dksX2_simple_1 18 rfl rfl)
theorem dX2_simple_43 : decode cX2_simple 43 = .ok (.getfield 76, 3) := dk_180 0 76 (dk_at dksX2_simple_1 19 rfl rfl)
theorem dX2_simple_46 : decode cX2_simple 46 = .ok (.getfield 247, 3) := dk_180 0 247 (dk_at dksX2_simple_2 0 rfl rfl)
theorem dX2_simple_49 : decode cX2_simple 49 = .ok (.arraylength, 1) := dk_190 (dk_at dksX2_simple_2 3 rfl rfl)
theorem dX2_simple_50 : decode cX2_simple 50 = .ok (.istore_n 2, 1) := dk_61 (dk_at dksX2_simple_2 4 rfl rfl)
theorem dX2_simple_51 : decode cX2_simple 51 = .ok (.iload_n 1, 1) := dk_27 (dk_at dksX2_simple_2 5 rfl rfl)
theorem dX2_simple_52 : decode cX2_simple 52 = .ok (.ifCond .ne 28, 3) := dk_154 0 28 (dk_at dksX2_simple_2 6 rfl rfl)
theorem dX2_simple_55 : decode cX2_simple 55 = .ok (.iload_n 2, 1) := dk_28 (dk_at dksX2_simple_2 9 rfl rfl)
theorem dX2_simple_56 : decode cX2_simple 56 = .ok (.aload_n 0, 1) := dk_42 (dk_at dksX2_simple_2 10 rfl rfl)
theorem dX2_simple_57 : decode cX2_simple 57 = .ok (.getfield 76, 3) := dk_180 0 76 (dk_at dksX2_simple_2 11 rfl rfl)
theorem dX2_simple_60 : decode cX2_simple 60 = .ok (.getfield 247, 3) := dk_180 0 247 (dk_at dksX2_simple_2 14 rfl rfl)
theorem dX2_simple_63 : decode cX2_simple 63 = .ok (.arraylength, 1) := dk_190 (dk_at dksX2_simple_2 17 rfl rfl)
theorem dX2_simple_64 : decode cX2_simple 64 = .ok (.if_icmp .lt 16, 3) := dk_161 0 16 (dk_at dksX2_simple_2 18 rfl rfl)
theorem dX2_simple_67 : decode cX2_simple 67 = .ok (.new 46, 3) := dk_187 0 46 (dk_at dksX2_simple_2 21 rfl rfl)
theorem dX2_simple_70 : decode cX2_simple 70 = .ok (.dup, 1) := dk_89 (dk_at dksX2_simple_3 0 rfl rfl)
theorem dX2_simple_71 : decode cX2_simple 71 = .ok (.aload_n 0, 1) := dk_42 (dk_at dksX2_simple_3 1 rfl rfl)
theorem dX2_simple_72 : decode cX2_simple 72 = .ok (.getfield 48, 3) := dk_180 0 48 (dk_at dksX2_simple_3 2 rfl rfl)
theorem dX2_simple_75 : decode cX2_simple 75 = .ok (.iconst 1, 1) := dk_4 (dk_at dksX2_simple_3 5 rfl rfl)
theorem dX2_simple_76 : decode cX2_simple 76 = .ok (.invokespecial 51, 3) := dk_183 0 51 (dk_at dksX2_simple_3 6 rfl rfl)
theorem dX2_simple_79 : decode cX2_simple 79 = .ok (.athrow, 1) := dk_191 (dk_at dksX2_simple_3 9 rfl rfl)
theorem dX2_simple_80 : decode cX2_simple 80 = .ok (.aload_n 0, 1) := dk_42 (dk_at dksX2_simple_3 10 rfl rfl)
theorem dX2_simple_81 : decode cX2_simple 81 = .ok (.getfield 178, 3) := dk_180 0 178 (dk_at dksX2_simple_3 11 rfl rfl)
theorem dX2_simple_84 : decode cX2_simple 84 = .ok (.bipush 12, 2) := dk_16 12 (dk_at dksX2_simple_3 14 rfl rfl)
theorem dX2_simple_86 : decode cX2_simple 86 = .ok (.if_icmp .ne 16, 3) := dk_160 0 16 (dk_at dksX2_simple_3 16 rfl rfl)
theorem dX2_simple_89 : decode cX2_simple 89 = .ok (.new 46, 3) := dk_187 0 46 (dk_at dksX2_simple_3 19 rfl rfl)
theorem dX2_simple_92 : decode cX2_simple 92 = .ok (.dup, 1) := dk_89 (dk_at dksX2_simple_3 22 rfl rfl)
theorem dX2_simple_93 : decode cX2_simple 93 = .ok (.aload_n 0, 1) := dk_42 (dk_at dksX2_simple_3 23 rfl rfl)
theorem dX2_simple_94 : decode cX2_simple 94 = .ok (.getfield 48, 3) := dk_180 0 48 (dk_at dksX2_simple_4 0 rfl rfl)
theorem dX2_simple_97 : decode cX2_simple 97 = .ok (.iconst 4, 1) := dk_7 (dk_at dksX2_simple_4 3 rfl rfl)
theorem dX2_simple_98 : decode cX2_simple 98 = .ok (.invokespecial 51, 3) := dk_183 0 51 (dk_at dksX2_simple_4 4 rfl rfl)
theorem dX2_simple_101 : decode cX2_simple 101 = .ok (.athrow, 1) := dk_191 (dk_at dksX2_simple_4 7 rfl rfl)
theorem dX2_simple_102 : decode cX2_simple 102 = .ok (.aload_n 0, 1) := dk_42 (dk_at dksX2_simple_4 8 rfl rfl)
theorem dX2_simple_103 : decode cX2_simple 103 = .ok (.dup, 1) := dk_89 (dk_at dksX2_simple_4 9 rfl rfl)
theorem dX2_simple_104 : decode cX2_simple 104 = .ok (.getfield 178, 3) := dk_180 0 178 (dk_at dksX2_simple_4 10 rfl rfl)
theorem dX2_simple_107 : decode cX2_simple 107 = .ok (.iconst 1, 1) := dk_4 (dk_at dksX2_simple_4 13 rfl rfl)
theorem dX2_simple_108 : decode cX2_simple 108 = .ok (.iadd, 1) := dk_96 (dk_at dksX2_simple_4 14 rfl rfl)
theorem dX2_simple_109 : decode cX2_simple 109 = .ok (.putfield 178, 3) := dk_181 0 178 (dk_at dksX2_simple_4 15 rfl rfl)
theorem dX2_simple_112 : decode cX2_simple 112 = .ok (.aload_n 0, 1) := dk_42 (dk_at dksX2_simple_4 18 rfl rfl)
theorem dX2_simple_113 : decode cX2_simple 113 = .ok (.invokevirtual 25, 3) := dk_182 0 25 (dk_at dksX2_simple_4 19 rfl rfl)
theorem dX2_simple_116 : decode cX2_simple 116 = .ok (.iload_n 1, 1) := dk_27 (dk_at dksX2_simple_4 22 rfl rfl)
theorem dX2_simple_117 : decode cX2_simple 117 = .ok (.ifCond .eq 7, 3) := dk_153 0 7 (dk_at dksX2_simple_5 0 rfl rfl)
theorem dX2_simple_120 : decode cX2_simple 120 = .ok (.invokestatic 250, 3) := dk_184 0 250 (dk_at dksX2_simple_5 3 rfl rfl)
theorem dX2_simple_123 : decode cX2_simple 123 = .ok (.areturn, 1) := dk_176 (dk_at dksX2_simple_5 6 rfl rfl)
theorem dX2_simple_124 : decode cX2_simple 124 = .ok (.aload_n 0, 1) := dk_42 (dk_at dksX2_simple_5 7 rfl rfl)
theorem dX2_simple_125 : decode cX2_simple 125 = .ok (.getfield 33, 3) := dk_180 0 33 (dk_at dksX2_simple_5 8 rfl rfl)
theorem dX2_simple_128 : decode cX2_simple 128 = .ok (.getstatic 131, 3) := dk_178 0 131 (dk_at dksX2_simple_5 11 rfl rfl)
theorem dX2_simple_131 : decode cX2_simple 131 = .ok (.if_acmp .ne 19, 3) := dk_166 0 19 (dk_at dksX2_simple_5 14 rfl rfl)
theorem dX2_simple_134 : decode cX2_simple 134 = .ok (.aload_n 0, 1) := dk_42 (dk_at dksX2_simple_5 17 rfl rfl)
theorem dX2_simple_135 : decode cX2_simple 135 = .ok (.getfield 17, 3) := dk_180 0 17 (dk_at dksX2_simple_5 18 rfl rfl)
theorem dX2_simple_138 : decode cX2_simple 138 = .ok (.aload_n 0, 1) := dk_42 (dk_at dksX2_simple_5 21 rfl rfl)
theorem dX2_simple_139 : decode cX2_simple 139 = .ok (.getfield 48, 3) := dk_180 0 48 (dk_at dksX2_simple_6 0 rfl rfl)
theorem dX2_simple_142 : decode cX2_simple 142 = .ok (.invokeinterface 93 2, 5) := by decide +kernel
theorem dX2_simple_147 : decode cX2_simple 147 = .ok (.goto 5, 3) := dk_167 0 5 (dk_at dksX2_simple_6 8 rfl rfl)
theorem dX2_simple_150 : decode cX2_simple 150 = .ok (.bipush 59, 2) := dk_16 59 (dk_at dksX2_simple_6 11 rfl rfl)
theorem dX2_simple_152 : decode cX2_simple 152 = .ok (.istore_n 3, 1) := dk_62 (dk_at dksX2_simple_6 13 rfl rfl)
theorem dX2_simple_153 : decode cX2_simple 153 = .ok (.ldc 252, 2) := dk_18 252 (dk_at dksX2_simple_6 14 rfl rfl)
theorem dX2_simple_155 : decode cX2_simple 155 = .ok (.iload_n 3, 1) := dk_29 (dk_at dksX2_simple_6 16 rfl rfl)
theorem dX2_simple_156 : decode cX2_simple 156 = .ok (.invokevirtual 125, 3) := dk_182 0 125 (dk_at dksX2_simple_6 17 rfl rfl)
theorem dX2_simple_159 : decode cX2_simple 159 = .ok (.ifCond .ge 16, 3) := dk_156 0 16 (dk_at dksX2_simple_6 20 rfl rfl)
theorem dX2_simple_162 : decode cX2_simple 162 = .ok (.new 46, 3) := dk_187 0 46 (dk_at dksX2_simple_7 0 rfl rfl)
theorem dX2_simple_165 : decode cX2_simple 165 = .ok (.dup, 1) := dk_89 (dk_at dksX2_simple_7 3 rfl rfl)
theorem dX2_simple_166 : decode cX2_simple 166 = .ok (.aload_n 0, 1) := dk_42 (dk_at dksX2_simple_7 4 rfl rfl)
theorem dX2_simple_167 : decode cX2_simple 167 = .ok (.getfield 48, 3) := dk_180 0 48 (dk_at dksX2_simple_7 5 rfl rfl)
theorem dX2_simple_170 : decode cX2_simple 170 = .ok (.iconst 1, 1) := dk_4 (dk_at dksX2_simple_7 8 rfl rfl)
theorem dX2_simple_171 : decode cX2_simple 171 = .ok (.invokespecial 51, 3) := dk_183 0 51 (dk_at dksX2_simple_7 9 rfl rfl)
theorem dX2_simple_174 : decode cX2_simple 174 = .ok (.athrow, 1) := dk_191 (dk_at dksX2_simple_7 12 rfl rfl)
theorem dX2_simple_175 : decode cX2_simple 175 = .ok (.aload_n 0, 1) := dk_42 (dk_at dksX2_simple_7 13 rfl rfl)
theorem dX2_simple_176 : decode cX2_simple 176 = .ok (.invokevirtual 25, 3) := dk_182 0 25 (dk_at dksX2_simple_7 14 rfl rfl)
theorem dX2_simple_179 : decode cX2_simple 179 = .ok (.new 254, 3) := dk_187 0 254 (dk_at dksX2_simple_7 17 rfl rfl)
theorem dX2_simple_182 : decode cX2_simple 182 = .ok (.dup, 1) := dk_89 (dk_at dksX2_simple_7 20 rfl rfl)
theorem dX2_simple_183 : decode cX2_simple 183 = .ok (.iload_n 2, 1) := dk_28 (dk_at dksX2_simple_7 21 rfl rfl)
theorem dX2_simple_184 : decode cX2_simple 184 = .ok (.iload_n 3, 1) := dk_29 (dk_at dksX2_simple_7 22 rfl rfl)
theorem dX2_simple_185 : decode cX2_simple 185 = .ok (.aload_n 0, 1) := dk_42 (dk_at dksX2_simple_7 23 rfl rfl)
theorem dX2_simple_186 : decode cX2_simple 186 = .ok (.iconst 0, 1) := dk_3 (dk_at dksX2_simple_8 0 rfl rfl)
theorem dX2_simple_187 : decode cX2_simple 187 = .ok (.aload_n 0, 1) := dk_42 (dk_at dksX2_simple_8 1 rfl rfl)
theorem dX2_simple_188 : decode cX2_simple 188 = .ok (.getfield 76, 3) := dk_180 0 76 (dk_at dksX2_simple_8 2 rfl rfl)
theorem dX2_simple_191 : decode cX2_simple 191 = .ok (.getfield 247, 3) := dk_180 0 247 (dk_at dksX2_simple_8 5 rfl rfl)
theorem dX2_simple_194 : decode cX2_simple 194 = .ok (.iload_n 2, 1) := dk_28 (dk_at dksX2_simple_8 8 rfl rfl)
theorem dX2_simple_195 : decode cX2_simple 195 = .ok (.iaload, 1) := dk_46 (dk_at dksX2_simple_8 9 rfl rfl)
theorem dX2_simple_196 : decode cX2_simple 196 = .ok (.iconst 1, 1) := dk_4 (dk_at dksX2_simple_8 10 rfl rfl)
theorem dX2_simple_197 : decode cX2_simple 197 = .ok (.isub, 1) := dk_100 (dk_at dksX2_simple_8 11 rfl rfl)
theorem dX2_simple_198 : decode cX2_simple 198 = .ok (.invokevirtual 66, 3) := dk_182 0 66 (dk_at dksX2_simple_8 12 rfl rfl)
theorem dX2_simple_201 : decode cX2_simple 201 = .ok (.invokespecial 256, 3) := dk_183 1 0 (dk_at dksX2_simple_8 15 rfl rfl)
theorem dX2_simple_204 : decode cX2_simple 204 = .ok (.areturn, 1) := dk_176 (dk_at dksX2_simple_8 18 rfl rfl)
abbrev cX2_parts : ByteArray := prog_12_method_16_code
def yX2_parts : MethodName := ⟨RX2, "parts", "(LHeirCases$Rule;)V"⟩
def dkwX2_parts_4 : List UInt8 := [29, 153, 0, 7, 42, 182, 0, 25, 167, 255, 156, 177]
abbrev dktX2_parts_4 : List UInt8 := dkwX2_parts_4 ++ []
def dkwX2_parts_3 : List UInt8 := [187, 0, 46, 89, 42, 180, 0, 48, 8, 183, 0, 51, 191, 42, 182, 0, 25, 42, 16, 44, 182, 0, 142, 62]
abbrev dktX2_parts_3 : List UInt8 := dkwX2_parts_3 ++ dktX2_parts_4
def dkwX2_parts_2 : List UInt8 := [16, 12, 182, 0, 42, 54, 6, 42, 180, 0, 76, 43, 21, 4, 21, 5, 21, 6, 182, 0, 211, 154, 0, 16]
abbrev dktX2_parts_2 : List UInt8 := dkwX2_parts_2 ++ dktX2_parts_3
def dkwX2_parts_1 : List UInt8 := [28, 4, 21, 4, 120, 128, 61, 42, 3, 16, 12, 182, 0, 66, 54, 5, 42, 16, 47, 182, 0, 54, 42, 4]
abbrev dktX2_parts_1 : List UInt8 := dkwX2_parts_1 ++ dktX2_parts_2
def dkwX2_parts_0 : List UInt8 := [3, 61, 4, 62, 29, 153, 0, 102, 42, 28, 42, 180, 0, 76, 180, 0, 157, 4, 100, 182, 0, 205, 54, 4]
abbrev dktX2_parts_0 : List UInt8 := dkwX2_parts_0 ++ dktX2_parts_1
theorem dksX2_parts_0 : cX2_parts.data.toList.drop 0 = dktX2_parts_0 := by decide +kernel
theorem dksX2_parts_1 : cX2_parts.data.toList.drop 24 = dktX2_parts_1 := dk_seg dksX2_parts_0 24 rfl rfl
theorem dksX2_parts_2 : cX2_parts.data.toList.drop 48 = dktX2_parts_2 := dk_seg dksX2_parts_1 24 rfl rfl
theorem dksX2_parts_3 : cX2_parts.data.toList.drop 72 = dktX2_parts_3 := dk_seg dksX2_parts_2 24 rfl rfl
theorem dksX2_parts_4 : cX2_parts.data.toList.drop 96 = dktX2_parts_4 := dk_seg dksX2_parts_3 24 rfl rfl
theorem dX2_parts_0 : decode cX2_parts 0 = .ok (.iconst 0, 1) := dk_3 (dk_at dksX2_parts_0 0 rfl rfl)
theorem dX2_parts_1 : decode cX2_parts 1 = .ok (.istore_n 2, 1) := dk_61 (dk_at dksX2_parts_0 1 rfl rfl)
theorem dX2_parts_2 : decode cX2_parts 2 = .ok (.iconst 1, 1) := dk_4 (dk_at dksX2_parts_0 2 rfl rfl)
theorem dX2_parts_3 : decode cX2_parts 3 = .ok (.istore_n 3, 1) := dk_62 (dk_at dksX2_parts_0 3 rfl rfl)
theorem dX2_parts_4 : decode cX2_parts 4 = .ok (.iload_n 3, 1) := dk_29 (dk_at dksX2_parts_0 4 rfl rfl)
theorem dX2_parts_5 : decode cX2_parts 5 = .ok (.ifCond .eq 102, 3) := dk_153 0 102 (dk_at dksX2_parts_0 5 rfl rfl)
theorem dX2_parts_8 : decode cX2_parts 8 = .ok (.aload_n 0, 1) := dk_42 (dk_at dksX2_parts_0 8 rfl rfl)
theorem dX2_parts_9 : decode cX2_parts 9 = .ok (.iload_n 2, 1) := dk_28 (dk_at dksX2_parts_0 9 rfl rfl)
theorem dX2_parts_10 : decode cX2_parts 10 = .ok (.aload_n 0, 1) := dk_42 (dk_at dksX2_parts_0 10 rfl rfl)
theorem dX2_parts_11 : decode cX2_parts 11 = .ok (.getfield 76, 3) := dk_180 0 76 (dk_at dksX2_parts_0 11 rfl rfl)
theorem dX2_parts_14 : decode cX2_parts 14 = .ok (.getfield 157, 3) := dk_180 0 157 (dk_at dksX2_parts_0 14 rfl rfl)
theorem dX2_parts_17 : decode cX2_parts 17 = .ok (.iconst 1, 1) := dk_4 (dk_at dksX2_parts_0 17 rfl rfl)
theorem dX2_parts_18 : decode cX2_parts 18 = .ok (.isub, 1) := dk_100 (dk_at dksX2_parts_0 18 rfl rfl)
theorem dX2_parts_19 : decode cX2_parts 19 = .ok (.invokevirtual 205, 3) := dk_182 0 205 (dk_at dksX2_parts_0 19 rfl rfl)
theorem dX2_parts_22 : decode cX2_parts 22 = .ok (.istore 4, 2) := dk_54 4 (dk_at dksX2_parts_0 22 rfl rfl)
theorem dX2_parts_24 : decode cX2_parts 24 = .ok (.iload_n 2, 1) := dk_28 (dk_at dksX2_parts_1 0 rfl rfl)
theorem dX2_parts_25 : decode cX2_parts 25 = .ok (.iconst 1, 1) := dk_4 (dk_at dksX2_parts_1 1 rfl rfl)
theorem dX2_parts_26 : decode cX2_parts 26 = .ok (.iload 4, 2) := dk_21 4 (dk_at dksX2_parts_1 2 rfl rfl)
theorem dX2_parts_28 : decode cX2_parts 28 = .ok (.ishl, 1) := dk_120 (dk_at dksX2_parts_1 4 rfl rfl)
theorem dX2_parts_29 : decode cX2_parts 29 = .ok (.ior, 1) := dk_128 (dk_at dksX2_parts_1 5 rfl rfl)
theorem dX2_parts_30 : decode cX2_parts 30 = .ok (.istore_n 2, 1) := dk_61 (dk_at dksX2_parts_1 6 rfl rfl)
theorem dX2_parts_31 : decode cX2_parts 31 = .ok (.aload_n 0, 1) := dk_42 (dk_at dksX2_parts_1 7 rfl rfl)
theorem dX2_parts_32 : decode cX2_parts 32 = .ok (.iconst 0, 1) := dk_3 (dk_at dksX2_parts_1 8 rfl rfl)
theorem dX2_parts_33 : decode cX2_parts 33 = .ok (.bipush 12, 2) := dk_16 12 (dk_at dksX2_parts_1 9 rfl rfl)
theorem dX2_parts_35 : decode cX2_parts 35 = .ok (.invokevirtual 66, 3) := dk_182 0 66 (dk_at dksX2_parts_1 11 rfl rfl)
theorem dX2_parts_38 : decode cX2_parts 38 = .ok (.istore 5, 2) := dk_54 5 (dk_at dksX2_parts_1 14 rfl rfl)
theorem dX2_parts_40 : decode cX2_parts 40 = .ok (.aload_n 0, 1) := dk_42 (dk_at dksX2_parts_1 16 rfl rfl)
theorem dX2_parts_41 : decode cX2_parts 41 = .ok (.bipush 47, 2) := dk_16 47 (dk_at dksX2_parts_1 17 rfl rfl)
theorem dX2_parts_43 : decode cX2_parts 43 = .ok (.invokevirtual 54, 3) := dk_182 0 54 (dk_at dksX2_parts_1 19 rfl rfl)
theorem dX2_parts_46 : decode cX2_parts 46 = .ok (.aload_n 0, 1) := dk_42 (dk_at dksX2_parts_1 22 rfl rfl)
theorem dX2_parts_47 : decode cX2_parts 47 = .ok (.iconst 1, 1) := dk_4 (dk_at dksX2_parts_1 23 rfl rfl)
theorem dX2_parts_48 : decode cX2_parts 48 = .ok (.bipush 12, 2) := dk_16 12 (dk_at dksX2_parts_2 0 rfl rfl)
theorem dX2_parts_50 : decode cX2_parts 50 = .ok (.invokevirtual 42, 3) := dk_182 0 42 (dk_at dksX2_parts_2 2 rfl rfl)
theorem dX2_parts_53 : decode cX2_parts 53 = .ok (.istore 6, 2) := dk_54 6 (dk_at dksX2_parts_2 5 rfl rfl)
theorem dX2_parts_55 : decode cX2_parts 55 = .ok (.aload_n 0, 1) := dk_42 (dk_at dksX2_parts_2 7 rfl rfl)
theorem dX2_parts_56 : decode cX2_parts 56 = .ok (.getfield 76, 3) := dk_180 0 76 (dk_at dksX2_parts_2 8 rfl rfl)
theorem dX2_parts_59 : decode cX2_parts 59 = .ok (.aload_n 1, 1) := dk_43 (dk_at dksX2_parts_2 11 rfl rfl)
theorem dX2_parts_60 : decode cX2_parts 60 = .ok (.iload 4, 2) := dk_21 4 (dk_at dksX2_parts_2 12 rfl rfl)
theorem dX2_parts_62 : decode cX2_parts 62 = .ok (.iload 5, 2) := dk_21 5 (dk_at dksX2_parts_2 14 rfl rfl)
theorem dX2_parts_64 : decode cX2_parts 64 = .ok (.iload 6, 2) := dk_21 6 (dk_at dksX2_parts_2 16 rfl rfl)
theorem dX2_parts_66 : decode cX2_parts 66 = .ok (.invokevirtual 211, 3) := dk_182 0 211 (dk_at dksX2_parts_2 18 rfl rfl)
theorem dX2_parts_69 : decode cX2_parts 69 = .ok (.ifCond .ne 16, 3) := dk_154 0 16 (dk_at dksX2_parts_2 21 rfl rfl)
theorem dX2_parts_72 : decode cX2_parts 72 = .ok (.new 46, 3) := dk_187 0 46 (dk_at dksX2_parts_3 0 rfl rfl)
theorem dX2_parts_75 : decode cX2_parts 75 = .ok (.dup, 1) := dk_89 (dk_at dksX2_parts_3 3 rfl rfl)
theorem dX2_parts_76 : decode cX2_parts 76 = .ok (.aload_n 0, 1) := dk_42 (dk_at dksX2_parts_3 4 rfl rfl)
theorem dX2_parts_77 : decode cX2_parts 77 = .ok (.getfield 48, 3) := dk_180 0 48 (dk_at dksX2_parts_3 5 rfl rfl)
theorem dX2_parts_80 : decode cX2_parts 80 = .ok (.iconst 5, 1) := dk_8 (dk_at dksX2_parts_3 8 rfl rfl)
theorem dX2_parts_81 : decode cX2_parts 81 = .ok (.invokespecial 51, 3) := dk_183 0 51 (dk_at dksX2_parts_3 9 rfl rfl)
theorem dX2_parts_84 : decode cX2_parts 84 = .ok (.athrow, 1) := dk_191 (dk_at dksX2_parts_3 12 rfl rfl)
theorem dX2_parts_85 : decode cX2_parts 85 = .ok (.aload_n 0, 1) := dk_42 (dk_at dksX2_parts_3 13 rfl rfl)
theorem dX2_parts_86 : decode cX2_parts 86 = .ok (.invokevirtual 25, 3) := dk_182 0 25 (dk_at dksX2_parts_3 14 rfl rfl)
theorem dX2_parts_89 : decode cX2_parts 89 = .ok (.aload_n 0, 1) := dk_42 (dk_at dksX2_parts_3 17 rfl rfl)
theorem dX2_parts_90 : decode cX2_parts 90 = .ok (.bipush 44, 2) := dk_16 44 (dk_at dksX2_parts_3 18 rfl rfl)
theorem dX2_parts_92 : decode cX2_parts 92 = .ok (.invokevirtual 142, 3) := dk_182 0 142 (dk_at dksX2_parts_3 20 rfl rfl)
theorem dX2_parts_95 : decode cX2_parts 95 = .ok (.istore_n 3, 1) := dk_62 (dk_at dksX2_parts_3 23 rfl rfl)
theorem dX2_parts_96 : decode cX2_parts 96 = .ok (.iload_n 3, 1) := dk_29 (dk_at dksX2_parts_4 0 rfl rfl)
theorem dX2_parts_97 : decode cX2_parts 97 = .ok (.ifCond .eq 7, 3) := dk_153 0 7 (dk_at dksX2_parts_4 1 rfl rfl)
theorem dX2_parts_100 : decode cX2_parts 100 = .ok (.aload_n 0, 1) := dk_42 (dk_at dksX2_parts_4 4 rfl rfl)
theorem dX2_parts_101 : decode cX2_parts 101 = .ok (.invokevirtual 25, 3) := dk_182 0 25 (dk_at dksX2_parts_4 5 rfl rfl)
theorem dX2_parts_104 : decode cX2_parts 104 = .ok (.goto (-100), 3) := dk_167 255 156 (dk_at dksX2_parts_4 8 rfl rfl)
theorem dX2_parts_107 : decode cX2_parts 107 = .ok (.return_, 1) := dk_177 (dk_at dksX2_parts_4 11 rfl rfl)
abbrev cX2_newIn : ByteArray := prog_12_method_13_code
def yX2_newIn : MethodName := ⟨RX2, "newIn", "(II)I"⟩
def dkwX2_newIn_1 : List UInt8 := [6, 183, 0, 51, 191, 42, 182, 0, 25, 29, 172]
abbrev dktX2_newIn_1 : List UInt8 := dkwX2_newIn_1 ++ []
def dkwX2_newIn_0 : List UInt8 := [42, 3, 28, 182, 0, 42, 62, 27, 29, 122, 4, 126, 4, 160, 0, 16, 187, 0, 46, 89, 42, 180, 0, 48]
abbrev dktX2_newIn_0 : List UInt8 := dkwX2_newIn_0 ++ dktX2_newIn_1
theorem dksX2_newIn_0 : cX2_newIn.data.toList.drop 0 = dktX2_newIn_0 := by decide +kernel
theorem dksX2_newIn_1 : cX2_newIn.data.toList.drop 24 = dktX2_newIn_1 := dk_seg dksX2_newIn_0 24 rfl rfl
theorem dX2_newIn_0 : decode cX2_newIn 0 = .ok (.aload_n 0, 1) := dk_42 (dk_at dksX2_newIn_0 0 rfl rfl)
theorem dX2_newIn_1 : decode cX2_newIn 1 = .ok (.iconst 0, 1) := dk_3 (dk_at dksX2_newIn_0 1 rfl rfl)
theorem dX2_newIn_2 : decode cX2_newIn 2 = .ok (.iload_n 2, 1) := dk_28 (dk_at dksX2_newIn_0 2 rfl rfl)
theorem dX2_newIn_3 : decode cX2_newIn 3 = .ok (.invokevirtual 42, 3) := dk_182 0 42 (dk_at dksX2_newIn_0 3 rfl rfl)
theorem dX2_newIn_6 : decode cX2_newIn 6 = .ok (.istore_n 3, 1) := dk_62 (dk_at dksX2_newIn_0 6 rfl rfl)
theorem dX2_newIn_7 : decode cX2_newIn 7 = .ok (.iload_n 1, 1) := dk_27 (dk_at dksX2_newIn_0 7 rfl rfl)
theorem dX2_newIn_8 : decode cX2_newIn 8 = .ok (.iload_n 3, 1) := dk_29 (dk_at dksX2_newIn_0 8 rfl rfl)
theorem dX2_newIn_9 : decode cX2_newIn 9 = .ok (.ishr, 1) := dk_122 (dk_at dksX2_newIn_0 9 rfl rfl)
theorem dX2_newIn_10 : decode cX2_newIn 10 = .ok (.iconst 1, 1) := dk_4 (dk_at dksX2_newIn_0 10 rfl rfl)
theorem dX2_newIn_11 : decode cX2_newIn 11 = .ok (.iand, 1) := dk_126 (dk_at dksX2_newIn_0 11 rfl rfl)
theorem dX2_newIn_12 : decode cX2_newIn 12 = .ok (.iconst 1, 1) := dk_4 (dk_at dksX2_newIn_0 12 rfl rfl)
theorem dX2_newIn_13 : decode cX2_newIn 13 = .ok (.if_icmp .ne 16, 3) := dk_160 0 16 (dk_at dksX2_newIn_0 13 rfl rfl)
theorem dX2_newIn_16 : decode cX2_newIn 16 = .ok (.new 46, 3) := dk_187 0 46 (dk_at dksX2_newIn_0 16 rfl rfl)
theorem dX2_newIn_19 : decode cX2_newIn 19 = .ok (.dup, 1) := dk_89 (dk_at dksX2_newIn_0 19 rfl rfl)
theorem dX2_newIn_20 : decode cX2_newIn 20 = .ok (.aload_n 0, 1) := dk_42 (dk_at dksX2_newIn_0 20 rfl rfl)
theorem dX2_newIn_21 : decode cX2_newIn 21 = .ok (.getfield 48, 3) := dk_180 0 48 (dk_at dksX2_newIn_0 21 rfl rfl)
theorem dX2_newIn_24 : decode cX2_newIn 24 = .ok (.iconst 3, 1) := dk_6 (dk_at dksX2_newIn_1 0 rfl rfl)
theorem dX2_newIn_25 : decode cX2_newIn 25 = .ok (.invokespecial 51, 3) := dk_183 0 51 (dk_at dksX2_newIn_1 1 rfl rfl)
theorem dX2_newIn_28 : decode cX2_newIn 28 = .ok (.athrow, 1) := dk_191 (dk_at dksX2_newIn_1 4 rfl rfl)
theorem dX2_newIn_29 : decode cX2_newIn 29 = .ok (.aload_n 0, 1) := dk_42 (dk_at dksX2_newIn_1 5 rfl rfl)
theorem dX2_newIn_30 : decode cX2_newIn 30 = .ok (.invokevirtual 25, 3) := dk_182 0 25 (dk_at dksX2_newIn_1 6 rfl rfl)
theorem dX2_newIn_33 : decode cX2_newIn 33 = .ok (.iload_n 3, 1) := dk_29 (dk_at dksX2_newIn_1 9 rfl rfl)
theorem dX2_newIn_34 : decode cX2_newIn 34 = .ok (.ireturn, 1) := dk_172 (dk_at dksX2_newIn_1 10 rfl rfl)
abbrev cX2_readRule : ByteArray := prog_12_method_3_code
def yX2_readRule : MethodName := ⟨RX2, "readRule", "(LHeirCases$Will;)V"⟩
def dkwX2_readRule_0 : List UInt8 := [42, 43, 181, 0, 76, 42, 182, 0, 25, 42, 182, 0, 86, 42, 178, 0, 80, 182, 0, 89, 177]
abbrev dktX2_readRule_0 : List UInt8 := dkwX2_readRule_0 ++ []
theorem dksX2_readRule_0 : cX2_readRule.data.toList.drop 0 = dktX2_readRule_0 := by decide +kernel
theorem dX2_readRule_0 : decode cX2_readRule 0 = .ok (.aload_n 0, 1) := dk_42 (dk_at dksX2_readRule_0 0 rfl rfl)
theorem dX2_readRule_1 : decode cX2_readRule 1 = .ok (.aload_n 1, 1) := dk_43 (dk_at dksX2_readRule_0 1 rfl rfl)
theorem dX2_readRule_2 : decode cX2_readRule 2 = .ok (.putfield 76, 3) := dk_181 0 76 (dk_at dksX2_readRule_0 2 rfl rfl)
theorem dX2_readRule_5 : decode cX2_readRule 5 = .ok (.aload_n 0, 1) := dk_42 (dk_at dksX2_readRule_0 5 rfl rfl)
theorem dX2_readRule_6 : decode cX2_readRule 6 = .ok (.invokevirtual 25, 3) := dk_182 0 25 (dk_at dksX2_readRule_0 6 rfl rfl)
theorem dX2_readRule_9 : decode cX2_readRule 9 = .ok (.aload_n 0, 1) := dk_42 (dk_at dksX2_readRule_0 9 rfl rfl)
theorem dX2_readRule_10 : decode cX2_readRule 10 = .ok (.invokevirtual 86, 3) := dk_182 0 86 (dk_at dksX2_readRule_0 10 rfl rfl)
theorem dX2_readRule_13 : decode cX2_readRule 13 = .ok (.aload_n 0, 1) := dk_42 (dk_at dksX2_readRule_0 13 rfl rfl)
theorem dX2_readRule_14 : decode cX2_readRule 14 = .ok (.getstatic 80, 3) := dk_178 0 80 (dk_at dksX2_readRule_0 14 rfl rfl)
theorem dX2_readRule_17 : decode cX2_readRule 17 = .ok (.invokevirtual 89, 3) := dk_182 0 89 (dk_at dksX2_readRule_0 17 rfl rfl)
theorem dX2_readRule_20 : decode cX2_readRule 20 = .ok (.return_, 1) := dk_177 (dk_at dksX2_readRule_0 20 rfl rfl)
theorem q133 : (Jvm.Cond.initialized "HeirCases$Reader") ∈ lw_all := lw_g (lw_at lw_m1 8 rfl) rfl
theorem q243 : (Jvm.Cond.instantiable "HeirCases$Reader" (10 : Nat)) ∈ lw_all := lw_g (lw_at lw_m1 118 rfl) rfl
theorem q254 : (Jvm.Cond.instanceMethod ({ cls := "HeirCases$Reader", name := "<init>", desc := "(Ljava/lang/CharSequence;I)V" } : Jvm.MethodName)) ∈ lw_all := lw_g (lw_at lw_m1 129 rfl) rfl
theorem q255 : (Jvm.Cond.code ({ cls := "HeirCases$Reader", name := "<init>", desc := "(Ljava/lang/CharSequence;I)V" } : Jvm.MethodName) prog_12_method_1_code (3 : Nat) (Option.none : Option Jvm.ClassFile.FieldType)) ∈ lw_all := lw_g (lw_at lw_m1 130 rfl) rfl
theorem q256 : (Jvm.Cond.methodLink "HeirCases$Reader" (3 : Nat) ({ cls := "java/lang/Object", name := "<init>", desc := "()V" } : Jvm.MethodName)) ∈ lw_all := lw_g (lw_at lw_m1 131 rfl) rfl
theorem q257 : (Jvm.Cond.stringRef "HeirCases$Reader" (9 : Nat) "") ∈ lw_tbl := lw_at lw_m1 132 rfl
theorem q258 : (Jvm.Cond.fieldLink "HeirCases$Reader" (17 : Nat) "HeirCases$Reader" "text" "Ljava/lang/CharSequence;") ∈ lw_all := lw_g (lw_at lw_m1 133 rfl) rfl
theorem q259 : (Jvm.Cond.fieldLink "HeirCases$Reader" (21 : Nat) "HeirCases$Reader" "end" "I") ∈ lw_all := lw_g (lw_at lw_m1 134 rfl) rfl
theorem q260 : (Jvm.Cond.fieldLink "HeirCases$Reader" (76 : Nat) "HeirCases$Reader" "fresh" "LHeirCases$Will;") ∈ lw_all := lw_g (lw_at lw_m1 135 rfl) rfl
theorem q261 : (Jvm.Cond.fieldLink "HeirCases$Reader" (99 : Nat) "HeirCases$Reader" "at" "I") ∈ lw_all := lw_g (lw_at lw_m1 136 rfl) rfl
theorem q262 : (Jvm.Cond.fieldLink "HeirCases$Reader" (48 : Nat) "HeirCases$Reader" "from" "I") ∈ lw_all := lw_g (lw_at lw_m1 137 rfl) rfl
theorem q263 : (Jvm.Cond.fieldLink "HeirCases$Reader" (33 : Nat) "HeirCases$Reader" "token" "LHeirCases$Token;") ∈ lw_all := lw_g (lw_at lw_m1 138 rfl) rfl
theorem q264 : (Jvm.Cond.fieldLink "HeirCases$Reader" (11 : Nat) "HeirCases$Reader" "word" "Ljava/lang/String;") ∈ lw_all := lw_g (lw_at lw_m1 139 rfl) rfl
theorem q265 : (Jvm.Cond.fieldLink "HeirCases$Reader" (117 : Nat) "HeirCases$Reader" "value" "I") ∈ lw_all := lw_g (lw_at lw_m1 140 rfl) rfl
theorem q266 : (Jvm.Cond.fieldLink "HeirCases$Reader" (178 : Nat) "HeirCases$Reader" "factors" "I") ∈ lw_all := lw_g (lw_at lw_m1 141 rfl) rfl
theorem q267 : (Jvm.Cond.fieldLink "HeirCases$Reader" (181 : Nat) "HeirCases$Reader" "nots" "I") ∈ lw_all := lw_g (lw_at lw_m1 142 rfl) rfl
theorem q268 : (Jvm.Cond.laysFinal "HeirCases$Reader" "HeirCases$Reader" "text" "Ljava/lang/CharSequence;") ∈ lw_all := lw_g (lw_at lw_m1 143 rfl) rfl
theorem q269 : (Jvm.Cond.soleField "HeirCases$Reader" "text") ∈ lw_all := lw_g (lw_at lw_m1 144 rfl) rfl
theorem q270 : (Jvm.Cond.laysFinal "HeirCases$Reader" "HeirCases$Reader" "end" "I") ∈ lw_all := lw_g (lw_at lw_m1 145 rfl) rfl
theorem q271 : (Jvm.Cond.soleField "HeirCases$Reader" "end") ∈ lw_all := lw_g (lw_at lw_m1 146 rfl) rfl
theorem q272 : (Jvm.Cond.lays "HeirCases$Reader" "HeirCases$Reader" "fresh" "LHeirCases$Will;") ∈ lw_all := lw_g (lw_at lw_m1 147 rfl) rfl
theorem q273 : (Jvm.Cond.soleField "HeirCases$Reader" "fresh") ∈ lw_all := lw_g (lw_at lw_m1 148 rfl) rfl
theorem q274 : (Jvm.Cond.lays "HeirCases$Reader" "HeirCases$Reader" "at" "I") ∈ lw_all := lw_g (lw_at lw_m1 149 rfl) rfl
theorem q275 : (Jvm.Cond.soleField "HeirCases$Reader" "at") ∈ lw_all := lw_g (lw_at lw_m1 150 rfl) rfl
theorem q276 : (Jvm.Cond.lays "HeirCases$Reader" "HeirCases$Reader" "from" "I") ∈ lw_all := lw_g (lw_at lw_m1 151 rfl) rfl
theorem q277 : (Jvm.Cond.soleField "HeirCases$Reader" "from") ∈ lw_all := lw_g (lw_at lw_m1 152 rfl) rfl
theorem q278 : (Jvm.Cond.lays "HeirCases$Reader" "HeirCases$Reader" "token" "LHeirCases$Token;") ∈ lw_all := lw_g (lw_at lw_m1 153 rfl) rfl
theorem q279 : (Jvm.Cond.soleField "HeirCases$Reader" "token") ∈ lw_all := lw_g (lw_at lw_m1 154 rfl) rfl
theorem q280 : (Jvm.Cond.lays "HeirCases$Reader" "HeirCases$Reader" "word" "Ljava/lang/String;") ∈ lw_all := lw_g (lw_at lw_m1 155 rfl) rfl
theorem q281 : (Jvm.Cond.soleField "HeirCases$Reader" "word") ∈ lw_all := lw_g (lw_at lw_m1 156 rfl) rfl
theorem q282 : (Jvm.Cond.lays "HeirCases$Reader" "HeirCases$Reader" "value" "I") ∈ lw_all := lw_g (lw_at lw_m1 157 rfl) rfl
theorem q283 : (Jvm.Cond.soleField "HeirCases$Reader" "value") ∈ lw_all := lw_g (lw_at lw_m1 158 rfl) rfl
theorem q284 : (Jvm.Cond.lays "HeirCases$Reader" "HeirCases$Reader" "factors" "I") ∈ lw_all := lw_g (lw_at lw_m1 159 rfl) rfl
theorem q285 : (Jvm.Cond.soleField "HeirCases$Reader" "factors") ∈ lw_all := lw_g (lw_at lw_m1 160 rfl) rfl
theorem q286 : (Jvm.Cond.lays "HeirCases$Reader" "HeirCases$Reader" "nots" "I") ∈ lw_all := lw_g (lw_at lw_m1 161 rfl) rfl
theorem q287 : (Jvm.Cond.soleField "HeirCases$Reader" "nots") ∈ lw_all := lw_g (lw_at lw_m1 162 rfl) rfl
theorem q288 : (Jvm.Cond.superclass "HeirCases$Reader" "java/lang/Object") ∈ lw_all := lw_g (lw_at lw_m1 163 rfl) rfl
theorem q290 : (Jvm.Cond.instanceMethod ({ cls := "HeirCases$Reader", name := "read", desc := "()LHeirCases$Will;" } : Jvm.MethodName)) ∈ lw_all := lw_g (lw_at lw_m1 165 rfl) rfl
theorem q291 : (Jvm.Cond.selects "HeirCases$Reader" ({ cls := "HeirCases$Reader", name := "read", desc := "()LHeirCases$Will;" } : Jvm.MethodName) ({ cls := "HeirCases$Reader", name := "read", desc := "()LHeirCases$Will;" } : Jvm.MethodName)) ∈ lw_all := lw_g (lw_at lw_m1 166 rfl) rfl
theorem q292 : (Jvm.Cond.code ({ cls := "HeirCases$Reader", name := "read", desc := "()LHeirCases$Will;" } : Jvm.MethodName) prog_12_method_2_code (5 : Nat) (Option.some (Jvm.ClassFile.FieldType.object "HeirCases$Will"))) ∈ lw_all := lw_g (lw_at lw_m1 167 rfl) rfl
theorem q293 : (Jvm.Cond.methodLink "HeirCases$Reader" (25 : Nat) ({ cls := "HeirCases$Reader", name := "next", desc := "()V" } : Jvm.MethodName)) ∈ lw_all := lw_g (lw_at lw_m1 168 rfl) rfl
theorem q294 : (Jvm.Cond.privateMethod ({ cls := "HeirCases$Reader", name := "next", desc := "()V" } : Jvm.MethodName)) ∈ lw_tbl := lw_at lw_m1 169 rfl
theorem q295 : (Jvm.Cond.instanceMethod ({ cls := "HeirCases$Reader", name := "next", desc := "()V" } : Jvm.MethodName)) ∈ lw_all := lw_g (lw_at lw_m1 170 rfl) rfl
theorem q296 : (Jvm.Cond.code ({ cls := "HeirCases$Reader", name := "next", desc := "()V" } : Jvm.MethodName) prog_12_method_5_code (1 : Nat) (Option.none : Option Jvm.ClassFile.FieldType)) ∈ lw_all := lw_g (lw_at lw_m1 171 rfl) rfl
theorem q297 : (Jvm.Cond.interfaceEntry "HeirCases$Reader" (93 : Nat)) ∈ lw_tbl := lw_at lw_m1 172 rfl
theorem q298 : (Jvm.Cond.methodLink "HeirCases$Reader" (93 : Nat) ({ cls := "java/lang/CharSequence", name := "charAt", desc := "(I)C" } : Jvm.MethodName)) ∈ lw_all := lw_g (lw_at lw_m1 173 rfl) rfl
theorem q355 : (Jvm.Cond.fieldLink "HeirCases$Reader" (80 : Nat) "HeirCases$Token" "END" "LHeirCases$Token;") ∈ lw_all := lw_g (lw_at lw_m1 230 rfl) rfl
theorem q357 : (Jvm.Cond.methodLink "HeirCases$Reader" (102 : Nat) ({ cls := "HeirCases$Reader", name := "within", desc := "(ICC)Z" } : Jvm.MethodName)) ∈ lw_all := lw_g (lw_at lw_m1 232 rfl) rfl
theorem q358 : (Jvm.Cond.privateMethod ({ cls := "HeirCases$Reader", name := "within", desc := "(ICC)Z" } : Jvm.MethodName)) ∈ lw_tbl := lw_at lw_m1 233 rfl
theorem q359 : (Jvm.Cond.instanceMethod ({ cls := "HeirCases$Reader", name := "within", desc := "(ICC)Z" } : Jvm.MethodName)) ∈ lw_all := lw_g (lw_at lw_m1 234 rfl) rfl
theorem q360 : (Jvm.Cond.code ({ cls := "HeirCases$Reader", name := "within", desc := "(ICC)Z" } : Jvm.MethodName) prog_12_method_4_code (4 : Nat) (Option.some Jvm.ClassFile.FieldType.boolean)) ∈ lw_all := lw_g (lw_at lw_m1 235 rfl) rfl
theorem q361 : (Jvm.Cond.interfaceEntry "HeirCases$Reader" (106 : Nat)) ∈ lw_tbl := lw_at lw_m1 236 rfl
theorem q362 : (Jvm.Cond.methodLink "HeirCases$Reader" (106 : Nat) ({ cls := "java/lang/CharSequence", name := "subSequence", desc := "(II)Ljava/lang/CharSequence;" } : Jvm.MethodName)) ∈ lw_all := lw_g (lw_at lw_m1 237 rfl) rfl
theorem q670 : (Jvm.Cond.interfaceEntry "HeirCases$Reader" (110 : Nat)) ∈ lw_tbl := lw_at lw_m3 65 rfl
theorem q671 : (Jvm.Cond.methodLink "HeirCases$Reader" (110 : Nat) ({ cls := "java/lang/CharSequence", name := "toString", desc := "()Ljava/lang/String;" } : Jvm.MethodName)) ∈ lw_all := lw_g (lw_at lw_m3 66 rfl) rfl
theorem q682 : (Jvm.Cond.fieldLink "HeirCases$Reader" (114 : Nat) "HeirCases$Token" "WORD" "LHeirCases$Token;") ∈ lw_all := lw_g (lw_at lw_m3 77 rfl) rfl
theorem q684 : (Jvm.Cond.fieldLink "HeirCases$Reader" (120 : Nat) "HeirCases$Token" "INVALID" "LHeirCases$Token;") ∈ lw_all := lw_g (lw_at lw_m3 79 rfl) rfl
theorem q686 : (Jvm.Cond.fieldLink "HeirCases$Reader" (37 : Nat) "HeirCases$Token" "NUMBER" "LHeirCases$Token;") ∈ lw_all := lw_g (lw_at lw_m3 81 rfl) rfl
theorem q688 : (Jvm.Cond.stringRef "HeirCases$Reader" (123 : Nat) ";,/()=<>") ∈ lw_tbl := lw_at lw_m3 83 rfl
theorem q689 : (Jvm.Cond.methodLink "HeirCases$Reader" (125 : Nat) ({ cls := "java/lang/String", name := "indexOf", desc := "(I)I" } : Jvm.MethodName)) ∈ lw_all := lw_g (lw_at lw_m3 84 rfl) rfl
theorem q734 : (Jvm.Cond.fieldLink "HeirCases$Reader" (131 : Nat) "HeirCases$Token" "SIGN" "LHeirCases$Token;") ∈ lw_all := lw_g (lw_at lw_m3 129 rfl) rfl
theorem q736 : (Jvm.Cond.stringRef "HeirCases$Reader" (28 : Nat) "facts") ∈ lw_tbl := lw_at lw_m3 131 rfl
theorem q737 : (Jvm.Cond.methodLink "HeirCases$Reader" (30 : Nat) ({ cls := "HeirCases$Reader", name := "word", desc := "(Ljava/lang/CharSequence;)V" } : Jvm.MethodName)) ∈ lw_all := lw_g (lw_at lw_m3 132 rfl) rfl
theorem q738 : (Jvm.Cond.privateMethod ({ cls := "HeirCases$Reader", name := "word", desc := "(Ljava/lang/CharSequence;)V" } : Jvm.MethodName)) ∈ lw_tbl := lw_at lw_m3 133 rfl
theorem q739 : (Jvm.Cond.instanceMethod ({ cls := "HeirCases$Reader", name := "word", desc := "(Ljava/lang/CharSequence;)V" } : Jvm.MethodName)) ∈ lw_all := lw_g (lw_at lw_m3 134 rfl) rfl
theorem q740 : (Jvm.Cond.code ({ cls := "HeirCases$Reader", name := "word", desc := "(Ljava/lang/CharSequence;)V" } : Jvm.MethodName) prog_12_method_9_code (2 : Nat) (Option.none : Option Jvm.ClassFile.FieldType)) ∈ lw_all := lw_g (lw_at lw_m3 135 rfl) rfl
theorem q741 : (Jvm.Cond.methodLink "HeirCases$Reader" (138 : Nat) ({ cls := "HeirCases$Reader", name := "isWord", desc := "(Ljava/lang/CharSequence;)Z" } : Jvm.MethodName)) ∈ lw_all := lw_g (lw_at lw_m3 136 rfl) rfl
theorem q742 : (Jvm.Cond.privateMethod ({ cls := "HeirCases$Reader", name := "isWord", desc := "(Ljava/lang/CharSequence;)Z" } : Jvm.MethodName)) ∈ lw_tbl := lw_at lw_m3 137 rfl
theorem q743 : (Jvm.Cond.instanceMethod ({ cls := "HeirCases$Reader", name := "isWord", desc := "(Ljava/lang/CharSequence;)Z" } : Jvm.MethodName)) ∈ lw_all := lw_g (lw_at lw_m3 138 rfl) rfl
theorem q744 : (Jvm.Cond.code ({ cls := "HeirCases$Reader", name := "isWord", desc := "(Ljava/lang/CharSequence;)Z" } : Jvm.MethodName) prog_12_method_7_code (2 : Nat) (Option.some Jvm.ClassFile.FieldType.boolean)) ∈ lw_all := lw_g (lw_at lw_m3 139 rfl) rfl
theorem q745 : (Jvm.Cond.methodLink "HeirCases$Reader" (134 : Nat) ({ cls := "java/lang/String", name := "equals", desc := "(Ljava/lang/Object;)Z" } : Jvm.MethodName)) ∈ lw_all := lw_g (lw_at lw_m3 140 rfl) rfl
theorem q753 : (Jvm.Cond.classLink "HeirCases$Reader" (46 : Nat) "HeirCases$Fault") ∈ lw_all := lw_g (lw_at lw_m3 148 rfl) rfl
theorem q762 : (Jvm.Cond.methodLink "HeirCases$Reader" (51 : Nat) ({ cls := "HeirCases$Fault", name := "<init>", desc := "(II)V" } : Jvm.MethodName)) ∈ lw_all := lw_g (lw_at lw_m3 157 rfl) rfl
theorem q779 : (Jvm.Cond.methodLink "HeirCases$Reader" (42 : Nat) ({ cls := "HeirCases$Reader", name := "look", desc := "(II)I" } : Jvm.MethodName)) ∈ lw_all := lw_g (lw_at lw_m3 174 rfl) rfl
theorem q780 : (Jvm.Cond.privateMethod ({ cls := "HeirCases$Reader", name := "look", desc := "(II)I" } : Jvm.MethodName)) ∈ lw_tbl := lw_at lw_m3 175 rfl
theorem q781 : (Jvm.Cond.instanceMethod ({ cls := "HeirCases$Reader", name := "look", desc := "(II)I" } : Jvm.MethodName)) ∈ lw_all := lw_g (lw_at lw_m3 176 rfl) rfl
theorem q782 : (Jvm.Cond.code ({ cls := "HeirCases$Reader", name := "look", desc := "(II)I" } : Jvm.MethodName) prog_12_method_11_code (3 : Nat) (Option.some Jvm.ClassFile.FieldType.int)) ∈ lw_all := lw_g (lw_at lw_m3 177 rfl) rfl
theorem q783 : (Jvm.Cond.methodLink "HeirCases$Reader" (89 : Nat) ({ cls := "HeirCases$Reader", name := "expect", desc := "(LHeirCases$Token;)V" } : Jvm.MethodName)) ∈ lw_all := lw_g (lw_at lw_m3 178 rfl) rfl
theorem q784 : (Jvm.Cond.privateMethod ({ cls := "HeirCases$Reader", name := "expect", desc := "(LHeirCases$Token;)V" } : Jvm.MethodName)) ∈ lw_tbl := lw_at lw_m3 179 rfl
theorem q785 : (Jvm.Cond.instanceMethod ({ cls := "HeirCases$Reader", name := "expect", desc := "(LHeirCases$Token;)V" } : Jvm.MethodName)) ∈ lw_all := lw_g (lw_at lw_m3 180 rfl) rfl
theorem q786 : (Jvm.Cond.code ({ cls := "HeirCases$Reader", name := "expect", desc := "(LHeirCases$Token;)V" } : Jvm.MethodName) prog_12_method_6_code (2 : Nat) (Option.none : Option Jvm.ClassFile.FieldType)) ∈ lw_all := lw_g (lw_at lw_m3 181 rfl) rfl
theorem q787 : (Jvm.Cond.methodLink "HeirCases$Reader" (54 : Nat) ({ cls := "HeirCases$Reader", name := "sign", desc := "(C)V" } : Jvm.MethodName)) ∈ lw_all := lw_g (lw_at lw_m3 182 rfl) rfl
theorem q788 : (Jvm.Cond.privateMethod ({ cls := "HeirCases$Reader", name := "sign", desc := "(C)V" } : Jvm.MethodName)) ∈ lw_tbl := lw_at lw_m3 183 rfl
theorem q789 : (Jvm.Cond.instanceMethod ({ cls := "HeirCases$Reader", name := "sign", desc := "(C)V" } : Jvm.MethodName)) ∈ lw_all := lw_g (lw_at lw_m3 184 rfl) rfl
theorem q790 : (Jvm.Cond.code ({ cls := "HeirCases$Reader", name := "sign", desc := "(C)V" } : Jvm.MethodName) prog_12_method_10_code (2 : Nat) (Option.none : Option Jvm.ClassFile.FieldType)) ∈ lw_all := lw_g (lw_at lw_m3 185 rfl) rfl
theorem q791 : (Jvm.Cond.methodLink "HeirCases$Reader" (142 : Nat) ({ cls := "HeirCases$Reader", name := "isSign", desc := "(C)Z" } : Jvm.MethodName)) ∈ lw_all := lw_g (lw_at lw_m3 186 rfl) rfl
theorem q792 : (Jvm.Cond.privateMethod ({ cls := "HeirCases$Reader", name := "isSign", desc := "(C)Z" } : Jvm.MethodName)) ∈ lw_tbl := lw_at lw_m3 187 rfl
theorem q793 : (Jvm.Cond.instanceMethod ({ cls := "HeirCases$Reader", name := "isSign", desc := "(C)Z" } : Jvm.MethodName)) ∈ lw_all := lw_g (lw_at lw_m3 188 rfl) rfl
theorem q794 : (Jvm.Cond.code ({ cls := "HeirCases$Reader", name := "isSign", desc := "(C)Z" } : Jvm.MethodName) prog_12_method_8_code (2 : Nat) (Option.some Jvm.ClassFile.FieldType.boolean)) ∈ lw_all := lw_g (lw_at lw_m3 189 rfl) rfl
theorem q795 : (Jvm.Cond.methodLink "HeirCases$Reader" (58 : Nat) ({ cls := "java/lang/System", name := "arraycopy", desc := "(Ljava/lang/Object;ILjava/lang/Object;II)V" } : Jvm.MethodName)) ∈ lw_all := lw_g (lw_at lw_m3 190 rfl) rfl
theorem q796 : (Jvm.Cond.stringRef "HeirCases$Reader" (64 : Nat) "heirs") ∈ lw_tbl := lw_at lw_m3 191 rfl
theorem q797 : (Jvm.Cond.methodLink "HeirCases$Reader" (66 : Nat) ({ cls := "HeirCases$Reader", name := "number", desc := "(II)I" } : Jvm.MethodName)) ∈ lw_all := lw_g (lw_at lw_m3 192 rfl) rfl
theorem q798 : (Jvm.Cond.privateMethod ({ cls := "HeirCases$Reader", name := "number", desc := "(II)I" } : Jvm.MethodName)) ∈ lw_tbl := lw_at lw_m3 193 rfl
theorem q799 : (Jvm.Cond.instanceMethod ({ cls := "HeirCases$Reader", name := "number", desc := "(II)I" } : Jvm.MethodName)) ∈ lw_all := lw_g (lw_at lw_m3 194 rfl) rfl
theorem q800 : (Jvm.Cond.code ({ cls := "HeirCases$Reader", name := "number", desc := "(II)I" } : Jvm.MethodName) prog_12_method_12_code (4 : Nat) (Option.some Jvm.ClassFile.FieldType.int)) ∈ lw_all := lw_g (lw_at lw_m3 195 rfl) rfl
theorem q801 : (Jvm.Cond.stringRef "HeirCases$Reader" (69 : Nat) "rest") ∈ lw_tbl := lw_at lw_m3 196 rfl
theorem q802 : (Jvm.Cond.classLink "HeirCases$Reader" (71 : Nat) "HeirCases$Will") ∈ lw_all := lw_g (lw_at lw_m3 197 rfl) rfl
theorem q804 : (Jvm.Cond.methodLink "HeirCases$Reader" (73 : Nat) ({ cls := "HeirCases$Will", name := "<init>", desc := "([III)V" } : Jvm.MethodName)) ∈ lw_all := lw_g (lw_at lw_m3 199 rfl) rfl
theorem q840 : (Jvm.Cond.fieldLink "HeirCases$Reader" (247 : Nat) "HeirCases$Will" "values" "[I") ∈ lw_all := lw_g (lw_at lw_m3 235 rfl) rfl
theorem q843 : (Jvm.Cond.fieldLink "HeirCases$Reader" (157 : Nat) "HeirCases$Will" "heirs" "I") ∈ lw_all := lw_g (lw_at lw_m3 238 rfl) rfl
theorem q845 : (Jvm.Cond.fieldLink "HeirCases$Reader" (161 : Nat) "HeirCases$Will" "free" "[I") ∈ lw_all := lw_g (lw_at lw_m4 0 rfl) rfl
theorem q848 : (Jvm.Cond.fieldLink "HeirCases$Reader" (166 : Nat) "HeirCases$Will" "rates" "[I") ∈ lw_all := lw_g (lw_at lw_m4 3 rfl) rfl
theorem q852 : (Jvm.Cond.fieldLink "HeirCases$Reader" (169 : Nat) "HeirCases$Will" "rules" "Ljava/util/ArrayList;") ∈ lw_all := lw_g (lw_at lw_m4 7 rfl) rfl
theorem q857 : (Jvm.Cond.fieldLink "HeirCases$Reader" (155 : Nat) "HeirCases$Will" "estate" "I") ∈ lw_all := lw_g (lw_at lw_m4 12 rfl) rfl
theorem q880 : (Jvm.Cond.methodLink "HeirCases$Reader" (83 : Nat) ({ cls := "HeirCases$Reader", name := "line", desc := "()V" } : Jvm.MethodName)) ∈ lw_all := lw_g (lw_at lw_m4 35 rfl) rfl
theorem q881 : (Jvm.Cond.privateMethod ({ cls := "HeirCases$Reader", name := "line", desc := "()V" } : Jvm.MethodName)) ∈ lw_tbl := lw_at lw_m4 36 rfl
theorem q882 : (Jvm.Cond.instanceMethod ({ cls := "HeirCases$Reader", name := "line", desc := "()V" } : Jvm.MethodName)) ∈ lw_all := lw_g (lw_at lw_m4 37 rfl) rfl
theorem q883 : (Jvm.Cond.code ({ cls := "HeirCases$Reader", name := "line", desc := "()V" } : Jvm.MethodName) prog_12_method_14_code (4 : Nat) (Option.none : Option Jvm.ClassFile.FieldType)) ∈ lw_all := lw_g (lw_at lw_m4 38 rfl) rfl
theorem q884 : (Jvm.Cond.methodLink "HeirCases$Reader" (146 : Nat) ({ cls := "java/lang/String", name := "hashCode", desc := "()I" } : Jvm.MethodName)) ∈ lw_all := lw_g (lw_at lw_m4 39 rfl) rfl
theorem q941 : (Jvm.Cond.stringRef "HeirCases$Reader" (150 : Nat) "estate") ∈ lw_tbl := lw_at lw_m4 96 rfl
theorem q942 : (Jvm.Cond.stringRef "HeirCases$Reader" (152 : Nat) "heir") ∈ lw_tbl := lw_at lw_m4 97 rfl
theorem q943 : (Jvm.Cond.stringRef "HeirCases$Reader" (154 : Nat) "rule") ∈ lw_tbl := lw_at lw_m4 98 rfl
theorem q944 : (Jvm.Cond.stringRef "HeirCases$Reader" (159 : Nat) "free") ∈ lw_tbl := lw_at lw_m4 99 rfl
theorem q945 : (Jvm.Cond.stringRef "HeirCases$Reader" (164 : Nat) "rate") ∈ lw_tbl := lw_at lw_m4 100 rfl
theorem q946 : (Jvm.Cond.methodLink "HeirCases$Reader" (173 : Nat) ({ cls := "java/util/ArrayList", name := "size", desc := "()I" } : Jvm.MethodName)) ∈ lw_all := lw_g (lw_at lw_m4 101 rfl) rfl
theorem q950 : (Jvm.Cond.methodLink "HeirCases$Reader" (86 : Nat) ({ cls := "HeirCases$Reader", name := "rule", desc := "()V" } : Jvm.MethodName)) ∈ lw_all := lw_g (lw_at lw_m4 105 rfl) rfl
theorem q951 : (Jvm.Cond.privateMethod ({ cls := "HeirCases$Reader", name := "rule", desc := "()V" } : Jvm.MethodName)) ∈ lw_tbl := lw_at lw_m4 106 rfl
theorem q952 : (Jvm.Cond.instanceMethod ({ cls := "HeirCases$Reader", name := "rule", desc := "()V" } : Jvm.MethodName)) ∈ lw_all := lw_g (lw_at lw_m4 107 rfl) rfl
theorem q953 : (Jvm.Cond.code ({ cls := "HeirCases$Reader", name := "rule", desc := "()V" } : Jvm.MethodName) prog_12_method_15_code (3 : Nat) (Option.none : Option Jvm.ClassFile.FieldType)) ∈ lw_all := lw_g (lw_at lw_m4 108 rfl) rfl
theorem q954 : (Jvm.Cond.methodLink "HeirCases$Reader" (184 : Nat) ({ cls := "HeirCases$Reader", name := "guard", desc := "(I)LHeirCases$Guard;" } : Jvm.MethodName)) ∈ lw_all := lw_g (lw_at lw_m4 109 rfl) rfl
theorem q955 : (Jvm.Cond.privateMethod ({ cls := "HeirCases$Reader", name := "guard", desc := "(I)LHeirCases$Guard;" } : Jvm.MethodName)) ∈ lw_tbl := lw_at lw_m4 110 rfl
theorem q956 : (Jvm.Cond.instanceMethod ({ cls := "HeirCases$Reader", name := "guard", desc := "(I)LHeirCases$Guard;" } : Jvm.MethodName)) ∈ lw_all := lw_g (lw_at lw_m4 111 rfl) rfl
theorem q957 : (Jvm.Cond.code ({ cls := "HeirCases$Reader", name := "guard", desc := "(I)LHeirCases$Guard;" } : Jvm.MethodName) prog_12_method_17_code (4 : Nat) (Option.some (Jvm.ClassFile.FieldType.object "HeirCases$Guard"))) ∈ lw_all := lw_g (lw_at lw_m4 112 rfl) rfl
theorem q958 : (Jvm.Cond.methodLink "HeirCases$Reader" (215 : Nat) ({ cls := "HeirCases$Reader", name := "term", desc := "(I)LHeirCases$Guard;" } : Jvm.MethodName)) ∈ lw_all := lw_g (lw_at lw_m4 113 rfl) rfl
theorem q959 : (Jvm.Cond.privateMethod ({ cls := "HeirCases$Reader", name := "term", desc := "(I)LHeirCases$Guard;" } : Jvm.MethodName)) ∈ lw_tbl := lw_at lw_m4 114 rfl
theorem q960 : (Jvm.Cond.instanceMethod ({ cls := "HeirCases$Reader", name := "term", desc := "(I)LHeirCases$Guard;" } : Jvm.MethodName)) ∈ lw_all := lw_g (lw_at lw_m4 115 rfl) rfl
theorem q961 : (Jvm.Cond.code ({ cls := "HeirCases$Reader", name := "term", desc := "(I)LHeirCases$Guard;" } : Jvm.MethodName) prog_12_method_18_code (4 : Nat) (Option.some (Jvm.ClassFile.FieldType.object "HeirCases$Guard"))) ∈ lw_all := lw_g (lw_at lw_m4 116 rfl) rfl
theorem q962 : (Jvm.Cond.methodLink "HeirCases$Reader" (227 : Nat) ({ cls := "HeirCases$Reader", name := "factor", desc := "(I)LHeirCases$Guard;" } : Jvm.MethodName)) ∈ lw_all := lw_g (lw_at lw_m4 117 rfl) rfl
theorem q963 : (Jvm.Cond.privateMethod ({ cls := "HeirCases$Reader", name := "factor", desc := "(I)LHeirCases$Guard;" } : Jvm.MethodName)) ∈ lw_tbl := lw_at lw_m4 118 rfl
theorem q964 : (Jvm.Cond.instanceMethod ({ cls := "HeirCases$Reader", name := "factor", desc := "(I)LHeirCases$Guard;" } : Jvm.MethodName)) ∈ lw_all := lw_g (lw_at lw_m4 119 rfl) rfl
theorem q965 : (Jvm.Cond.code ({ cls := "HeirCases$Reader", name := "factor", desc := "(I)LHeirCases$Guard;" } : Jvm.MethodName) prog_12_method_19_code (3 : Nat) (Option.some (Jvm.ClassFile.FieldType.object "HeirCases$Guard"))) ∈ lw_all := lw_g (lw_at lw_m4 120 rfl) rfl
theorem q966 : (Jvm.Cond.stringRef "HeirCases$Reader" (232 : Nat) "not") ∈ lw_tbl := lw_at lw_m4 121 rfl
theorem q967 : (Jvm.Cond.methodLinkNest "HeirCases$Reader" (234 : Nat) ({ cls := "HeirCases", name := "not", desc := "(LHeirCases$Guard;)LHeirCases$Guard;" } : Jvm.MethodName) "HeirCases") ∈ lw_tbl := lw_at lw_m4 122 rfl
theorem q980 : (Jvm.Cond.methodLink "HeirCases$Reader" (237 : Nat) ({ cls := "HeirCases$Reader", name := "simple", desc := "()LHeirCases$Guard;" } : Jvm.MethodName)) ∈ lw_all := lw_g (lw_at lw_m4 135 rfl) rfl
theorem q981 : (Jvm.Cond.privateMethod ({ cls := "HeirCases$Reader", name := "simple", desc := "()LHeirCases$Guard;" } : Jvm.MethodName)) ∈ lw_tbl := lw_at lw_m4 136 rfl
theorem q982 : (Jvm.Cond.instanceMethod ({ cls := "HeirCases$Reader", name := "simple", desc := "()LHeirCases$Guard;" } : Jvm.MethodName)) ∈ lw_all := lw_g (lw_at lw_m4 137 rfl) rfl
theorem q983 : (Jvm.Cond.code ({ cls := "HeirCases$Reader", name := "simple", desc := "()LHeirCases$Guard;" } : Jvm.MethodName) prog_12_method_20_code (4 : Nat) (Option.some (Jvm.ClassFile.FieldType.object "HeirCases$Guard"))) ∈ lw_all := lw_g (lw_at lw_m4 138 rfl) rfl
theorem q984 : (Jvm.Cond.stringRef "HeirCases$Reader" (241 : Nat) "always") ∈ lw_tbl := lw_at lw_m4 139 rfl
theorem q985 : (Jvm.Cond.methodLink "HeirCases$Reader" (243 : Nat) ({ cls := "java/lang/String", name := "length", desc := "()I" } : Jvm.MethodName)) ∈ lw_all := lw_g (lw_at lw_m4 140 rfl) rfl
theorem q986 : (Jvm.Cond.methodLink "HeirCases$Reader" (246 : Nat) ({ cls := "java/lang/String", name := "charAt", desc := "(I)C" } : Jvm.MethodName)) ∈ lw_all := lw_g (lw_at lw_m4 141 rfl) rfl
theorem q987 : (Jvm.Cond.methodLinkNest "HeirCases$Reader" (250 : Nat) ({ cls := "HeirCases", name := "always", desc := "()LHeirCases$Guard;" } : Jvm.MethodName) "HeirCases") ∈ lw_tbl := lw_at lw_m4 142 rfl
theorem q997 : (Jvm.Cond.stringRef "HeirCases$Reader" (252 : Nat) "=<>") ∈ lw_tbl := lw_at lw_m4 152 rfl
theorem q998 : (Jvm.Cond.classLink "HeirCases$Reader" (254 : Nat) "HeirCases$Comparison") ∈ lw_all := lw_g (lw_at lw_m4 153 rfl) rfl
theorem q1000 : (Jvm.Cond.methodLink "HeirCases$Reader" (256 : Nat) ({ cls := "HeirCases$Comparison", name := "<init>", desc := "(ICI)V" } : Jvm.MethodName)) ∈ lw_all := lw_g (lw_at lw_m4 155 rfl) rfl
theorem q1023 : (Jvm.Cond.stringRef "HeirCases$Reader" (230 : Nat) "and") ∈ lw_tbl := lw_at lw_m4 178 rfl
theorem q1024 : (Jvm.Cond.classLink "HeirCases$Reader" (220 : Nat) "HeirCases$Joined") ∈ lw_all := lw_g (lw_at lw_m4 179 rfl) rfl
theorem q1026 : (Jvm.Cond.methodLink "HeirCases$Reader" (222 : Nat) ({ cls := "HeirCases$Joined", name := "<init>", desc := "(Z)V" } : Jvm.MethodName)) ∈ lw_all := lw_g (lw_at lw_m4 181 rfl) rfl
theorem q1033 : (Jvm.Cond.fieldLinkNest "HeirCases$Reader" (225 : Nat) "HeirCases$Joined" "parts" "Ljava/util/ArrayList;" "HeirCases") ∈ lw_tbl := lw_at lw_m4 188 rfl
theorem q1040 : (Jvm.Cond.methodLink "HeirCases$Reader" (208 : Nat) ({ cls := "java/util/ArrayList", name := "add", desc := "(Ljava/lang/Object;)Z" } : Jvm.MethodName)) ∈ lw_all := lw_g (lw_at lw_m4 195 rfl) rfl
theorem q1070 : (Jvm.Cond.selects "HeirCases$Reader" ({ cls := "java/lang/Object", name := "getClass", desc := "()Ljava/lang/Class;" } : Jvm.MethodName) ({ cls := "java/lang/Object", name := "getClass", desc := "()Ljava/lang/Class;" } : Jvm.MethodName)) ∈ lw_all := lw_g (lw_at lw_m4 225 rfl) rfl
theorem q1094 : (Jvm.Cond.stringRef "HeirCases$Reader" (218 : Nat) "or") ∈ lw_tbl := lw_at lw_m5 9 rfl
theorem q1095 : (Jvm.Cond.classLink "HeirCases$Reader" (188 : Nat) "HeirCases$Rule") ∈ lw_all := lw_g (lw_at lw_m5 10 rfl) rfl
theorem q1097 : (Jvm.Cond.methodLink "HeirCases$Reader" (190 : Nat) ({ cls := "HeirCases$Rule", name := "<init>", desc := "(LHeirCases$Guard;I)V" } : Jvm.MethodName)) ∈ lw_all := lw_g (lw_at lw_m5 12 rfl) rfl
theorem q1111 : (Jvm.Cond.fieldLink "HeirCases$Reader" (203 : Nat) "HeirCases$Rule" "over" "I") ∈ lw_all := lw_g (lw_at lw_m5 26 rfl) rfl
theorem q1122 : (Jvm.Cond.stringRef "HeirCases$Reader" (193 : Nat) "gives") ∈ lw_tbl := lw_at lw_m5 37 rfl
theorem q1123 : (Jvm.Cond.stringRef "HeirCases$Reader" (195 : Nat) "nothing") ∈ lw_tbl := lw_at lw_m5 38 rfl
theorem q1124 : (Jvm.Cond.methodLink "HeirCases$Reader" (197 : Nat) ({ cls := "HeirCases$Reader", name := "parts", desc := "(LHeirCases$Rule;)V" } : Jvm.MethodName)) ∈ lw_all := lw_g (lw_at lw_m5 39 rfl) rfl
theorem q1125 : (Jvm.Cond.privateMethod ({ cls := "HeirCases$Reader", name := "parts", desc := "(LHeirCases$Rule;)V" } : Jvm.MethodName)) ∈ lw_tbl := lw_at lw_m5 40 rfl
theorem q1126 : (Jvm.Cond.instanceMethod ({ cls := "HeirCases$Reader", name := "parts", desc := "(LHeirCases$Rule;)V" } : Jvm.MethodName)) ∈ lw_all := lw_g (lw_at lw_m5 41 rfl) rfl
theorem q1127 : (Jvm.Cond.code ({ cls := "HeirCases$Reader", name := "parts", desc := "(LHeirCases$Rule;)V" } : Jvm.MethodName) prog_12_method_16_code (7 : Nat) (Option.none : Option Jvm.ClassFile.FieldType)) ∈ lw_all := lw_g (lw_at lw_m5 42 rfl) rfl
theorem q1128 : (Jvm.Cond.methodLink "HeirCases$Reader" (205 : Nat) ({ cls := "HeirCases$Reader", name := "newIn", desc := "(II)I" } : Jvm.MethodName)) ∈ lw_all := lw_g (lw_at lw_m5 43 rfl) rfl
theorem q1129 : (Jvm.Cond.privateMethod ({ cls := "HeirCases$Reader", name := "newIn", desc := "(II)I" } : Jvm.MethodName)) ∈ lw_tbl := lw_at lw_m5 44 rfl
theorem q1130 : (Jvm.Cond.instanceMethod ({ cls := "HeirCases$Reader", name := "newIn", desc := "(II)I" } : Jvm.MethodName)) ∈ lw_all := lw_g (lw_at lw_m5 45 rfl) rfl
theorem q1131 : (Jvm.Cond.code ({ cls := "HeirCases$Reader", name := "newIn", desc := "(II)I" } : Jvm.MethodName) prog_12_method_13_code (4 : Nat) (Option.some Jvm.ClassFile.FieldType.int)) ∈ lw_all := lw_g (lw_at lw_m5 46 rfl) rfl
theorem q1132 : (Jvm.Cond.methodLink "HeirCases$Reader" (211 : Nat) ({ cls := "HeirCases$Will", name := "setShare", desc := "(LHeirCases$Rule;III)Z" } : Jvm.MethodName)) ∈ lw_all := lw_g (lw_at lw_m5 47 rfl) rfl
theorem q1144 : (Jvm.Cond.stringRef "HeirCases$Reader" (201 : Nat) "over") ∈ lw_tbl := lw_at lw_m5 59 rfl
theorem q1961 : (Jvm.Cond.instanceMethod ({ cls := "HeirCases$Reader", name := "readRule", desc := "(LHeirCases$Will;)V" } : Jvm.MethodName)) ∈ lw_all := lw_g (lw_at lw_m8 156 rfl) rfl
theorem q1962 : (Jvm.Cond.selects "HeirCases$Reader" ({ cls := "HeirCases$Reader", name := "readRule", desc := "(LHeirCases$Will;)V" } : Jvm.MethodName) ({ cls := "HeirCases$Reader", name := "readRule", desc := "(LHeirCases$Will;)V" } : Jvm.MethodName)) ∈ lw_all := lw_g (lw_at lw_m8 157 rfl) rfl
theorem q1963 : (Jvm.Cond.code ({ cls := "HeirCases$Reader", name := "readRule", desc := "(LHeirCases$Will;)V" } : Jvm.MethodName) prog_12_method_3_code (2 : Nat) (Option.none : Option Jvm.ClassFile.FieldType)) ∈ lw_all := lw_g (lw_at lw_m8 158 rfl) rfl
theorem q2718 : (Jvm.Cond.castable "HeirCases$Reader" "java/lang/Object") ∈ lw_tbl := lw_at lw_m11 193 rfl
theorem in_X2 : ∀ w ∈ wsX20, w ∈ lw_all := lw_in wsX20 [268, 270, 272, 274, 276, 278, 280, 282, 284, 286] (by decide +kernel) (by decide +kernel)
/-! HeirCases$Fault -/
set_option maxRecDepth 100000
def RX3 : String := "HeirCases$Fault"
def TX3 : u_T := fun k => match k with
  | 0 => ("java/lang/Throwable", "cause", "Ljava/lang/Throwable;", false)
  | 1 => ("java/lang/Throwable", "stackTrace", "[Ljava/lang/StackTraceElement;", false)
  | 2 => ("java/lang/Throwable", "suppressedExceptions", "Ljava/util/List;", false)
  | 3 => ("java/lang/Throwable", "detailMessage", "Ljava/lang/String;", false)
  | 4 => ("java/lang/Throwable", "backtrace", "Ljava/lang/Object;", false)
  | 5 => ("java/lang/Throwable", "depth", "I", false)
  | 6 => ("HeirCases$Fault", "offset", "I", true)
  | _ => ("HeirCases$Fault", "code", "I", true)
def tyX3 : Nat → FieldType := fun k => match k with
  | 0 => .object "java/lang/Throwable"
  | 1 => .array (.object "java/lang/StackTraceElement")
  | 2 => .object "java/util/List"
  | 3 => .object "java/lang/String"
  | 4 => .object "java/lang/Object"
  | 5 => .int
  | 6 => .int
  | _ => .int
abbrev wsX30 : List Cond := u_ws RX3 TX3 8
theorem nmX3 : ∀ a, a < 8 → ∀ b, b < 8 → a ≠ b → (TX3 a).2.1 ≠ (TX3 b).2.1 := by decide +kernel
theorem tyX3_ok : ∀ k, k < 8 → parseFieldDescriptor (TX3 k).2.2.1 = some (tyX3 k) := by decide +kernel
abbrev cX3_init : ByteArray := prog_7_method_1_code
def yX3_init : MethodName := ⟨RX3, "<init>", "(II)V"⟩
def dkwX3_init_0 : List UInt8 := [42, 183, 0, 1, 42, 27, 181, 0, 7, 42, 28, 181, 0, 13, 177]
abbrev dktX3_init_0 : List UInt8 := dkwX3_init_0 ++ []
theorem dksX3_init_0 : cX3_init.data.toList.drop 0 = dktX3_init_0 := by decide +kernel
theorem dX3_init_0 : decode cX3_init 0 = .ok (.aload_n 0, 1) := dk_42 (dk_at dksX3_init_0 0 rfl rfl)
theorem dX3_init_1 : decode cX3_init 1 = .ok (.invokespecial 1, 3) := dk_183 0 1 (dk_at dksX3_init_0 1 rfl rfl)
theorem dX3_init_4 : decode cX3_init 4 = .ok (.aload_n 0, 1) := dk_42 (dk_at dksX3_init_0 4 rfl rfl)
theorem dX3_init_5 : decode cX3_init 5 = .ok (.iload_n 1, 1) := dk_27 (dk_at dksX3_init_0 5 rfl rfl)
theorem dX3_init_6 : decode cX3_init 6 = .ok (.putfield 7, 3) := dk_181 0 7 (dk_at dksX3_init_0 6 rfl rfl)
theorem dX3_init_9 : decode cX3_init 9 = .ok (.aload_n 0, 1) := dk_42 (dk_at dksX3_init_0 9 rfl rfl)
theorem dX3_init_10 : decode cX3_init 10 = .ok (.iload_n 2, 1) := dk_28 (dk_at dksX3_init_0 10 rfl rfl)
theorem dX3_init_11 : decode cX3_init 11 = .ok (.putfield 13, 3) := dk_181 0 13 (dk_at dksX3_init_0 11 rfl rfl)
theorem dX3_init_14 : decode cX3_init 14 = .ok (.return_, 1) := dk_177 (dk_at dksX3_init_0 14 rfl rfl)
theorem q149 : (Jvm.Cond.initialized "HeirCases$Fault") ∈ lw_all := lw_g (lw_at lw_m1 24 rfl) rfl
theorem q429 : (Jvm.Cond.selects "HeirCases$Fault" ({ cls := "java/lang/Throwable", name := "fillInStackTrace", desc := "()Ljava/lang/Throwable;" } : Jvm.MethodName) ({ cls := "java/lang/Throwable", name := "fillInStackTrace", desc := "()Ljava/lang/Throwable;" } : Jvm.MethodName)) ∈ lw_all := lw_g (lw_at lw_m2 64 rfl) rfl
theorem q754 : (Jvm.Cond.instantiable "HeirCases$Fault" (8 : Nat)) ∈ lw_all := lw_g (lw_at lw_m3 149 rfl) rfl
theorem q755 : (Jvm.Cond.castable "HeirCases$Fault" "HeirCases$Fault") ∈ lw_tbl := lw_at lw_m3 150 rfl
theorem q756 : (Jvm.Cond.selects "HeirCases$Fault" ({ cls := "java/lang/Throwable", name := "fillInStackTrace", desc := "(I)Ljava/lang/Throwable;" } : Jvm.MethodName) ({ cls := "java/lang/Throwable", name := "fillInStackTrace", desc := "(I)Ljava/lang/Throwable;" } : Jvm.MethodName)) ∈ lw_all := lw_g (lw_at lw_m3 151 rfl) rfl
theorem q757 : (Jvm.Cond.lays "HeirCases$Fault" "java/lang/Throwable" "cause" "Ljava/lang/Throwable;") ∈ lw_all := lw_g (lw_at lw_m3 152 rfl) rfl
theorem q758 : (Jvm.Cond.lays "HeirCases$Fault" "java/lang/Throwable" "stackTrace" "[Ljava/lang/StackTraceElement;") ∈ lw_all := lw_g (lw_at lw_m3 153 rfl) rfl
theorem q759 : (Jvm.Cond.lays "HeirCases$Fault" "java/lang/Throwable" "suppressedExceptions" "Ljava/util/List;") ∈ lw_all := lw_g (lw_at lw_m3 154 rfl) rfl
theorem q760 : (Jvm.Cond.lays "HeirCases$Fault" "java/lang/Throwable" "detailMessage" "Ljava/lang/String;") ∈ lw_all := lw_g (lw_at lw_m3 155 rfl) rfl
theorem q761 : (Jvm.Cond.lays "HeirCases$Fault" "java/lang/Throwable" "backtrace" "Ljava/lang/Object;") ∈ lw_all := lw_g (lw_at lw_m3 156 rfl) rfl
theorem q763 : (Jvm.Cond.instanceMethod ({ cls := "HeirCases$Fault", name := "<init>", desc := "(II)V" } : Jvm.MethodName)) ∈ lw_all := lw_g (lw_at lw_m3 158 rfl) rfl
theorem q764 : (Jvm.Cond.code ({ cls := "HeirCases$Fault", name := "<init>", desc := "(II)V" } : Jvm.MethodName) prog_7_method_1_code (3 : Nat) (Option.none : Option Jvm.ClassFile.FieldType)) ∈ lw_all := lw_g (lw_at lw_m3 159 rfl) rfl
theorem q765 : (Jvm.Cond.methodLink "HeirCases$Fault" (1 : Nat) ({ cls := "java/lang/Exception", name := "<init>", desc := "()V" } : Jvm.MethodName)) ∈ lw_all := lw_g (lw_at lw_m3 160 rfl) rfl
theorem q769 : (Jvm.Cond.fieldLink "HeirCases$Fault" (7 : Nat) "HeirCases$Fault" "offset" "I") ∈ lw_all := lw_g (lw_at lw_m3 164 rfl) rfl
theorem q771 : (Jvm.Cond.fieldLink "HeirCases$Fault" (13 : Nat) "HeirCases$Fault" "code" "I") ∈ lw_all := lw_g (lw_at lw_m3 166 rfl) rfl
theorem q773 : (Jvm.Cond.laysFinal "HeirCases$Fault" "HeirCases$Fault" "offset" "I") ∈ lw_all := lw_g (lw_at lw_m3 168 rfl) rfl
theorem q774 : (Jvm.Cond.soleField "HeirCases$Fault" "offset") ∈ lw_all := lw_g (lw_at lw_m3 169 rfl) rfl
theorem q775 : (Jvm.Cond.laysFinal "HeirCases$Fault" "HeirCases$Fault" "code" "I") ∈ lw_all := lw_g (lw_at lw_m3 170 rfl) rfl
theorem q776 : (Jvm.Cond.soleField "HeirCases$Fault" "code") ∈ lw_all := lw_g (lw_at lw_m3 171 rfl) rfl
theorem q777 : (Jvm.Cond.lays "HeirCases$Fault" "java/lang/Throwable" "depth" "I") ∈ lw_all := lw_g (lw_at lw_m3 172 rfl) rfl
theorem q778 : (Jvm.Cond.superclass "HeirCases$Fault" "java/lang/Exception") ∈ lw_all := lw_g (lw_at lw_m3 173 rfl) rfl
theorem q1067 : (Jvm.Cond.selects "HeirCases$Fault" ({ cls := "java/lang/Object", name := "getClass", desc := "()Ljava/lang/Class;" } : Jvm.MethodName) ({ cls := "java/lang/Object", name := "getClass", desc := "()Ljava/lang/Class;" } : Jvm.MethodName)) ∈ lw_all := lw_g (lw_at lw_m4 222 rfl) rfl
theorem q2722 : (Jvm.Cond.castable "HeirCases$Fault" "java/lang/Object") ∈ lw_tbl := lw_at lw_m11 197 rfl
theorem in_X3 : ∀ w ∈ wsX30, w ∈ lw_all := lw_in wsX30 [757, 758, 759, 760, 761, 777, 773, 775] (by decide +kernel) (by decide +kernel)
/-! HeirCases$Will -/
set_option maxRecDepth 100000
def RX4 : String := "HeirCases$Will"
def TX4 : u_T := fun k => match k with
  | 0 => ("HeirCases$Will", "values", "[I", true)
  | 1 => ("HeirCases$Will", "heirs", "I", true)
  | 2 => ("HeirCases$Will", "free", "[I", true)
  | 3 => ("HeirCases$Will", "rates", "[I", true)
  | 4 => ("HeirCases$Will", "rules", "Ljava/util/ArrayList;", true)
  | 5 => ("HeirCases$Will", "found", "[LHeirCases$Finding;", true)
  | 6 => ("HeirCases$Will", "rest", "I", false)
  | 7 => ("HeirCases$Will", "estate", "I", false)
  | _ => ("HeirCases$Will", "atHand", "I", false)
def tyX4 : Nat → FieldType := fun k => match k with
  | 0 => .array .int
  | 1 => .int
  | 2 => .array .int
  | 3 => .array .int
  | 4 => .object "java/util/ArrayList"
  | 5 => .array (.object "HeirCases$Finding")
  | 6 => .int
  | 7 => .int
  | _ => .int
abbrev wsX40 : List Cond := u_ws RX4 TX4 9
theorem nmX4 : ∀ a, a < 9 → ∀ b, b < 9 → a ≠ b → (TX4 a).2.1 ≠ (TX4 b).2.1 := by decide +kernel
theorem tyX4_ok : ∀ k, k < 9 → parseFieldDescriptor (TX4 k).2.2.1 = some (tyX4 k) := by decide +kernel
abbrev cX4_init : ByteArray := prog_15_method_1_code
def yX4_init : MethodName := ⟨RX4, "<init>", "([III)V"⟩
def dkwX4_init_3 : List UInt8 := [181, 0, 35, 42, 42, 182, 0, 38, 189, 0, 42, 181, 0, 44, 177]
abbrev dktX4_init_3 : List UInt8 := dkwX4_init_3 ++ []
def dkwX4_init_2 : List UInt8 := [181, 0, 21, 42, 17, 3, 232, 181, 0, 25, 42, 43, 181, 0, 29, 42, 28, 181, 0, 32, 42, 29]
abbrev dktX4_init_2 : List UInt8 := dkwX4_init_2 ++ dktX4_init_3
def dkwX4_init_1 : List UInt8 := [79, 89, 5, 16, 10, 79, 89, 6, 16, 10, 79, 181, 0, 15, 42, 187, 0, 18, 89, 183, 0, 20]
abbrev dktX4_init_1 : List UInt8 := dkwX4_init_1 ++ dktX4_init_2
def dkwX4_init_0 : List UInt8 := [42, 183, 0, 3, 42, 7, 188, 10, 181, 0, 9, 42, 7, 188, 10, 89, 3, 16, 10, 79, 89, 4, 16, 10]
abbrev dktX4_init_0 : List UInt8 := dkwX4_init_0 ++ dktX4_init_1
theorem dksX4_init_0 : cX4_init.data.toList.drop 0 = dktX4_init_0 := by decide +kernel
theorem dksX4_init_1 : cX4_init.data.toList.drop 24 = dktX4_init_1 := dk_seg dksX4_init_0 24 rfl rfl
theorem dksX4_init_2 : cX4_init.data.toList.drop 46 = dktX4_init_2 := dk_seg dksX4_init_1 22 rfl rfl
theorem dksX4_init_3 : cX4_init.data.toList.drop 68 = dktX4_init_3 := dk_seg dksX4_init_2 22 rfl rfl
theorem dX4_init_0 : decode cX4_init 0 = .ok (.aload_n 0, 1) := dk_42 (dk_at dksX4_init_0 0 rfl rfl)
theorem dX4_init_1 : decode cX4_init 1 = .ok (.invokespecial 3, 3) := dk_183 0 3 (dk_at dksX4_init_0 1 rfl rfl)
theorem dX4_init_4 : decode cX4_init 4 = .ok (.aload_n 0, 1) := dk_42 (dk_at dksX4_init_0 4 rfl rfl)
theorem dX4_init_5 : decode cX4_init 5 = .ok (.iconst 4, 1) := dk_7 (dk_at dksX4_init_0 5 rfl rfl)
theorem dX4_init_6 : decode cX4_init 6 = .ok (.newarray .int, 2) := dk_188_10 (dk_at dksX4_init_0 6 rfl rfl)
theorem dX4_init_8 : decode cX4_init 8 = .ok (.putfield 9, 3) := dk_181 0 9 (dk_at dksX4_init_0 8 rfl rfl)
theorem dX4_init_11 : decode cX4_init 11 = .ok (.aload_n 0, 1) := dk_42 (dk_at dksX4_init_0 11 rfl rfl)
theorem dX4_init_12 : decode cX4_init 12 = .ok (.iconst 4, 1) := dk_7 (dk_at dksX4_init_0 12 rfl rfl)
theorem dX4_init_13 : decode cX4_init 13 = .ok (.newarray .int, 2) := dk_188_10 (dk_at dksX4_init_0 13 rfl rfl)
theorem dX4_init_15 : decode cX4_init 15 = .ok (.dup, 1) := dk_89 (dk_at dksX4_init_0 15 rfl rfl)
theorem dX4_init_16 : decode cX4_init 16 = .ok (.iconst 0, 1) := dk_3 (dk_at dksX4_init_0 16 rfl rfl)
theorem dX4_init_17 : decode cX4_init 17 = .ok (.bipush 10, 2) := dk_16 10 (dk_at dksX4_init_0 17 rfl rfl)
theorem dX4_init_19 : decode cX4_init 19 = .ok (.iastore, 1) := dk_79 (dk_at dksX4_init_0 19 rfl rfl)
theorem dX4_init_20 : decode cX4_init 20 = .ok (.dup, 1) := dk_89 (dk_at dksX4_init_0 20 rfl rfl)
theorem dX4_init_21 : decode cX4_init 21 = .ok (.iconst 1, 1) := dk_4 (dk_at dksX4_init_0 21 rfl rfl)
theorem dX4_init_22 : decode cX4_init 22 = .ok (.bipush 10, 2) := dk_16 10 (dk_at dksX4_init_0 22 rfl rfl)
theorem dX4_init_24 : decode cX4_init 24 = .ok (.iastore, 1) := dk_79 (dk_at dksX4_init_1 0 rfl rfl)
theorem dX4_init_25 : decode cX4_init 25 = .ok (.dup, 1) := dk_89 (dk_at dksX4_init_1 1 rfl rfl)
theorem dX4_init_26 : decode cX4_init 26 = .ok (.iconst 2, 1) := dk_5 (dk_at dksX4_init_1 2 rfl rfl)
theorem dX4_init_27 : decode cX4_init 27 = .ok (.bipush 10, 2) := dk_16 10 (dk_at dksX4_init_1 3 rfl rfl)
theorem dX4_init_29 : decode cX4_init 29 = .ok (.iastore, 1) := dk_79 (dk_at dksX4_init_1 5 rfl rfl)
theorem dX4_init_30 : decode cX4_init 30 = .ok (.dup, 1) := dk_89 (dk_at dksX4_init_1 6 rfl rfl)
theorem dX4_init_31 : decode cX4_init 31 = .ok (.iconst 3, 1) := dk_6 (dk_at dksX4_init_1 7 rfl rfl)
theorem dX4_init_32 : decode cX4_init 32 = .ok (.bipush 10, 2) := dk_16 10 (dk_at dksX4_init_1 8 rfl rfl)
theorem dX4_init_34 : decode cX4_init 34 = .ok (.iastore, 1) := dk_79 (dk_at dksX4_init_1 10 rfl rfl)
theorem dX4_init_35 : decode cX4_init 35 = .ok (.putfield 15, 3) := dk_181 0 15 (dk_at dksX4_init_1 11 rfl rfl)
theorem dX4_init_38 : decode cX4_init 38 = .ok (.aload_n 0, 1) := dk_42 (dk_at dksX4_init_1 14 rfl rfl)
theorem dX4_init_39 : decode cX4_init 39 = .ok (.new 18, 3) := dk_187 0 18 (dk_at dksX4_init_1 15 rfl rfl)
theorem dX4_init_42 : decode cX4_init 42 = .ok (.dup, 1) := dk_89 (dk_at dksX4_init_1 18 rfl rfl)
theorem dX4_init_43 : decode cX4_init 43 = .ok (.invokespecial 20, 3) := dk_183 0 20 (dk_at dksX4_init_1 19 rfl rfl)
theorem dX4_init_46 : decode cX4_init 46 = .ok (.putfield 21, 3) := dk_181 0 21 (dk_at dksX4_init_2 0 rfl rfl)
theorem dX4_init_49 : decode cX4_init 49 = .ok (.aload_n 0, 1) := dk_42 (dk_at dksX4_init_2 3 rfl rfl)
theorem dX4_init_50 : decode cX4_init 50 = .ok (.sipush 1000, 3) := dk_17 3 232 (dk_at dksX4_init_2 4 rfl rfl)
theorem dX4_init_53 : decode cX4_init 53 = .ok (.putfield 25, 3) := dk_181 0 25 (dk_at dksX4_init_2 7 rfl rfl)
theorem dX4_init_56 : decode cX4_init 56 = .ok (.aload_n 0, 1) := dk_42 (dk_at dksX4_init_2 10 rfl rfl)
theorem dX4_init_57 : decode cX4_init 57 = .ok (.aload_n 1, 1) := dk_43 (dk_at dksX4_init_2 11 rfl rfl)
theorem dX4_init_58 : decode cX4_init 58 = .ok (.putfield 29, 3) := dk_181 0 29 (dk_at dksX4_init_2 12 rfl rfl)
theorem dX4_init_61 : decode cX4_init 61 = .ok (.aload_n 0, 1) := dk_42 (dk_at dksX4_init_2 15 rfl rfl)
theorem dX4_init_62 : decode cX4_init 62 = .ok (.iload_n 2, 1) := dk_28 (dk_at dksX4_init_2 16 rfl rfl)
theorem dX4_init_63 : decode cX4_init 63 = .ok (.putfield 32, 3) := dk_181 0 32 (dk_at dksX4_init_2 17 rfl rfl)
theorem dX4_init_66 : decode cX4_init 66 = .ok (.aload_n 0, 1) := dk_42 (dk_at dksX4_init_2 20 rfl rfl)
theorem dX4_init_67 : decode cX4_init 67 = .ok (.iload_n 3, 1) := dk_29 (dk_at dksX4_init_2 21 rfl rfl)
theorem dX4_init_68 : decode cX4_init 68 = .ok (.putfield 35, 3) := dk_181 0 35 (dk_at dksX4_init_3 0 rfl rfl)
theorem dX4_init_71 : decode cX4_init 71 = .ok (.aload_n 0, 1) := dk_42 (dk_at dksX4_init_3 3 rfl rfl)
theorem dX4_init_72 : decode cX4_init 72 = .ok (.aload_n 0, 1) := dk_42 (dk_at dksX4_init_3 4 rfl rfl)
theorem dX4_init_73 : decode cX4_init 73 = .ok (.invokevirtual 38, 3) := dk_182 0 38 (dk_at dksX4_init_3 5 rfl rfl)
theorem dX4_init_76 : decode cX4_init 76 = .ok (.anewarray 42, 3) := dk_189 0 42 (dk_at dksX4_init_3 8 rfl rfl)
theorem dX4_init_79 : decode cX4_init 79 = .ok (.putfield 44, 3) := dk_181 0 44 (dk_at dksX4_init_3 11 rfl rfl)
theorem dX4_init_82 : decode cX4_init 82 = .ok (.return_, 1) := dk_177 (dk_at dksX4_init_3 14 rfl rfl)
abbrev cX4_cases : ByteArray := prog_15_method_4_code
def yX4_cases : MethodName := ⟨RX4, "cases", "()I"⟩
def dkwX4_cases_1 : List UInt8 := [132, 2, 1, 167, 255, 235, 27, 172]
abbrev dktX4_cases_1 : List UInt8 := dkwX4_cases_1 ++ []
def dkwX4_cases_0 : List UInt8 := [4, 60, 3, 61, 28, 42, 180, 0, 29, 190, 162, 0, 18, 27, 42, 180, 0, 29, 28, 46, 104, 60]
abbrev dktX4_cases_0 : List UInt8 := dkwX4_cases_0 ++ dktX4_cases_1
theorem dksX4_cases_0 : cX4_cases.data.toList.drop 0 = dktX4_cases_0 := by decide +kernel
theorem dksX4_cases_1 : cX4_cases.data.toList.drop 22 = dktX4_cases_1 := dk_seg dksX4_cases_0 22 rfl rfl
theorem dX4_cases_0 : decode cX4_cases 0 = .ok (.iconst 1, 1) := dk_4 (dk_at dksX4_cases_0 0 rfl rfl)
theorem dX4_cases_1 : decode cX4_cases 1 = .ok (.istore_n 1, 1) := dk_60 (dk_at dksX4_cases_0 1 rfl rfl)
theorem dX4_cases_2 : decode cX4_cases 2 = .ok (.iconst 0, 1) := dk_3 (dk_at dksX4_cases_0 2 rfl rfl)
theorem dX4_cases_3 : decode cX4_cases 3 = .ok (.istore_n 2, 1) := dk_61 (dk_at dksX4_cases_0 3 rfl rfl)
theorem dX4_cases_4 : decode cX4_cases 4 = .ok (.iload_n 2, 1) := dk_28 (dk_at dksX4_cases_0 4 rfl rfl)
theorem dX4_cases_5 : decode cX4_cases 5 = .ok (.aload_n 0, 1) := dk_42 (dk_at dksX4_cases_0 5 rfl rfl)
theorem dX4_cases_6 : decode cX4_cases 6 = .ok (.getfield 29, 3) := dk_180 0 29 (dk_at dksX4_cases_0 6 rfl rfl)
theorem dX4_cases_9 : decode cX4_cases 9 = .ok (.arraylength, 1) := dk_190 (dk_at dksX4_cases_0 9 rfl rfl)
theorem dX4_cases_10 : decode cX4_cases 10 = .ok (.if_icmp .ge 18, 3) := dk_162 0 18 (dk_at dksX4_cases_0 10 rfl rfl)
theorem dX4_cases_13 : decode cX4_cases 13 = .ok (.iload_n 1, 1) := dk_27 (dk_at dksX4_cases_0 13 rfl rfl)
theorem dX4_cases_14 : decode cX4_cases 14 = .ok (.aload_n 0, 1) := dk_42 (dk_at dksX4_cases_0 14 rfl rfl)
theorem dX4_cases_15 : decode cX4_cases 15 = .ok (.getfield 29, 3) := dk_180 0 29 (dk_at dksX4_cases_0 15 rfl rfl)
theorem dX4_cases_18 : decode cX4_cases 18 = .ok (.iload_n 2, 1) := dk_28 (dk_at dksX4_cases_0 18 rfl rfl)
theorem dX4_cases_19 : decode cX4_cases 19 = .ok (.iaload, 1) := dk_46 (dk_at dksX4_cases_0 19 rfl rfl)
theorem dX4_cases_20 : decode cX4_cases 20 = .ok (.imul, 1) := dk_104 (dk_at dksX4_cases_0 20 rfl rfl)
theorem dX4_cases_21 : decode cX4_cases 21 = .ok (.istore_n 1, 1) := dk_60 (dk_at dksX4_cases_0 21 rfl rfl)
theorem dX4_cases_22 : decode cX4_cases 22 = .ok (.iinc 2 1, 3) := dk_132 2 1 (dk_at dksX4_cases_1 0 rfl rfl)
theorem dX4_cases_25 : decode cX4_cases 25 = .ok (.goto (-21), 3) := dk_167 255 235 (dk_at dksX4_cases_1 3 rfl rfl)
theorem dX4_cases_28 : decode cX4_cases 28 = .ok (.iload_n 1, 1) := dk_27 (dk_at dksX4_cases_1 6 rfl rfl)
theorem dX4_cases_29 : decode cX4_cases 29 = .ok (.ireturn, 1) := dk_172 (dk_at dksX4_cases_1 7 rfl rfl)
abbrev cX4_setShare : ByteArray := prog_15_method_19_code
def yX4_setShare : MethodName := ⟨RX4, "setShare", "(LHeirCases$Rule;III)Z"⟩
def dkwX4_setShare_2 : List UInt8 := [153, 0, 8, 21, 5, 167, 0, 9, 43, 180, 0, 140, 28, 46, 79, 21, 6, 172]
abbrev dktX4_setShare_2 : List UInt8 := dkwX4_setShare_2 ++ []
def dkwX4_setShare_1 : List UInt8 := [100, 21, 5, 96, 17, 108, 72, 163, 0, 7, 4, 167, 0, 4, 3, 54, 6, 43, 180, 0, 140, 28, 21, 6]
abbrev dktX4_setShare_1 : List UInt8 := dkwX4_setShare_1 ++ dktX4_setShare_2
def dkwX4_setShare_0 : List UInt8 := [42, 182, 0, 155, 17, 108, 72, 21, 4, 108, 29, 104, 54, 5, 43, 182, 0, 161, 43, 180, 0, 140, 28, 46]
abbrev dktX4_setShare_0 : List UInt8 := dkwX4_setShare_0 ++ dktX4_setShare_1
theorem dksX4_setShare_0 : cX4_setShare.data.toList.drop 0 = dktX4_setShare_0 := by decide +kernel
theorem dksX4_setShare_1 : cX4_setShare.data.toList.drop 24 = dktX4_setShare_1 := dk_seg dksX4_setShare_0 24 rfl rfl
theorem dksX4_setShare_2 : cX4_setShare.data.toList.drop 48 = dktX4_setShare_2 := dk_seg dksX4_setShare_1 24 rfl rfl
theorem dX4_setShare_0 : decode cX4_setShare 0 = .ok (.aload_n 0, 1) := dk_42 (dk_at dksX4_setShare_0 0 rfl rfl)
theorem dX4_setShare_1 : decode cX4_setShare 1 = .ok (.invokevirtual 155, 3) := dk_182 0 155 (dk_at dksX4_setShare_0 1 rfl rfl)
theorem dX4_setShare_4 : decode cX4_setShare 4 = .ok (.sipush 27720, 3) := dk_17 108 72 (dk_at dksX4_setShare_0 4 rfl rfl)
theorem dX4_setShare_7 : decode cX4_setShare 7 = .ok (.iload 4, 2) := dk_21 4 (dk_at dksX4_setShare_0 7 rfl rfl)
theorem dX4_setShare_9 : decode cX4_setShare 9 = .ok (.idiv, 1) := dk_108 (dk_at dksX4_setShare_0 9 rfl rfl)
theorem dX4_setShare_10 : decode cX4_setShare 10 = .ok (.iload_n 3, 1) := dk_29 (dk_at dksX4_setShare_0 10 rfl rfl)
theorem dX4_setShare_11 : decode cX4_setShare 11 = .ok (.imul, 1) := dk_104 (dk_at dksX4_setShare_0 11 rfl rfl)
theorem dX4_setShare_12 : decode cX4_setShare 12 = .ok (.istore 5, 2) := dk_54 5 (dk_at dksX4_setShare_0 12 rfl rfl)
theorem dX4_setShare_14 : decode cX4_setShare 14 = .ok (.aload_n 1, 1) := dk_43 (dk_at dksX4_setShare_0 14 rfl rfl)
theorem dX4_setShare_15 : decode cX4_setShare 15 = .ok (.invokevirtual 161, 3) := dk_182 0 161 (dk_at dksX4_setShare_0 15 rfl rfl)
theorem dX4_setShare_18 : decode cX4_setShare 18 = .ok (.aload_n 1, 1) := dk_43 (dk_at dksX4_setShare_0 18 rfl rfl)
theorem dX4_setShare_19 : decode cX4_setShare 19 = .ok (.getfield 140, 3) := dk_180 0 140 (dk_at dksX4_setShare_0 19 rfl rfl)
theorem dX4_setShare_22 : decode cX4_setShare 22 = .ok (.iload_n 2, 1) := dk_28 (dk_at dksX4_setShare_0 22 rfl rfl)
theorem dX4_setShare_23 : decode cX4_setShare 23 = .ok (.iaload, 1) := dk_46 (dk_at dksX4_setShare_0 23 rfl rfl)
theorem dX4_setShare_24 : decode cX4_setShare 24 = .ok (.isub, 1) := dk_100 (dk_at dksX4_setShare_1 0 rfl rfl)
theorem dX4_setShare_25 : decode cX4_setShare 25 = .ok (.iload 5, 2) := dk_21 5 (dk_at dksX4_setShare_1 1 rfl rfl)
theorem dX4_setShare_27 : decode cX4_setShare 27 = .ok (.iadd, 1) := dk_96 (dk_at dksX4_setShare_1 3 rfl rfl)
theorem dX4_setShare_28 : decode cX4_setShare 28 = .ok (.sipush 27720, 3) := dk_17 108 72 (dk_at dksX4_setShare_1 4 rfl rfl)
theorem dX4_setShare_31 : decode cX4_setShare 31 = .ok (.if_icmp .gt 7, 3) := dk_163 0 7 (dk_at dksX4_setShare_1 7 rfl rfl)
theorem dX4_setShare_34 : decode cX4_setShare 34 = .ok (.iconst 1, 1) := dk_4 (dk_at dksX4_setShare_1 10 rfl rfl)
theorem dX4_setShare_35 : decode cX4_setShare 35 = .ok (.goto 4, 3) := dk_167 0 4 (dk_at dksX4_setShare_1 11 rfl rfl)
theorem dX4_setShare_38 : decode cX4_setShare 38 = .ok (.iconst 0, 1) := dk_3 (dk_at dksX4_setShare_1 14 rfl rfl)
theorem dX4_setShare_39 : decode cX4_setShare 39 = .ok (.istore 6, 2) := dk_54 6 (dk_at dksX4_setShare_1 15 rfl rfl)
theorem dX4_setShare_41 : decode cX4_setShare 41 = .ok (.aload_n 1, 1) := dk_43 (dk_at dksX4_setShare_1 17 rfl rfl)
theorem dX4_setShare_42 : decode cX4_setShare 42 = .ok (.getfield 140, 3) := dk_180 0 140 (dk_at dksX4_setShare_1 18 rfl rfl)
theorem dX4_setShare_45 : decode cX4_setShare 45 = .ok (.iload_n 2, 1) := dk_28 (dk_at dksX4_setShare_1 21 rfl rfl)
theorem dX4_setShare_46 : decode cX4_setShare 46 = .ok (.iload 6, 2) := dk_21 6 (dk_at dksX4_setShare_1 22 rfl rfl)
theorem dX4_setShare_48 : decode cX4_setShare 48 = .ok (.ifCond .eq 8, 3) := dk_153 0 8 (dk_at dksX4_setShare_2 0 rfl rfl)
theorem dX4_setShare_51 : decode cX4_setShare 51 = .ok (.iload 5, 2) := dk_21 5 (dk_at dksX4_setShare_2 3 rfl rfl)
theorem dX4_setShare_53 : decode cX4_setShare 53 = .ok (.goto 9, 3) := dk_167 0 9 (dk_at dksX4_setShare_2 5 rfl rfl)
theorem dX4_setShare_56 : decode cX4_setShare 56 = .ok (.aload_n 1, 1) := dk_43 (dk_at dksX4_setShare_2 8 rfl rfl)
theorem dX4_setShare_57 : decode cX4_setShare 57 = .ok (.getfield 140, 3) := dk_180 0 140 (dk_at dksX4_setShare_2 9 rfl rfl)
theorem dX4_setShare_60 : decode cX4_setShare 60 = .ok (.iload_n 2, 1) := dk_28 (dk_at dksX4_setShare_2 12 rfl rfl)
theorem dX4_setShare_61 : decode cX4_setShare 61 = .ok (.iaload, 1) := dk_46 (dk_at dksX4_setShare_2 13 rfl rfl)
theorem dX4_setShare_62 : decode cX4_setShare 62 = .ok (.iastore, 1) := dk_79 (dk_at dksX4_setShare_2 14 rfl rfl)
theorem dX4_setShare_63 : decode cX4_setShare 63 = .ok (.iload 6, 2) := dk_21 6 (dk_at dksX4_setShare_2 15 rfl rfl)
theorem dX4_setShare_65 : decode cX4_setShare 65 = .ok (.ireturn, 1) := dk_172 (dk_at dksX4_setShare_2 17 rfl rfl)
abbrev cX4_forget : ByteArray := prog_15_method_2_code
def yX4_forget : MethodName := ⟨RX4, "forget", "()V"⟩
def dkwX4_forget_1 : List UInt8 := [177]
abbrev dktX4_forget_1 : List UInt8 := dkwX4_forget_1 ++ []
def dkwX4_forget_0 : List UInt8 := [3, 60, 27, 42, 180, 0, 44, 190, 162, 0, 16, 42, 180, 0, 44, 27, 1, 83, 132, 1, 1, 167, 255, 237]
abbrev dktX4_forget_0 : List UInt8 := dkwX4_forget_0 ++ dktX4_forget_1
theorem dksX4_forget_0 : cX4_forget.data.toList.drop 0 = dktX4_forget_0 := by decide +kernel
theorem dksX4_forget_1 : cX4_forget.data.toList.drop 24 = dktX4_forget_1 := dk_seg dksX4_forget_0 24 rfl rfl
theorem dX4_forget_0 : decode cX4_forget 0 = .ok (.iconst 0, 1) := dk_3 (dk_at dksX4_forget_0 0 rfl rfl)
theorem dX4_forget_1 : decode cX4_forget 1 = .ok (.istore_n 1, 1) := dk_60 (dk_at dksX4_forget_0 1 rfl rfl)
theorem dX4_forget_2 : decode cX4_forget 2 = .ok (.iload_n 1, 1) := dk_27 (dk_at dksX4_forget_0 2 rfl rfl)
theorem dX4_forget_3 : decode cX4_forget 3 = .ok (.aload_n 0, 1) := dk_42 (dk_at dksX4_forget_0 3 rfl rfl)
theorem dX4_forget_4 : decode cX4_forget 4 = .ok (.getfield 44, 3) := dk_180 0 44 (dk_at dksX4_forget_0 4 rfl rfl)
theorem dX4_forget_7 : decode cX4_forget 7 = .ok (.arraylength, 1) := dk_190 (dk_at dksX4_forget_0 7 rfl rfl)
theorem dX4_forget_8 : decode cX4_forget 8 = .ok (.if_icmp .ge 16, 3) := dk_162 0 16 (dk_at dksX4_forget_0 8 rfl rfl)
theorem dX4_forget_11 : decode cX4_forget 11 = .ok (.aload_n 0, 1) := dk_42 (dk_at dksX4_forget_0 11 rfl rfl)
theorem dX4_forget_12 : decode cX4_forget 12 = .ok (.getfield 44, 3) := dk_180 0 44 (dk_at dksX4_forget_0 12 rfl rfl)
theorem dX4_forget_15 : decode cX4_forget 15 = .ok (.iload_n 1, 1) := dk_27 (dk_at dksX4_forget_0 15 rfl rfl)
theorem dX4_forget_16 : decode cX4_forget 16 = .ok (.aconst_null, 1) := dk_1 (dk_at dksX4_forget_0 16 rfl rfl)
theorem dX4_forget_17 : decode cX4_forget 17 = .ok (.aastore, 1) := dk_83 (dk_at dksX4_forget_0 17 rfl rfl)
theorem dX4_forget_18 : decode cX4_forget 18 = .ok (.iinc 1 1, 3) := dk_132 1 1 (dk_at dksX4_forget_0 18 rfl rfl)
theorem dX4_forget_21 : decode cX4_forget 21 = .ok (.goto (-19), 3) := dk_167 255 237 (dk_at dksX4_forget_0 21 rfl rfl)
theorem dX4_forget_24 : decode cX4_forget 24 = .ok (.return_, 1) := dk_177 (dk_at dksX4_forget_1 0 rfl rfl)
abbrev cX4_gaps : ByteArray := prog_15_method_12_code
def yX4_gaps : MethodName := ⟨RX4, "gaps", "()I"⟩
def dkwX4_gaps_0 : List UInt8 := [42, 4, 182, 0, 137, 42, 5, 182, 0, 137, 96, 172]
abbrev dktX4_gaps_0 : List UInt8 := dkwX4_gaps_0 ++ []
theorem dksX4_gaps_0 : cX4_gaps.data.toList.drop 0 = dktX4_gaps_0 := by decide +kernel
theorem dX4_gaps_0 : decode cX4_gaps 0 = .ok (.aload_n 0, 1) := dk_42 (dk_at dksX4_gaps_0 0 rfl rfl)
theorem dX4_gaps_1 : decode cX4_gaps 1 = .ok (.iconst 1, 1) := dk_4 (dk_at dksX4_gaps_0 1 rfl rfl)
theorem dX4_gaps_2 : decode cX4_gaps 2 = .ok (.invokevirtual 137, 3) := dk_182 0 137 (dk_at dksX4_gaps_0 2 rfl rfl)
theorem dX4_gaps_5 : decode cX4_gaps 5 = .ok (.aload_n 0, 1) := dk_42 (dk_at dksX4_gaps_0 5 rfl rfl)
theorem dX4_gaps_6 : decode cX4_gaps 6 = .ok (.iconst 2, 1) := dk_5 (dk_at dksX4_gaps_0 6 rfl rfl)
theorem dX4_gaps_7 : decode cX4_gaps 7 = .ok (.invokevirtual 137, 3) := dk_182 0 137 (dk_at dksX4_gaps_0 7 rfl rfl)
theorem dX4_gaps_10 : decode cX4_gaps 10 = .ok (.iadd, 1) := dk_96 (dk_at dksX4_gaps_0 10 rfl rfl)
theorem dX4_gaps_11 : decode cX4_gaps 11 = .ok (.ireturn, 1) := dk_172 (dk_at dksX4_gaps_0 11 rfl rfl)
abbrev cX4_withVerdict : ByteArray := prog_15_method_11_code
def yX4_withVerdict : MethodName := ⟨RX4, "withVerdict", "(I)I"⟩
def dkwX4_withVerdict_1 : List UInt8 := [180, 0, 120, 27, 160, 0, 7, 4, 167, 0, 4, 3, 96, 61, 132, 4, 1, 167, 255, 226, 28, 172]
abbrev dktX4_withVerdict_1 : List UInt8 := dkwX4_withVerdict_1 ++ []
def dkwX4_withVerdict_0 : List UInt8 := [3, 61, 42, 182, 0, 38, 62, 3, 54, 4, 21, 4, 29, 162, 0, 30, 28, 42, 21, 4, 182, 0, 134]
abbrev dktX4_withVerdict_0 : List UInt8 := dkwX4_withVerdict_0 ++ dktX4_withVerdict_1
theorem dksX4_withVerdict_0 : cX4_withVerdict.data.toList.drop 0 = dktX4_withVerdict_0 := by decide +kernel
theorem dksX4_withVerdict_1 : cX4_withVerdict.data.toList.drop 23 = dktX4_withVerdict_1 := dk_seg dksX4_withVerdict_0 23 rfl rfl
theorem dX4_withVerdict_0 : decode cX4_withVerdict 0 = .ok (.iconst 0, 1) := dk_3 (dk_at dksX4_withVerdict_0 0 rfl rfl)
theorem dX4_withVerdict_1 : decode cX4_withVerdict 1 = .ok (.istore_n 2, 1) := dk_61 (dk_at dksX4_withVerdict_0 1 rfl rfl)
theorem dX4_withVerdict_2 : decode cX4_withVerdict 2 = .ok (.aload_n 0, 1) := dk_42 (dk_at dksX4_withVerdict_0 2 rfl rfl)
theorem dX4_withVerdict_3 : decode cX4_withVerdict 3 = .ok (.invokevirtual 38, 3) := dk_182 0 38 (dk_at dksX4_withVerdict_0 3 rfl rfl)
theorem dX4_withVerdict_6 : decode cX4_withVerdict 6 = .ok (.istore_n 3, 1) := dk_62 (dk_at dksX4_withVerdict_0 6 rfl rfl)
theorem dX4_withVerdict_7 : decode cX4_withVerdict 7 = .ok (.iconst 0, 1) := dk_3 (dk_at dksX4_withVerdict_0 7 rfl rfl)
theorem dX4_withVerdict_8 : decode cX4_withVerdict 8 = .ok (.istore 4, 2) := dk_54 4 (dk_at dksX4_withVerdict_0 8 rfl rfl)
theorem dX4_withVerdict_10 : decode cX4_withVerdict 10 = .ok (.iload 4, 2) := dk_21 4 (dk_at dksX4_withVerdict_0 10 rfl rfl)
theorem dX4_withVerdict_12 : decode cX4_withVerdict 12 = .ok (.iload_n 3, 1) := dk_29 (dk_at dksX4_withVerdict_0 12 rfl rfl)
theorem dX4_withVerdict_13 : decode cX4_withVerdict 13 = .ok (.if_icmp .ge 30, 3) := dk_162 0 30 (dk_at dksX4_withVerdict_0 13 rfl rfl)
theorem dX4_withVerdict_16 : decode cX4_withVerdict 16 = .ok (.iload_n 2, 1) := dk_28 (dk_at dksX4_withVerdict_0 16 rfl rfl)
theorem dX4_withVerdict_17 : decode cX4_withVerdict 17 = .ok (.aload_n 0, 1) := dk_42 (dk_at dksX4_withVerdict_0 17 rfl rfl)
theorem dX4_withVerdict_18 : decode cX4_withVerdict 18 = .ok (.iload 4, 2) := dk_21 4 (dk_at dksX4_withVerdict_0 18 rfl rfl)
theorem dX4_withVerdict_20 : decode cX4_withVerdict 20 = .ok (.invokevirtual 134, 3) := dk_182 0 134 (dk_at dksX4_withVerdict_0 20 rfl rfl)
theorem dX4_withVerdict_23 : decode cX4_withVerdict 23 = .ok (.getfield 120, 3) := dk_180 0 120 (dk_at dksX4_withVerdict_1 0 rfl rfl)
theorem dX4_withVerdict_26 : decode cX4_withVerdict 26 = .ok (.iload_n 1, 1) := dk_27 (dk_at dksX4_withVerdict_1 3 rfl rfl)
theorem dX4_withVerdict_27 : decode cX4_withVerdict 27 = .ok (.if_icmp .ne 7, 3) := dk_160 0 7 (dk_at dksX4_withVerdict_1 4 rfl rfl)
theorem dX4_withVerdict_30 : decode cX4_withVerdict 30 = .ok (.iconst 1, 1) := dk_4 (dk_at dksX4_withVerdict_1 7 rfl rfl)
theorem dX4_withVerdict_31 : decode cX4_withVerdict 31 = .ok (.goto 4, 3) := dk_167 0 4 (dk_at dksX4_withVerdict_1 8 rfl rfl)
theorem dX4_withVerdict_34 : decode cX4_withVerdict 34 = .ok (.iconst 0, 1) := dk_3 (dk_at dksX4_withVerdict_1 11 rfl rfl)
theorem dX4_withVerdict_35 : decode cX4_withVerdict 35 = .ok (.iadd, 1) := dk_96 (dk_at dksX4_withVerdict_1 12 rfl rfl)
theorem dX4_withVerdict_36 : decode cX4_withVerdict 36 = .ok (.istore_n 2, 1) := dk_61 (dk_at dksX4_withVerdict_1 13 rfl rfl)
theorem dX4_withVerdict_37 : decode cX4_withVerdict 37 = .ok (.iinc 4 1, 3) := dk_132 4 1 (dk_at dksX4_withVerdict_1 14 rfl rfl)
theorem dX4_withVerdict_40 : decode cX4_withVerdict 40 = .ok (.goto (-30), 3) := dk_167 255 226 (dk_at dksX4_withVerdict_1 17 rfl rfl)
theorem dX4_withVerdict_43 : decode cX4_withVerdict 43 = .ok (.iload_n 2, 1) := dk_28 (dk_at dksX4_withVerdict_1 20 rfl rfl)
theorem dX4_withVerdict_44 : decode cX4_withVerdict 44 = .ok (.ireturn, 1) := dk_172 (dk_at dksX4_withVerdict_1 21 rfl rfl)
abbrev cX4_look : ByteArray := prog_15_method_7_code
def yX4_look : MethodName := ⟨RX4, "look", "(I)LHeirCases$Finding;"⟩
def dkwX4_look_1 : List UInt8 := [27, 50, 176]
abbrev dktX4_look_1 : List UInt8 := dkwX4_look_1 ++ []
def dkwX4_look_0 : List UInt8 := [42, 180, 0, 44, 27, 50, 199, 0, 14, 42, 180, 0, 44, 27, 42, 27, 182, 0, 77, 83, 42, 180, 0, 44]
abbrev dktX4_look_0 : List UInt8 := dkwX4_look_0 ++ dktX4_look_1
theorem dksX4_look_0 : cX4_look.data.toList.drop 0 = dktX4_look_0 := by decide +kernel
theorem dksX4_look_1 : cX4_look.data.toList.drop 24 = dktX4_look_1 := dk_seg dksX4_look_0 24 rfl rfl
theorem dX4_look_0 : decode cX4_look 0 = .ok (.aload_n 0, 1) := dk_42 (dk_at dksX4_look_0 0 rfl rfl)
theorem dX4_look_1 : decode cX4_look 1 = .ok (.getfield 44, 3) := dk_180 0 44 (dk_at dksX4_look_0 1 rfl rfl)
theorem dX4_look_4 : decode cX4_look 4 = .ok (.iload_n 1, 1) := dk_27 (dk_at dksX4_look_0 4 rfl rfl)
theorem dX4_look_5 : decode cX4_look 5 = .ok (.aaload, 1) := dk_50 (dk_at dksX4_look_0 5 rfl rfl)
theorem dX4_look_6 : decode cX4_look 6 = .ok (.ifnonnull 14, 3) := dk_199 0 14 (dk_at dksX4_look_0 6 rfl rfl)
theorem dX4_look_9 : decode cX4_look 9 = .ok (.aload_n 0, 1) := dk_42 (dk_at dksX4_look_0 9 rfl rfl)
theorem dX4_look_10 : decode cX4_look 10 = .ok (.getfield 44, 3) := dk_180 0 44 (dk_at dksX4_look_0 10 rfl rfl)
theorem dX4_look_13 : decode cX4_look 13 = .ok (.iload_n 1, 1) := dk_27 (dk_at dksX4_look_0 13 rfl rfl)
theorem dX4_look_14 : decode cX4_look 14 = .ok (.aload_n 0, 1) := dk_42 (dk_at dksX4_look_0 14 rfl rfl)
theorem dX4_look_15 : decode cX4_look 15 = .ok (.iload_n 1, 1) := dk_27 (dk_at dksX4_look_0 15 rfl rfl)
theorem dX4_look_16 : decode cX4_look 16 = .ok (.invokevirtual 77, 3) := dk_182 0 77 (dk_at dksX4_look_0 16 rfl rfl)
theorem dX4_look_19 : decode cX4_look 19 = .ok (.aastore, 1) := dk_83 (dk_at dksX4_look_0 19 rfl rfl)
theorem dX4_look_20 : decode cX4_look 20 = .ok (.aload_n 0, 1) := dk_42 (dk_at dksX4_look_0 20 rfl rfl)
theorem dX4_look_21 : decode cX4_look 21 = .ok (.getfield 44, 3) := dk_180 0 44 (dk_at dksX4_look_0 21 rfl rfl)
theorem dX4_look_24 : decode cX4_look 24 = .ok (.iload_n 1, 1) := dk_27 (dk_at dksX4_look_1 0 rfl rfl)
theorem dX4_look_25 : decode cX4_look 25 = .ok (.aaload, 1) := dk_50 (dk_at dksX4_look_1 1 rfl rfl)
theorem dX4_look_26 : decode cX4_look 26 = .ok (.areturn, 1) := dk_176 (dk_at dksX4_look_1 2 rfl rfl)
abbrev cX4_find : ByteArray := prog_15_method_8_code
def yX4_find : MethodName := ⟨RX4, "find", "(I)LHeirCases$Finding;"⟩
def dkwX4_find_6 : List UInt8 := [182, 0, 110, 44, 176]
abbrev dktX4_find_6 : List UInt8 := dkwX4_find_6 ++ []
def dkwX4_find_5 : List UInt8 := [29, 182, 0, 60, 192, 0, 64, 180, 0, 107, 2, 130, 126, 181, 0, 104, 132, 3, 1, 167, 255, 205, 42, 44]
abbrev dktX4_find_5 : List UInt8 := dkwX4_find_5 ++ dktX4_find_6
def dkwX4_find_4 : List UInt8 := [162, 0, 46, 44, 180, 0, 88, 29, 122, 4, 126, 4, 160, 0, 28, 44, 89, 180, 0, 104, 42, 180, 0, 21]
abbrev dktX4_find_4 : List UInt8 := dkwX4_find_4 ++ dktX4_find_5
def dkwX4_find_3 : List UInt8 := [132, 3, 1, 167, 255, 200, 44, 44, 180, 0, 88, 181, 0, 104, 3, 62, 29, 42, 180, 0, 21, 182, 0, 57]
abbrev dktX4_find_3 : List UInt8 := dkwX4_find_3 ++ dktX4_find_4
def dkwX4_find_2 : List UInt8 := [180, 0, 95, 185, 0, 98, 2, 0, 153, 0, 9, 4, 29, 120, 167, 0, 4, 3, 128, 181, 0, 88]
abbrev dktX4_find_2 : List UInt8 := dkwX4_find_2 ++ dktX4_find_3
def dkwX4_find_1 : List UInt8 := [162, 0, 51, 44, 89, 180, 0, 88, 42, 180, 0, 21, 29, 182, 0, 60, 192, 0, 64, 180, 0, 91, 44]
abbrev dktX4_find_1 : List UInt8 := dkwX4_find_1 ++ dktX4_find_2
def dkwX4_find_0 : List UInt8 := [187, 0, 42, 89, 42, 27, 182, 0, 81, 183, 0, 85, 77, 3, 62, 29, 42, 180, 0, 21, 182, 0, 57]
abbrev dktX4_find_0 : List UInt8 := dkwX4_find_0 ++ dktX4_find_1
theorem dksX4_find_0 : cX4_find.data.toList.drop 0 = dktX4_find_0 := by decide +kernel
theorem dksX4_find_1 : cX4_find.data.toList.drop 23 = dktX4_find_1 := dk_seg dksX4_find_0 23 rfl rfl
theorem dksX4_find_2 : cX4_find.data.toList.drop 46 = dktX4_find_2 := dk_seg dksX4_find_1 23 rfl rfl
theorem dksX4_find_3 : cX4_find.data.toList.drop 68 = dktX4_find_3 := dk_seg dksX4_find_2 22 rfl rfl
theorem dksX4_find_4 : cX4_find.data.toList.drop 92 = dktX4_find_4 := dk_seg dksX4_find_3 24 rfl rfl
theorem dksX4_find_5 : cX4_find.data.toList.drop 116 = dktX4_find_5 := dk_seg dksX4_find_4 24 rfl rfl
theorem dksX4_find_6 : cX4_find.data.toList.drop 140 = dktX4_find_6 := dk_seg dksX4_find_5 24 rfl rfl
theorem dX4_find_0 : decode cX4_find 0 = .ok (.new 42, 3) := dk_187 0 42 (dk_at dksX4_find_0 0 rfl rfl)
theorem dX4_find_3 : decode cX4_find 3 = .ok (.dup, 1) := dk_89 (dk_at dksX4_find_0 3 rfl rfl)
theorem dX4_find_4 : decode cX4_find 4 = .ok (.aload_n 0, 1) := dk_42 (dk_at dksX4_find_0 4 rfl rfl)
theorem dX4_find_5 : decode cX4_find 5 = .ok (.iload_n 1, 1) := dk_27 (dk_at dksX4_find_0 5 rfl rfl)
theorem dX4_find_6 : decode cX4_find 6 = .ok (.invokevirtual 81, 3) := dk_182 0 81 (dk_at dksX4_find_0 6 rfl rfl)
theorem dX4_find_9 : decode cX4_find 9 = .ok (.invokespecial 85, 3) := dk_183 0 85 (dk_at dksX4_find_0 9 rfl rfl)
theorem dX4_find_12 : decode cX4_find 12 = .ok (.astore_n 2, 1) := dk_77 (dk_at dksX4_find_0 12 rfl rfl)
theorem dX4_find_13 : decode cX4_find 13 = .ok (.iconst 0, 1) := dk_3 (dk_at dksX4_find_0 13 rfl rfl)
theorem dX4_find_14 : decode cX4_find 14 = .ok (.istore_n 3, 1) := dk_62 (dk_at dksX4_find_0 14 rfl rfl)
theorem dX4_find_15 : decode cX4_find 15 = .ok (.iload_n 3, 1) := dk_29 (dk_at dksX4_find_0 15 rfl rfl)
theorem dX4_find_16 : decode cX4_find 16 = .ok (.aload_n 0, 1) := dk_42 (dk_at dksX4_find_0 16 rfl rfl)
theorem dX4_find_17 : decode cX4_find 17 = .ok (.getfield 21, 3) := dk_180 0 21 (dk_at dksX4_find_0 17 rfl rfl)
theorem dX4_find_20 : decode cX4_find 20 = .ok (.invokevirtual 57, 3) := dk_182 0 57 (dk_at dksX4_find_0 20 rfl rfl)
theorem dX4_find_23 : decode cX4_find 23 = .ok (.if_icmp .ge 51, 3) := dk_162 0 51 (dk_at dksX4_find_1 0 rfl rfl)
theorem dX4_find_26 : decode cX4_find 26 = .ok (.aload_n 2, 1) := dk_44 (dk_at dksX4_find_1 3 rfl rfl)
theorem dX4_find_27 : decode cX4_find 27 = .ok (.dup, 1) := dk_89 (dk_at dksX4_find_1 4 rfl rfl)
theorem dX4_find_28 : decode cX4_find 28 = .ok (.getfield 88, 3) := dk_180 0 88 (dk_at dksX4_find_1 5 rfl rfl)
theorem dX4_find_31 : decode cX4_find 31 = .ok (.aload_n 0, 1) := dk_42 (dk_at dksX4_find_1 8 rfl rfl)
theorem dX4_find_32 : decode cX4_find 32 = .ok (.getfield 21, 3) := dk_180 0 21 (dk_at dksX4_find_1 9 rfl rfl)
theorem dX4_find_35 : decode cX4_find 35 = .ok (.iload_n 3, 1) := dk_29 (dk_at dksX4_find_1 12 rfl rfl)
theorem dX4_find_36 : decode cX4_find 36 = .ok (.invokevirtual 60, 3) := dk_182 0 60 (dk_at dksX4_find_1 13 rfl rfl)
theorem dX4_find_39 : decode cX4_find 39 = .ok (.checkcast 64, 3) := dk_192 0 64 (dk_at dksX4_find_1 16 rfl rfl)
theorem dX4_find_42 : decode cX4_find 42 = .ok (.getfield 91, 3) := dk_180 0 91 (dk_at dksX4_find_1 19 rfl rfl)
theorem dX4_find_45 : decode cX4_find 45 = .ok (.aload_n 2, 1) := dk_44 (dk_at dksX4_find_1 22 rfl rfl)
theorem dX4_find_46 : decode cX4_find 46 = .ok (.getfield 95, 3) := dk_180 0 95 (dk_at dksX4_find_2 0 rfl rfl)
theorem dX4_find_49 : decode cX4_find 49 = .ok (.invokeinterface 98 2, 5) := by decide +kernel
theorem dX4_find_54 : decode cX4_find 54 = .ok (.ifCond .eq 9, 3) := dk_153 0 9 (dk_at dksX4_find_2 8 rfl rfl)
theorem dX4_find_57 : decode cX4_find 57 = .ok (.iconst 1, 1) := dk_4 (dk_at dksX4_find_2 11 rfl rfl)
theorem dX4_find_58 : decode cX4_find 58 = .ok (.iload_n 3, 1) := dk_29 (dk_at dksX4_find_2 12 rfl rfl)
theorem dX4_find_59 : decode cX4_find 59 = .ok (.ishl, 1) := dk_120 (dk_at dksX4_find_2 13 rfl rfl)
theorem dX4_find_60 : decode cX4_find 60 = .ok (.goto 4, 3) := dk_167 0 4 (dk_at dksX4_find_2 14 rfl rfl)
theorem dX4_find_63 : decode cX4_find 63 = .ok (.iconst 0, 1) := dk_3 (dk_at dksX4_find_2 17 rfl rfl)
theorem dX4_find_64 : decode cX4_find 64 = .ok (.ior, 1) := dk_128 (dk_at dksX4_find_2 18 rfl rfl)
theorem dX4_find_65 : decode cX4_find 65 = .ok (.putfield 88, 3) := dk_181 0 88 (dk_at dksX4_find_2 19 rfl rfl)
theorem dX4_find_68 : decode cX4_find 68 = .ok (.iinc 3 1, 3) := dk_132 3 1 (dk_at dksX4_find_3 0 rfl rfl)
theorem dX4_find_71 : decode cX4_find 71 = .ok (.goto (-56), 3) := dk_167 255 200 (dk_at dksX4_find_3 3 rfl rfl)
theorem dX4_find_74 : decode cX4_find 74 = .ok (.aload_n 2, 1) := dk_44 (dk_at dksX4_find_3 6 rfl rfl)
theorem dX4_find_75 : decode cX4_find 75 = .ok (.aload_n 2, 1) := dk_44 (dk_at dksX4_find_3 7 rfl rfl)
theorem dX4_find_76 : decode cX4_find 76 = .ok (.getfield 88, 3) := dk_180 0 88 (dk_at dksX4_find_3 8 rfl rfl)
theorem dX4_find_79 : decode cX4_find 79 = .ok (.putfield 104, 3) := dk_181 0 104 (dk_at dksX4_find_3 11 rfl rfl)
theorem dX4_find_82 : decode cX4_find 82 = .ok (.iconst 0, 1) := dk_3 (dk_at dksX4_find_3 14 rfl rfl)
theorem dX4_find_83 : decode cX4_find 83 = .ok (.istore_n 3, 1) := dk_62 (dk_at dksX4_find_3 15 rfl rfl)
theorem dX4_find_84 : decode cX4_find 84 = .ok (.iload_n 3, 1) := dk_29 (dk_at dksX4_find_3 16 rfl rfl)
theorem dX4_find_85 : decode cX4_find 85 = .ok (.aload_n 0, 1) := dk_42 (dk_at dksX4_find_3 17 rfl rfl)
theorem dX4_find_86 : decode cX4_find 86 = .ok (.getfield 21, 3) := dk_180 0 21 (dk_at dksX4_find_3 18 rfl rfl)
theorem dX4_find_89 : decode cX4_find 89 = .ok (.invokevirtual 57, 3) := dk_182 0 57 (dk_at dksX4_find_3 21 rfl rfl)
theorem dX4_find_92 : decode cX4_find 92 = .ok (.if_icmp .ge 46, 3) := dk_162 0 46 (dk_at dksX4_find_4 0 rfl rfl)
theorem dX4_find_95 : decode cX4_find 95 = .ok (.aload_n 2, 1) := dk_44 (dk_at dksX4_find_4 3 rfl rfl)
theorem dX4_find_96 : decode cX4_find 96 = .ok (.getfield 88, 3) := dk_180 0 88 (dk_at dksX4_find_4 4 rfl rfl)
theorem dX4_find_99 : decode cX4_find 99 = .ok (.iload_n 3, 1) := dk_29 (dk_at dksX4_find_4 7 rfl rfl)
theorem dX4_find_100 : decode cX4_find 100 = .ok (.ishr, 1) := dk_122 (dk_at dksX4_find_4 8 rfl rfl)
theorem dX4_find_101 : decode cX4_find 101 = .ok (.iconst 1, 1) := dk_4 (dk_at dksX4_find_4 9 rfl rfl)
theorem dX4_find_102 : decode cX4_find 102 = .ok (.iand, 1) := dk_126 (dk_at dksX4_find_4 10 rfl rfl)
theorem dX4_find_103 : decode cX4_find 103 = .ok (.iconst 1, 1) := dk_4 (dk_at dksX4_find_4 11 rfl rfl)
theorem dX4_find_104 : decode cX4_find 104 = .ok (.if_icmp .ne 28, 3) := dk_160 0 28 (dk_at dksX4_find_4 12 rfl rfl)
theorem dX4_find_107 : decode cX4_find 107 = .ok (.aload_n 2, 1) := dk_44 (dk_at dksX4_find_4 15 rfl rfl)
theorem dX4_find_108 : decode cX4_find 108 = .ok (.dup, 1) := dk_89 (dk_at dksX4_find_4 16 rfl rfl)
theorem dX4_find_109 : decode cX4_find 109 = .ok (.getfield 104, 3) := dk_180 0 104 (dk_at dksX4_find_4 17 rfl rfl)
theorem dX4_find_112 : decode cX4_find 112 = .ok (.aload_n 0, 1) := dk_42 (dk_at dksX4_find_4 20 rfl rfl)
theorem dX4_find_113 : decode cX4_find 113 = .ok (.getfield 21, 3) := dk_180 0 21 (dk_at dksX4_find_4 21 rfl rfl)
theorem dX4_find_116 : decode cX4_find 116 = .ok (.iload_n 3, 1) := dk_29 (dk_at dksX4_find_5 0 rfl rfl)
theorem dX4_find_117 : decode cX4_find 117 = .ok (.invokevirtual 60, 3) := dk_182 0 60 (dk_at dksX4_find_5 1 rfl rfl)
theorem dX4_find_120 : decode cX4_find 120 = .ok (.checkcast 64, 3) := dk_192 0 64 (dk_at dksX4_find_5 4 rfl rfl)
theorem dX4_find_123 : decode cX4_find 123 = .ok (.getfield 107, 3) := dk_180 0 107 (dk_at dksX4_find_5 7 rfl rfl)
theorem dX4_find_126 : decode cX4_find 126 = .ok (.iconst (-1), 1) := dk_2 (dk_at dksX4_find_5 10 rfl rfl)
theorem dX4_find_127 : decode cX4_find 127 = .ok (.ixor, 1) := dk_130 (dk_at dksX4_find_5 11 rfl rfl)
theorem dX4_find_128 : decode cX4_find 128 = .ok (.iand, 1) := dk_126 (dk_at dksX4_find_5 12 rfl rfl)
theorem dX4_find_129 : decode cX4_find 129 = .ok (.putfield 104, 3) := dk_181 0 104 (dk_at dksX4_find_5 13 rfl rfl)
theorem dX4_find_132 : decode cX4_find 132 = .ok (.iinc 3 1, 3) := dk_132 3 1 (dk_at dksX4_find_5 16 rfl rfl)
theorem dX4_find_135 : decode cX4_find 135 = .ok (.goto (-51), 3) := dk_167 255 205 (dk_at dksX4_find_5 19 rfl rfl)
theorem dX4_find_138 : decode cX4_find 138 = .ok (.aload_n 0, 1) := dk_42 (dk_at dksX4_find_5 22 rfl rfl)
theorem dX4_find_139 : decode cX4_find 139 = .ok (.aload_n 2, 1) := dk_44 (dk_at dksX4_find_5 23 rfl rfl)
theorem dX4_find_140 : decode cX4_find 140 = .ok (.invokevirtual 110, 3) := dk_182 0 110 (dk_at dksX4_find_6 0 rfl rfl)
theorem dX4_find_143 : decode cX4_find 143 = .ok (.aload_n 2, 1) := dk_44 (dk_at dksX4_find_6 3 rfl rfl)
theorem dX4_find_144 : decode cX4_find 144 = .ok (.areturn, 1) := dk_176 (dk_at dksX4_find_6 4 rfl rfl)
abbrev cX4_valuesOf : ByteArray := prog_15_method_5_code
def yX4_valuesOf : MethodName := ⟨RX4, "valuesOf", "(I)[I"⟩
def dkwX4_valuesOf_2 : List UInt8 := [132, 4, 1, 167, 255, 220, 44, 176]
abbrev dktX4_valuesOf_2 : List UInt8 := dkwX4_valuesOf_2 ++ []
def dkwX4_valuesOf_1 : List UInt8 := [21, 4, 29, 42, 180, 0, 29, 21, 4, 46, 112, 79, 29, 42, 180, 0, 29, 21, 4, 46, 108, 62]
abbrev dktX4_valuesOf_1 : List UInt8 := dkwX4_valuesOf_1 ++ dktX4_valuesOf_2
def dkwX4_valuesOf_0 : List UInt8 := [42, 180, 0, 29, 190, 188, 10, 77, 27, 62, 3, 54, 4, 21, 4, 42, 180, 0, 29, 190, 162, 0, 32, 44]
abbrev dktX4_valuesOf_0 : List UInt8 := dkwX4_valuesOf_0 ++ dktX4_valuesOf_1
theorem dksX4_valuesOf_0 : cX4_valuesOf.data.toList.drop 0 = dktX4_valuesOf_0 := by decide +kernel
theorem dksX4_valuesOf_1 : cX4_valuesOf.data.toList.drop 24 = dktX4_valuesOf_1 := dk_seg dksX4_valuesOf_0 24 rfl rfl
theorem dksX4_valuesOf_2 : cX4_valuesOf.data.toList.drop 46 = dktX4_valuesOf_2 := dk_seg dksX4_valuesOf_1 22 rfl rfl
theorem dX4_valuesOf_0 : decode cX4_valuesOf 0 = .ok (.aload_n 0, 1) := dk_42 (dk_at dksX4_valuesOf_0 0 rfl rfl)
theorem dX4_valuesOf_1 : decode cX4_valuesOf 1 = .ok (.getfield 29, 3) := dk_180 0 29 (dk_at dksX4_valuesOf_0 1 rfl rfl)
theorem dX4_valuesOf_4 : decode cX4_valuesOf 4 = .ok (.arraylength, 1) := dk_190 (dk_at dksX4_valuesOf_0 4 rfl rfl)
theorem dX4_valuesOf_5 : decode cX4_valuesOf 5 = .ok (.newarray .int, 2) := dk_188_10 (dk_at dksX4_valuesOf_0 5 rfl rfl)
theorem dX4_valuesOf_7 : decode cX4_valuesOf 7 = .ok (.astore_n 2, 1) := dk_77 (dk_at dksX4_valuesOf_0 7 rfl rfl)
theorem dX4_valuesOf_8 : decode cX4_valuesOf 8 = .ok (.iload_n 1, 1) := dk_27 (dk_at dksX4_valuesOf_0 8 rfl rfl)
theorem dX4_valuesOf_9 : decode cX4_valuesOf 9 = .ok (.istore_n 3, 1) := dk_62 (dk_at dksX4_valuesOf_0 9 rfl rfl)
theorem dX4_valuesOf_10 : decode cX4_valuesOf 10 = .ok (.iconst 0, 1) := dk_3 (dk_at dksX4_valuesOf_0 10 rfl rfl)
theorem dX4_valuesOf_11 : decode cX4_valuesOf 11 = .ok (.istore 4, 2) := dk_54 4 (dk_at dksX4_valuesOf_0 11 rfl rfl)
theorem dX4_valuesOf_13 : decode cX4_valuesOf 13 = .ok (.iload 4, 2) := dk_21 4 (dk_at dksX4_valuesOf_0 13 rfl rfl)
theorem dX4_valuesOf_15 : decode cX4_valuesOf 15 = .ok (.aload_n 0, 1) := dk_42 (dk_at dksX4_valuesOf_0 15 rfl rfl)
theorem dX4_valuesOf_16 : decode cX4_valuesOf 16 = .ok (.getfield 29, 3) := dk_180 0 29 (dk_at dksX4_valuesOf_0 16 rfl rfl)
theorem dX4_valuesOf_19 : decode cX4_valuesOf 19 = .ok (.arraylength, 1) := dk_190 (dk_at dksX4_valuesOf_0 19 rfl rfl)
theorem dX4_valuesOf_20 : decode cX4_valuesOf 20 = .ok (.if_icmp .ge 32, 3) := dk_162 0 32 (dk_at dksX4_valuesOf_0 20 rfl rfl)
theorem dX4_valuesOf_23 : decode cX4_valuesOf 23 = .ok (.aload_n 2, 1) := dk_44 (dk_at dksX4_valuesOf_0 23 rfl rfl)
theorem dX4_valuesOf_24 : decode cX4_valuesOf 24 = .ok (.iload 4, 2) := dk_21 4 (dk_at dksX4_valuesOf_1 0 rfl rfl)
theorem dX4_valuesOf_26 : decode cX4_valuesOf 26 = .ok (.iload_n 3, 1) := dk_29 (dk_at dksX4_valuesOf_1 2 rfl rfl)
theorem dX4_valuesOf_27 : decode cX4_valuesOf 27 = .ok (.aload_n 0, 1) := dk_42 (dk_at dksX4_valuesOf_1 3 rfl rfl)
theorem dX4_valuesOf_28 : decode cX4_valuesOf 28 = .ok (.getfield 29, 3) := dk_180 0 29 (dk_at dksX4_valuesOf_1 4 rfl rfl)
theorem dX4_valuesOf_31 : decode cX4_valuesOf 31 = .ok (.iload 4, 2) := dk_21 4 (dk_at dksX4_valuesOf_1 7 rfl rfl)
theorem dX4_valuesOf_33 : decode cX4_valuesOf 33 = .ok (.iaload, 1) := dk_46 (dk_at dksX4_valuesOf_1 9 rfl rfl)
theorem dX4_valuesOf_34 : decode cX4_valuesOf 34 = .ok (.irem, 1) := dk_112 (dk_at dksX4_valuesOf_1 10 rfl rfl)
theorem dX4_valuesOf_35 : decode cX4_valuesOf 35 = .ok (.iastore, 1) := dk_79 (dk_at dksX4_valuesOf_1 11 rfl rfl)
theorem dX4_valuesOf_36 : decode cX4_valuesOf 36 = .ok (.iload_n 3, 1) := dk_29 (dk_at dksX4_valuesOf_1 12 rfl rfl)
theorem dX4_valuesOf_37 : decode cX4_valuesOf 37 = .ok (.aload_n 0, 1) := dk_42 (dk_at dksX4_valuesOf_1 13 rfl rfl)
theorem dX4_valuesOf_38 : decode cX4_valuesOf 38 = .ok (.getfield 29, 3) := dk_180 0 29 (dk_at dksX4_valuesOf_1 14 rfl rfl)
theorem dX4_valuesOf_41 : decode cX4_valuesOf 41 = .ok (.iload 4, 2) := dk_21 4 (dk_at dksX4_valuesOf_1 17 rfl rfl)
theorem dX4_valuesOf_43 : decode cX4_valuesOf 43 = .ok (.iaload, 1) := dk_46 (dk_at dksX4_valuesOf_1 19 rfl rfl)
theorem dX4_valuesOf_44 : decode cX4_valuesOf 44 = .ok (.idiv, 1) := dk_108 (dk_at dksX4_valuesOf_1 20 rfl rfl)
theorem dX4_valuesOf_45 : decode cX4_valuesOf 45 = .ok (.istore_n 3, 1) := dk_62 (dk_at dksX4_valuesOf_1 21 rfl rfl)
theorem dX4_valuesOf_46 : decode cX4_valuesOf 46 = .ok (.iinc 4 1, 3) := dk_132 4 1 (dk_at dksX4_valuesOf_2 0 rfl rfl)
theorem dX4_valuesOf_49 : decode cX4_valuesOf 49 = .ok (.goto (-36), 3) := dk_167 255 220 (dk_at dksX4_valuesOf_2 3 rfl rfl)
theorem dX4_valuesOf_52 : decode cX4_valuesOf 52 = .ok (.aload_n 2, 1) := dk_44 (dk_at dksX4_valuesOf_2 6 rfl rfl)
theorem dX4_valuesOf_53 : decode cX4_valuesOf 53 = .ok (.areturn, 1) := dk_176 (dk_at dksX4_valuesOf_2 7 rfl rfl)
abbrev cX4_judge : ByteArray := prog_15_method_9_code
def yX4_judge : MethodName := ⟨RX4, "judge", "(LHeirCases$Finding;)V"⟩
def dkwX4_judge_2 : List UInt8 := [159, 0, 11, 43, 6, 181, 0, 120, 167, 0, 13, 43, 3, 181, 0, 120, 43, 28, 181, 0, 127, 177]
abbrev dktX4_judge_2 : List UInt8 := dkwX4_judge_2 ++ []
def dkwX4_judge_1 : List UInt8 := [180, 0, 104, 154, 0, 11, 43, 5, 181, 0, 120, 167, 0, 34, 42, 43, 180, 0, 104, 28, 182, 0, 123, 2]
abbrev dktX4_judge_1 : List UInt8 := dkwX4_judge_1 ++ dktX4_judge_2
def dkwX4_judge_0 : List UInt8 := [43, 180, 0, 104, 184, 0, 114, 61, 43, 180, 0, 88, 154, 0, 11, 43, 4, 181, 0, 120, 167, 0, 49, 43]
abbrev dktX4_judge_0 : List UInt8 := dkwX4_judge_0 ++ dktX4_judge_1
theorem dksX4_judge_0 : cX4_judge.data.toList.drop 0 = dktX4_judge_0 := by decide +kernel
theorem dksX4_judge_1 : cX4_judge.data.toList.drop 24 = dktX4_judge_1 := dk_seg dksX4_judge_0 24 rfl rfl
theorem dksX4_judge_2 : cX4_judge.data.toList.drop 48 = dktX4_judge_2 := dk_seg dksX4_judge_1 24 rfl rfl
theorem dX4_judge_0 : decode cX4_judge 0 = .ok (.aload_n 1, 1) := dk_43 (dk_at dksX4_judge_0 0 rfl rfl)
theorem dX4_judge_1 : decode cX4_judge 1 = .ok (.getfield 104, 3) := dk_180 0 104 (dk_at dksX4_judge_0 1 rfl rfl)
theorem dX4_judge_4 : decode cX4_judge 4 = .ok (.invokestatic 114, 3) := dk_184 0 114 (dk_at dksX4_judge_0 4 rfl rfl)
theorem dX4_judge_7 : decode cX4_judge 7 = .ok (.istore_n 2, 1) := dk_61 (dk_at dksX4_judge_0 7 rfl rfl)
theorem dX4_judge_8 : decode cX4_judge 8 = .ok (.aload_n 1, 1) := dk_43 (dk_at dksX4_judge_0 8 rfl rfl)
theorem dX4_judge_9 : decode cX4_judge 9 = .ok (.getfield 88, 3) := dk_180 0 88 (dk_at dksX4_judge_0 9 rfl rfl)
theorem dX4_judge_12 : decode cX4_judge 12 = .ok (.ifCond .ne 11, 3) := dk_154 0 11 (dk_at dksX4_judge_0 12 rfl rfl)
theorem dX4_judge_15 : decode cX4_judge 15 = .ok (.aload_n 1, 1) := dk_43 (dk_at dksX4_judge_0 15 rfl rfl)
theorem dX4_judge_16 : decode cX4_judge 16 = .ok (.iconst 1, 1) := dk_4 (dk_at dksX4_judge_0 16 rfl rfl)
theorem dX4_judge_17 : decode cX4_judge 17 = .ok (.putfield 120, 3) := dk_181 0 120 (dk_at dksX4_judge_0 17 rfl rfl)
theorem dX4_judge_20 : decode cX4_judge 20 = .ok (.goto 49, 3) := dk_167 0 49 (dk_at dksX4_judge_0 20 rfl rfl)
theorem dX4_judge_23 : decode cX4_judge 23 = .ok (.aload_n 1, 1) := dk_43 (dk_at dksX4_judge_0 23 rfl rfl)
theorem dX4_judge_24 : decode cX4_judge 24 = .ok (.getfield 104, 3) := dk_180 0 104 (dk_at dksX4_judge_1 0 rfl rfl)
theorem dX4_judge_27 : decode cX4_judge 27 = .ok (.ifCond .ne 11, 3) := dk_154 0 11 (dk_at dksX4_judge_1 3 rfl rfl)
theorem dX4_judge_30 : decode cX4_judge 30 = .ok (.aload_n 1, 1) := dk_43 (dk_at dksX4_judge_1 6 rfl rfl)
theorem dX4_judge_31 : decode cX4_judge 31 = .ok (.iconst 2, 1) := dk_5 (dk_at dksX4_judge_1 7 rfl rfl)
theorem dX4_judge_32 : decode cX4_judge 32 = .ok (.putfield 120, 3) := dk_181 0 120 (dk_at dksX4_judge_1 8 rfl rfl)
theorem dX4_judge_35 : decode cX4_judge 35 = .ok (.goto 34, 3) := dk_167 0 34 (dk_at dksX4_judge_1 11 rfl rfl)
theorem dX4_judge_38 : decode cX4_judge 38 = .ok (.aload_n 0, 1) := dk_42 (dk_at dksX4_judge_1 14 rfl rfl)
theorem dX4_judge_39 : decode cX4_judge 39 = .ok (.aload_n 1, 1) := dk_43 (dk_at dksX4_judge_1 15 rfl rfl)
theorem dX4_judge_40 : decode cX4_judge 40 = .ok (.getfield 104, 3) := dk_180 0 104 (dk_at dksX4_judge_1 16 rfl rfl)
theorem dX4_judge_43 : decode cX4_judge 43 = .ok (.iload_n 2, 1) := dk_28 (dk_at dksX4_judge_1 19 rfl rfl)
theorem dX4_judge_44 : decode cX4_judge 44 = .ok (.invokevirtual 123, 3) := dk_182 0 123 (dk_at dksX4_judge_1 20 rfl rfl)
theorem dX4_judge_47 : decode cX4_judge 47 = .ok (.iconst (-1), 1) := dk_2 (dk_at dksX4_judge_1 23 rfl rfl)
theorem dX4_judge_48 : decode cX4_judge 48 = .ok (.if_icmp .eq 11, 3) := dk_159 0 11 (dk_at dksX4_judge_2 0 rfl rfl)
theorem dX4_judge_51 : decode cX4_judge 51 = .ok (.aload_n 1, 1) := dk_43 (dk_at dksX4_judge_2 3 rfl rfl)
theorem dX4_judge_52 : decode cX4_judge 52 = .ok (.iconst 3, 1) := dk_6 (dk_at dksX4_judge_2 4 rfl rfl)
theorem dX4_judge_53 : decode cX4_judge 53 = .ok (.putfield 120, 3) := dk_181 0 120 (dk_at dksX4_judge_2 5 rfl rfl)
theorem dX4_judge_56 : decode cX4_judge 56 = .ok (.goto 13, 3) := dk_167 0 13 (dk_at dksX4_judge_2 8 rfl rfl)
theorem dX4_judge_59 : decode cX4_judge 59 = .ok (.aload_n 1, 1) := dk_43 (dk_at dksX4_judge_2 11 rfl rfl)
theorem dX4_judge_60 : decode cX4_judge 60 = .ok (.iconst 0, 1) := dk_3 (dk_at dksX4_judge_2 12 rfl rfl)
theorem dX4_judge_61 : decode cX4_judge 61 = .ok (.putfield 120, 3) := dk_181 0 120 (dk_at dksX4_judge_2 13 rfl rfl)
theorem dX4_judge_64 : decode cX4_judge 64 = .ok (.aload_n 1, 1) := dk_43 (dk_at dksX4_judge_2 16 rfl rfl)
theorem dX4_judge_65 : decode cX4_judge 65 = .ok (.iload_n 2, 1) := dk_28 (dk_at dksX4_judge_2 17 rfl rfl)
theorem dX4_judge_66 : decode cX4_judge 66 = .ok (.putfield 127, 3) := dk_181 0 127 (dk_at dksX4_judge_2 18 rfl rfl)
theorem dX4_judge_69 : decode cX4_judge 69 = .ok (.return_, 1) := dk_177 (dk_at dksX4_judge_2 21 rfl rfl)
abbrev cX4_unlike : ByteArray := prog_15_method_10_code
def yX4_unlike : MethodName := ⟨RX4, "unlike", "(II)I"⟩
def dkwX4_unlike_2 : List UInt8 := [154, 0, 5, 29, 172, 132, 3, 1, 167, 255, 203, 2, 172]
abbrev dktX4_unlike_2 : List UInt8 := dkwX4_unlike_2 ++ []
def dkwX4_unlike_1 : List UInt8 := [180, 0, 21, 29, 182, 0, 60, 192, 0, 64, 42, 180, 0, 21, 28, 182, 0, 60, 192, 0, 64, 182, 0, 130]
abbrev dktX4_unlike_1 : List UInt8 := dkwX4_unlike_1 ++ dktX4_unlike_2
def dkwX4_unlike_0 : List UInt8 := [3, 62, 29, 42, 180, 0, 21, 182, 0, 57, 162, 0, 48, 27, 29, 122, 4, 126, 4, 160, 0, 33, 42]
abbrev dktX4_unlike_0 : List UInt8 := dkwX4_unlike_0 ++ dktX4_unlike_1
theorem dksX4_unlike_0 : cX4_unlike.data.toList.drop 0 = dktX4_unlike_0 := by decide +kernel
theorem dksX4_unlike_1 : cX4_unlike.data.toList.drop 23 = dktX4_unlike_1 := dk_seg dksX4_unlike_0 23 rfl rfl
theorem dksX4_unlike_2 : cX4_unlike.data.toList.drop 47 = dktX4_unlike_2 := dk_seg dksX4_unlike_1 24 rfl rfl
theorem dX4_unlike_0 : decode cX4_unlike 0 = .ok (.iconst 0, 1) := dk_3 (dk_at dksX4_unlike_0 0 rfl rfl)
theorem dX4_unlike_1 : decode cX4_unlike 1 = .ok (.istore_n 3, 1) := dk_62 (dk_at dksX4_unlike_0 1 rfl rfl)
theorem dX4_unlike_2 : decode cX4_unlike 2 = .ok (.iload_n 3, 1) := dk_29 (dk_at dksX4_unlike_0 2 rfl rfl)
theorem dX4_unlike_3 : decode cX4_unlike 3 = .ok (.aload_n 0, 1) := dk_42 (dk_at dksX4_unlike_0 3 rfl rfl)
theorem dX4_unlike_4 : decode cX4_unlike 4 = .ok (.getfield 21, 3) := dk_180 0 21 (dk_at dksX4_unlike_0 4 rfl rfl)
theorem dX4_unlike_7 : decode cX4_unlike 7 = .ok (.invokevirtual 57, 3) := dk_182 0 57 (dk_at dksX4_unlike_0 7 rfl rfl)
theorem dX4_unlike_10 : decode cX4_unlike 10 = .ok (.if_icmp .ge 48, 3) := dk_162 0 48 (dk_at dksX4_unlike_0 10 rfl rfl)
theorem dX4_unlike_13 : decode cX4_unlike 13 = .ok (.iload_n 1, 1) := dk_27 (dk_at dksX4_unlike_0 13 rfl rfl)
theorem dX4_unlike_14 : decode cX4_unlike 14 = .ok (.iload_n 3, 1) := dk_29 (dk_at dksX4_unlike_0 14 rfl rfl)
theorem dX4_unlike_15 : decode cX4_unlike 15 = .ok (.ishr, 1) := dk_122 (dk_at dksX4_unlike_0 15 rfl rfl)
theorem dX4_unlike_16 : decode cX4_unlike 16 = .ok (.iconst 1, 1) := dk_4 (dk_at dksX4_unlike_0 16 rfl rfl)
theorem dX4_unlike_17 : decode cX4_unlike 17 = .ok (.iand, 1) := dk_126 (dk_at dksX4_unlike_0 17 rfl rfl)
theorem dX4_unlike_18 : decode cX4_unlike 18 = .ok (.iconst 1, 1) := dk_4 (dk_at dksX4_unlike_0 18 rfl rfl)
theorem dX4_unlike_19 : decode cX4_unlike 19 = .ok (.if_icmp .ne 33, 3) := dk_160 0 33 (dk_at dksX4_unlike_0 19 rfl rfl)
theorem dX4_unlike_22 : decode cX4_unlike 22 = .ok (.aload_n 0, 1) := dk_42 (dk_at dksX4_unlike_0 22 rfl rfl)
theorem dX4_unlike_23 : decode cX4_unlike 23 = .ok (.getfield 21, 3) := dk_180 0 21 (dk_at dksX4_unlike_1 0 rfl rfl)
theorem dX4_unlike_26 : decode cX4_unlike 26 = .ok (.iload_n 3, 1) := dk_29 (dk_at dksX4_unlike_1 3 rfl rfl)
theorem dX4_unlike_27 : decode cX4_unlike 27 = .ok (.invokevirtual 60, 3) := dk_182 0 60 (dk_at dksX4_unlike_1 4 rfl rfl)
theorem dX4_unlike_30 : decode cX4_unlike 30 = .ok (.checkcast 64, 3) := dk_192 0 64 (dk_at dksX4_unlike_1 7 rfl rfl)
theorem dX4_unlike_33 : decode cX4_unlike 33 = .ok (.aload_n 0, 1) := dk_42 (dk_at dksX4_unlike_1 10 rfl rfl)
theorem dX4_unlike_34 : decode cX4_unlike 34 = .ok (.getfield 21, 3) := dk_180 0 21 (dk_at dksX4_unlike_1 11 rfl rfl)
theorem dX4_unlike_37 : decode cX4_unlike 37 = .ok (.iload_n 2, 1) := dk_28 (dk_at dksX4_unlike_1 14 rfl rfl)
theorem dX4_unlike_38 : decode cX4_unlike 38 = .ok (.invokevirtual 60, 3) := dk_182 0 60 (dk_at dksX4_unlike_1 15 rfl rfl)
theorem dX4_unlike_41 : decode cX4_unlike 41 = .ok (.checkcast 64, 3) := dk_192 0 64 (dk_at dksX4_unlike_1 18 rfl rfl)
theorem dX4_unlike_44 : decode cX4_unlike 44 = .ok (.invokevirtual 130, 3) := dk_182 0 130 (dk_at dksX4_unlike_1 21 rfl rfl)
theorem dX4_unlike_47 : decode cX4_unlike 47 = .ok (.ifCond .ne 5, 3) := dk_154 0 5 (dk_at dksX4_unlike_2 0 rfl rfl)
theorem dX4_unlike_50 : decode cX4_unlike 50 = .ok (.iload_n 3, 1) := dk_29 (dk_at dksX4_unlike_2 3 rfl rfl)
theorem dX4_unlike_51 : decode cX4_unlike 51 = .ok (.ireturn, 1) := dk_172 (dk_at dksX4_unlike_2 4 rfl rfl)
theorem dX4_unlike_52 : decode cX4_unlike 52 = .ok (.iinc 3 1, 3) := dk_132 3 1 (dk_at dksX4_unlike_2 5 rfl rfl)
theorem dX4_unlike_55 : decode cX4_unlike 55 = .ok (.goto (-53), 3) := dk_167 255 203 (dk_at dksX4_unlike_2 8 rfl rfl)
theorem dX4_unlike_58 : decode cX4_unlike 58 = .ok (.iconst (-1), 1) := dk_2 (dk_at dksX4_unlike_2 11 rfl rfl)
theorem dX4_unlike_59 : decode cX4_unlike 59 = .ok (.ireturn, 1) := dk_172 (dk_at dksX4_unlike_2 12 rfl rfl)
abbrev cX4_unsettled : ByteArray := prog_15_method_13_code
def yX4_unsettled : MethodName := ⟨RX4, "unsettled", "()I"⟩
def dkwX4_unsettled_0 : List UInt8 := [42, 182, 0, 38, 42, 3, 182, 0, 137, 100, 172]
abbrev dktX4_unsettled_0 : List UInt8 := dkwX4_unsettled_0 ++ []
theorem dksX4_unsettled_0 : cX4_unsettled.data.toList.drop 0 = dktX4_unsettled_0 := by decide +kernel
theorem dX4_unsettled_0 : decode cX4_unsettled 0 = .ok (.aload_n 0, 1) := dk_42 (dk_at dksX4_unsettled_0 0 rfl rfl)
theorem dX4_unsettled_1 : decode cX4_unsettled 1 = .ok (.invokevirtual 38, 3) := dk_182 0 38 (dk_at dksX4_unsettled_0 1 rfl rfl)
theorem dX4_unsettled_4 : decode cX4_unsettled 4 = .ok (.aload_n 0, 1) := dk_42 (dk_at dksX4_unsettled_0 4 rfl rfl)
theorem dX4_unsettled_5 : decode cX4_unsettled 5 = .ok (.iconst 0, 1) := dk_3 (dk_at dksX4_unsettled_0 5 rfl rfl)
theorem dX4_unsettled_6 : decode cX4_unsettled 6 = .ok (.invokevirtual 137, 3) := dk_182 0 137 (dk_at dksX4_unsettled_0 6 rfl rfl)
theorem dX4_unsettled_9 : decode cX4_unsettled 9 = .ok (.isub, 1) := dk_100 (dk_at dksX4_unsettled_0 9 rfl rfl)
theorem dX4_unsettled_10 : decode cX4_unsettled 10 = .ok (.ireturn, 1) := dk_172 (dk_at dksX4_unsettled_0 10 rfl rfl)
abbrev cX4_drop : ByteArray := prog_15_method_18_code
def yX4_drop : MethodName := ⟨RX4, "drop", "(I)V"⟩
def dkwX4_drop_3 : List UInt8 := [132, 3, 1, 167, 255, 205, 177]
abbrev dktX4_drop_3 : List UInt8 := dkwX4_drop_3 ++ []
def dkwX4_drop_2 : List UInt8 := [25, 4, 180, 0, 107, 28, 126, 25, 4, 180, 0, 107, 4, 122, 28, 2, 130, 126, 128, 181, 0, 107]
abbrev dktX4_drop_2 : List UInt8 := dkwX4_drop_2 ++ dktX4_drop_3
def dkwX4_drop_1 : List UInt8 := [180, 0, 21, 182, 0, 57, 162, 0, 46, 42, 180, 0, 21, 29, 182, 0, 60, 192, 0, 64, 58, 4, 25, 4]
abbrev dktX4_drop_1 : List UInt8 := dkwX4_drop_1 ++ dktX4_drop_2
def dkwX4_drop_0 : List UInt8 := [42, 182, 0, 155, 42, 180, 0, 21, 27, 182, 0, 158, 87, 4, 27, 120, 4, 100, 61, 3, 62, 29, 42]
abbrev dktX4_drop_0 : List UInt8 := dkwX4_drop_0 ++ dktX4_drop_1
theorem dksX4_drop_0 : cX4_drop.data.toList.drop 0 = dktX4_drop_0 := by decide +kernel
theorem dksX4_drop_1 : cX4_drop.data.toList.drop 23 = dktX4_drop_1 := dk_seg dksX4_drop_0 23 rfl rfl
theorem dksX4_drop_2 : cX4_drop.data.toList.drop 47 = dktX4_drop_2 := dk_seg dksX4_drop_1 24 rfl rfl
theorem dksX4_drop_3 : cX4_drop.data.toList.drop 69 = dktX4_drop_3 := dk_seg dksX4_drop_2 22 rfl rfl
theorem dX4_drop_0 : decode cX4_drop 0 = .ok (.aload_n 0, 1) := dk_42 (dk_at dksX4_drop_0 0 rfl rfl)
theorem dX4_drop_1 : decode cX4_drop 1 = .ok (.invokevirtual 155, 3) := dk_182 0 155 (dk_at dksX4_drop_0 1 rfl rfl)
theorem dX4_drop_4 : decode cX4_drop 4 = .ok (.aload_n 0, 1) := dk_42 (dk_at dksX4_drop_0 4 rfl rfl)
theorem dX4_drop_5 : decode cX4_drop 5 = .ok (.getfield 21, 3) := dk_180 0 21 (dk_at dksX4_drop_0 5 rfl rfl)
theorem dX4_drop_8 : decode cX4_drop 8 = .ok (.iload_n 1, 1) := dk_27 (dk_at dksX4_drop_0 8 rfl rfl)
theorem dX4_drop_9 : decode cX4_drop 9 = .ok (.invokevirtual 158, 3) := dk_182 0 158 (dk_at dksX4_drop_0 9 rfl rfl)
theorem dX4_drop_12 : decode cX4_drop 12 = .ok (.pop, 1) := dk_87 (dk_at dksX4_drop_0 12 rfl rfl)
theorem dX4_drop_13 : decode cX4_drop 13 = .ok (.iconst 1, 1) := dk_4 (dk_at dksX4_drop_0 13 rfl rfl)
theorem dX4_drop_14 : decode cX4_drop 14 = .ok (.iload_n 1, 1) := dk_27 (dk_at dksX4_drop_0 14 rfl rfl)
theorem dX4_drop_15 : decode cX4_drop 15 = .ok (.ishl, 1) := dk_120 (dk_at dksX4_drop_0 15 rfl rfl)
theorem dX4_drop_16 : decode cX4_drop 16 = .ok (.iconst 1, 1) := dk_4 (dk_at dksX4_drop_0 16 rfl rfl)
theorem dX4_drop_17 : decode cX4_drop 17 = .ok (.isub, 1) := dk_100 (dk_at dksX4_drop_0 17 rfl rfl)
theorem dX4_drop_18 : decode cX4_drop 18 = .ok (.istore_n 2, 1) := dk_61 (dk_at dksX4_drop_0 18 rfl rfl)
theorem dX4_drop_19 : decode cX4_drop 19 = .ok (.iconst 0, 1) := dk_3 (dk_at dksX4_drop_0 19 rfl rfl)
theorem dX4_drop_20 : decode cX4_drop 20 = .ok (.istore_n 3, 1) := dk_62 (dk_at dksX4_drop_0 20 rfl rfl)
theorem dX4_drop_21 : decode cX4_drop 21 = .ok (.iload_n 3, 1) := dk_29 (dk_at dksX4_drop_0 21 rfl rfl)
theorem dX4_drop_22 : decode cX4_drop 22 = .ok (.aload_n 0, 1) := dk_42 (dk_at dksX4_drop_0 22 rfl rfl)
theorem dX4_drop_23 : decode cX4_drop 23 = .ok (.getfield 21, 3) := dk_180 0 21 (dk_at dksX4_drop_1 0 rfl rfl)
theorem dX4_drop_26 : decode cX4_drop 26 = .ok (.invokevirtual 57, 3) := dk_182 0 57 (dk_at dksX4_drop_1 3 rfl rfl)
theorem dX4_drop_29 : decode cX4_drop 29 = .ok (.if_icmp .ge 46, 3) := dk_162 0 46 (dk_at dksX4_drop_1 6 rfl rfl)
theorem dX4_drop_32 : decode cX4_drop 32 = .ok (.aload_n 0, 1) := dk_42 (dk_at dksX4_drop_1 9 rfl rfl)
theorem dX4_drop_33 : decode cX4_drop 33 = .ok (.getfield 21, 3) := dk_180 0 21 (dk_at dksX4_drop_1 10 rfl rfl)
theorem dX4_drop_36 : decode cX4_drop 36 = .ok (.iload_n 3, 1) := dk_29 (dk_at dksX4_drop_1 13 rfl rfl)
theorem dX4_drop_37 : decode cX4_drop 37 = .ok (.invokevirtual 60, 3) := dk_182 0 60 (dk_at dksX4_drop_1 14 rfl rfl)
theorem dX4_drop_40 : decode cX4_drop 40 = .ok (.checkcast 64, 3) := dk_192 0 64 (dk_at dksX4_drop_1 17 rfl rfl)
theorem dX4_drop_43 : decode cX4_drop 43 = .ok (.astore 4, 2) := dk_58 4 (dk_at dksX4_drop_1 20 rfl rfl)
theorem dX4_drop_45 : decode cX4_drop 45 = .ok (.aload 4, 2) := dk_25 4 (dk_at dksX4_drop_1 22 rfl rfl)
theorem dX4_drop_47 : decode cX4_drop 47 = .ok (.aload 4, 2) := dk_25 4 (dk_at dksX4_drop_2 0 rfl rfl)
theorem dX4_drop_49 : decode cX4_drop 49 = .ok (.getfield 107, 3) := dk_180 0 107 (dk_at dksX4_drop_2 2 rfl rfl)
theorem dX4_drop_52 : decode cX4_drop 52 = .ok (.iload_n 2, 1) := dk_28 (dk_at dksX4_drop_2 5 rfl rfl)
theorem dX4_drop_53 : decode cX4_drop 53 = .ok (.iand, 1) := dk_126 (dk_at dksX4_drop_2 6 rfl rfl)
theorem dX4_drop_54 : decode cX4_drop 54 = .ok (.aload 4, 2) := dk_25 4 (dk_at dksX4_drop_2 7 rfl rfl)
theorem dX4_drop_56 : decode cX4_drop 56 = .ok (.getfield 107, 3) := dk_180 0 107 (dk_at dksX4_drop_2 9 rfl rfl)
theorem dX4_drop_59 : decode cX4_drop 59 = .ok (.iconst 1, 1) := dk_4 (dk_at dksX4_drop_2 12 rfl rfl)
theorem dX4_drop_60 : decode cX4_drop 60 = .ok (.ishr, 1) := dk_122 (dk_at dksX4_drop_2 13 rfl rfl)
theorem dX4_drop_61 : decode cX4_drop 61 = .ok (.iload_n 2, 1) := dk_28 (dk_at dksX4_drop_2 14 rfl rfl)
theorem dX4_drop_62 : decode cX4_drop 62 = .ok (.iconst (-1), 1) := dk_2 (dk_at dksX4_drop_2 15 rfl rfl)
theorem dX4_drop_63 : decode cX4_drop 63 = .ok (.ixor, 1) := dk_130 (dk_at dksX4_drop_2 16 rfl rfl)
theorem dX4_drop_64 : decode cX4_drop 64 = .ok (.iand, 1) := dk_126 (dk_at dksX4_drop_2 17 rfl rfl)
theorem dX4_drop_65 : decode cX4_drop 65 = .ok (.ior, 1) := dk_128 (dk_at dksX4_drop_2 18 rfl rfl)
theorem dX4_drop_66 : decode cX4_drop 66 = .ok (.putfield 107, 3) := dk_181 0 107 (dk_at dksX4_drop_2 19 rfl rfl)
theorem dX4_drop_69 : decode cX4_drop 69 = .ok (.iinc 3 1, 3) := dk_132 3 1 (dk_at dksX4_drop_3 0 rfl rfl)
theorem dX4_drop_72 : decode cX4_drop 72 = .ok (.goto (-51), 3) := dk_167 255 205 (dk_at dksX4_drop_3 3 rfl rfl)
theorem dX4_drop_75 : decode cX4_drop 75 = .ok (.return_, 1) := dk_177 (dk_at dksX4_drop_3 6 rfl rfl)
abbrev cX4_duplicate : ByteArray := prog_15_method_3_code
def yX4_duplicate : MethodName := ⟨RX4, "duplicate", "()LHeirCases$Will;"⟩
def dkwX4_duplicate_4 : List UInt8 := [181, 0, 25, 43, 42, 180, 0, 74, 181, 0, 74, 43, 176]
abbrev dktX4_duplicate_4 : List UInt8 := dkwX4_duplicate_4 ++ []
def dkwX4_duplicate_3 : List UInt8 := [182, 0, 60, 192, 0, 64, 182, 0, 66, 182, 0, 70, 87, 132, 2, 1, 167, 255, 220, 43, 42, 180, 0, 25]
abbrev dktX4_duplicate_3 : List UInt8 := dkwX4_duplicate_3 ++ dktX4_duplicate_4
def dkwX4_duplicate_2 : List UInt8 := [3, 61, 28, 42, 180, 0, 21, 182, 0, 57, 162, 0, 31, 43, 180, 0, 21, 42, 180, 0, 21, 28]
abbrev dktX4_duplicate_2 : List UInt8 := dkwX4_duplicate_2 ++ dktX4_duplicate_3
def dkwX4_duplicate_1 : List UInt8 := [3, 43, 180, 0, 9, 3, 7, 184, 0, 51, 42, 180, 0, 15, 3, 43, 180, 0, 15, 3, 7, 184, 0, 51]
abbrev dktX4_duplicate_1 : List UInt8 := dkwX4_duplicate_1 ++ dktX4_duplicate_2
def dkwX4_duplicate_0 : List UInt8 := [187, 0, 10, 89, 42, 180, 0, 29, 42, 180, 0, 32, 42, 180, 0, 35, 183, 0, 48, 76, 42, 180, 0, 9]
abbrev dktX4_duplicate_0 : List UInt8 := dkwX4_duplicate_0 ++ dktX4_duplicate_1
theorem dksX4_duplicate_0 : cX4_duplicate.data.toList.drop 0 = dktX4_duplicate_0 := by decide +kernel
theorem dksX4_duplicate_1 : cX4_duplicate.data.toList.drop 24 = dktX4_duplicate_1 := dk_seg dksX4_duplicate_0 24 rfl rfl
theorem dksX4_duplicate_2 : cX4_duplicate.data.toList.drop 48 = dktX4_duplicate_2 := dk_seg dksX4_duplicate_1 24 rfl rfl
theorem dksX4_duplicate_3 : cX4_duplicate.data.toList.drop 70 = dktX4_duplicate_3 := dk_seg dksX4_duplicate_2 22 rfl rfl
theorem dksX4_duplicate_4 : cX4_duplicate.data.toList.drop 94 = dktX4_duplicate_4 := dk_seg dksX4_duplicate_3 24 rfl rfl
theorem dX4_duplicate_0 : decode cX4_duplicate 0 = .ok (.new 10, 3) := dk_187 0 10 (dk_at dksX4_duplicate_0 0 rfl rfl)
theorem dX4_duplicate_3 : decode cX4_duplicate 3 = .ok (.dup, 1) := dk_89 (dk_at dksX4_duplicate_0 3 rfl rfl)
theorem dX4_duplicate_4 : decode cX4_duplicate 4 = .ok (.aload_n 0, 1) := dk_42 (dk_at dksX4_duplicate_0 4 rfl rfl)
theorem dX4_duplicate_5 : decode cX4_duplicate 5 = .ok (.getfield 29, 3) := dk_180 0 29 (dk_at dksX4_duplicate_0 5 rfl rfl)
theorem dX4_duplicate_8 : decode cX4_duplicate 8 = .ok (.aload_n 0, 1) := dk_42 (dk_at dksX4_duplicate_0 8 rfl rfl)
theorem dX4_duplicate_9 : decode cX4_duplicate 9 = .ok (.getfield 32, 3) := dk_180 0 32 (dk_at dksX4_duplicate_0 9 rfl rfl)
theorem dX4_duplicate_12 : decode cX4_duplicate 12 = .ok (.aload_n 0, 1) := dk_42 (dk_at dksX4_duplicate_0 12 rfl rfl)
theorem dX4_duplicate_13 : decode cX4_duplicate 13 = .ok (.getfield 35, 3) := dk_180 0 35 (dk_at dksX4_duplicate_0 13 rfl rfl)
theorem dX4_duplicate_16 : decode cX4_duplicate 16 = .ok (.invokespecial 48, 3) := dk_183 0 48 (dk_at dksX4_duplicate_0 16 rfl rfl)
theorem dX4_duplicate_19 : decode cX4_duplicate 19 = .ok (.astore_n 1, 1) := dk_76 (dk_at dksX4_duplicate_0 19 rfl rfl)
theorem dX4_duplicate_20 : decode cX4_duplicate 20 = .ok (.aload_n 0, 1) := dk_42 (dk_at dksX4_duplicate_0 20 rfl rfl)
theorem dX4_duplicate_21 : decode cX4_duplicate 21 = .ok (.getfield 9, 3) := dk_180 0 9 (dk_at dksX4_duplicate_0 21 rfl rfl)
theorem dX4_duplicate_24 : decode cX4_duplicate 24 = .ok (.iconst 0, 1) := dk_3 (dk_at dksX4_duplicate_1 0 rfl rfl)
theorem dX4_duplicate_25 : decode cX4_duplicate 25 = .ok (.aload_n 1, 1) := dk_43 (dk_at dksX4_duplicate_1 1 rfl rfl)
theorem dX4_duplicate_26 : decode cX4_duplicate 26 = .ok (.getfield 9, 3) := dk_180 0 9 (dk_at dksX4_duplicate_1 2 rfl rfl)
theorem dX4_duplicate_29 : decode cX4_duplicate 29 = .ok (.iconst 0, 1) := dk_3 (dk_at dksX4_duplicate_1 5 rfl rfl)
theorem dX4_duplicate_30 : decode cX4_duplicate 30 = .ok (.iconst 4, 1) := dk_7 (dk_at dksX4_duplicate_1 6 rfl rfl)
theorem dX4_duplicate_31 : decode cX4_duplicate 31 = .ok (.invokestatic 51, 3) := dk_184 0 51 (dk_at dksX4_duplicate_1 7 rfl rfl)
theorem dX4_duplicate_34 : decode cX4_duplicate 34 = .ok (.aload_n 0, 1) := dk_42 (dk_at dksX4_duplicate_1 10 rfl rfl)
theorem dX4_duplicate_35 : decode cX4_duplicate 35 = .ok (.getfield 15, 3) := dk_180 0 15 (dk_at dksX4_duplicate_1 11 rfl rfl)
theorem dX4_duplicate_38 : decode cX4_duplicate 38 = .ok (.iconst 0, 1) := dk_3 (dk_at dksX4_duplicate_1 14 rfl rfl)
theorem dX4_duplicate_39 : decode cX4_duplicate 39 = .ok (.aload_n 1, 1) := dk_43 (dk_at dksX4_duplicate_1 15 rfl rfl)
theorem dX4_duplicate_40 : decode cX4_duplicate 40 = .ok (.getfield 15, 3) := dk_180 0 15 (dk_at dksX4_duplicate_1 16 rfl rfl)
theorem dX4_duplicate_43 : decode cX4_duplicate 43 = .ok (.iconst 0, 1) := dk_3 (dk_at dksX4_duplicate_1 19 rfl rfl)
theorem dX4_duplicate_44 : decode cX4_duplicate 44 = .ok (.iconst 4, 1) := dk_7 (dk_at dksX4_duplicate_1 20 rfl rfl)
theorem dX4_duplicate_45 : decode cX4_duplicate 45 = .ok (.invokestatic 51, 3) := dk_184 0 51 (dk_at dksX4_duplicate_1 21 rfl rfl)
theorem dX4_duplicate_48 : decode cX4_duplicate 48 = .ok (.iconst 0, 1) := dk_3 (dk_at dksX4_duplicate_2 0 rfl rfl)
theorem dX4_duplicate_49 : decode cX4_duplicate 49 = .ok (.istore_n 2, 1) := dk_61 (dk_at dksX4_duplicate_2 1 rfl rfl)
theorem dX4_duplicate_50 : decode cX4_duplicate 50 = .ok (.iload_n 2, 1) := dk_28 (dk_at dksX4_duplicate_2 2 rfl rfl)
theorem dX4_duplicate_51 : decode cX4_duplicate 51 = .ok (.aload_n 0, 1) := dk_42 (dk_at dksX4_duplicate_2 3 rfl rfl)
theorem dX4_duplicate_52 : decode cX4_duplicate 52 = .ok (.getfield 21, 3) := dk_180 0 21 (dk_at dksX4_duplicate_2 4 rfl rfl)
theorem dX4_duplicate_55 : decode cX4_duplicate 55 = .ok (.invokevirtual 57, 3) := dk_182 0 57 (dk_at dksX4_duplicate_2 7 rfl rfl)
theorem dX4_duplicate_58 : decode cX4_duplicate 58 = .ok (.if_icmp .ge 31, 3) := dk_162 0 31 (dk_at dksX4_duplicate_2 10 rfl rfl)
theorem dX4_duplicate_61 : decode cX4_duplicate 61 = .ok (.aload_n 1, 1) := dk_43 (dk_at dksX4_duplicate_2 13 rfl rfl)
theorem dX4_duplicate_62 : decode cX4_duplicate 62 = .ok (.getfield 21, 3) := dk_180 0 21 (dk_at dksX4_duplicate_2 14 rfl rfl)
theorem dX4_duplicate_65 : decode cX4_duplicate 65 = .ok (.aload_n 0, 1) := dk_42 (dk_at dksX4_duplicate_2 17 rfl rfl)
theorem dX4_duplicate_66 : decode cX4_duplicate 66 = .ok (.getfield 21, 3) := dk_180 0 21 (dk_at dksX4_duplicate_2 18 rfl rfl)
theorem dX4_duplicate_69 : decode cX4_duplicate 69 = .ok (.iload_n 2, 1) := dk_28 (dk_at dksX4_duplicate_2 21 rfl rfl)
theorem dX4_duplicate_70 : decode cX4_duplicate 70 = .ok (.invokevirtual 60, 3) := dk_182 0 60 (dk_at dksX4_duplicate_3 0 rfl rfl)
theorem dX4_duplicate_73 : decode cX4_duplicate 73 = .ok (.checkcast 64, 3) := dk_192 0 64 (dk_at dksX4_duplicate_3 3 rfl rfl)
theorem dX4_duplicate_76 : decode cX4_duplicate 76 = .ok (.invokevirtual 66, 3) := dk_182 0 66 (dk_at dksX4_duplicate_3 6 rfl rfl)
theorem dX4_duplicate_79 : decode cX4_duplicate 79 = .ok (.invokevirtual 70, 3) := dk_182 0 70 (dk_at dksX4_duplicate_3 9 rfl rfl)
theorem dX4_duplicate_82 : decode cX4_duplicate 82 = .ok (.pop, 1) := dk_87 (dk_at dksX4_duplicate_3 12 rfl rfl)
theorem dX4_duplicate_83 : decode cX4_duplicate 83 = .ok (.iinc 2 1, 3) := dk_132 2 1 (dk_at dksX4_duplicate_3 13 rfl rfl)
theorem dX4_duplicate_86 : decode cX4_duplicate 86 = .ok (.goto (-36), 3) := dk_167 255 220 (dk_at dksX4_duplicate_3 16 rfl rfl)
theorem dX4_duplicate_89 : decode cX4_duplicate 89 = .ok (.aload_n 1, 1) := dk_43 (dk_at dksX4_duplicate_3 19 rfl rfl)
theorem dX4_duplicate_90 : decode cX4_duplicate 90 = .ok (.aload_n 0, 1) := dk_42 (dk_at dksX4_duplicate_3 20 rfl rfl)
theorem dX4_duplicate_91 : decode cX4_duplicate 91 = .ok (.getfield 25, 3) := dk_180 0 25 (dk_at dksX4_duplicate_3 21 rfl rfl)
theorem dX4_duplicate_94 : decode cX4_duplicate 94 = .ok (.putfield 25, 3) := dk_181 0 25 (dk_at dksX4_duplicate_4 0 rfl rfl)
theorem dX4_duplicate_97 : decode cX4_duplicate 97 = .ok (.aload_n 1, 1) := dk_43 (dk_at dksX4_duplicate_4 3 rfl rfl)
theorem dX4_duplicate_98 : decode cX4_duplicate 98 = .ok (.aload_n 0, 1) := dk_42 (dk_at dksX4_duplicate_4 4 rfl rfl)
theorem dX4_duplicate_99 : decode cX4_duplicate 99 = .ok (.getfield 74, 3) := dk_180 0 74 (dk_at dksX4_duplicate_4 5 rfl rfl)
theorem dX4_duplicate_102 : decode cX4_duplicate 102 = .ok (.putfield 74, 3) := dk_181 0 74 (dk_at dksX4_duplicate_4 8 rfl rfl)
theorem dX4_duplicate_105 : decode cX4_duplicate 105 = .ok (.aload_n 1, 1) := dk_43 (dk_at dksX4_duplicate_4 11 rfl rfl)
theorem dX4_duplicate_106 : decode cX4_duplicate 106 = .ok (.areturn, 1) := dk_176 (dk_at dksX4_duplicate_4 12 rfl rfl)
abbrev cX4_duties : ByteArray := prog_15_method_17_code
def yX4_duties : MethodName := ⟨RX4, "duties", "(I)I"⟩
def dkwX4_duties_1 : List UInt8 := [167, 255, 236, 28, 172]
abbrev dktX4_duties_1 : List UInt8 := dkwX4_duties_1 ++ []
def dkwX4_duties_0 : List UInt8 := [3, 61, 3, 62, 29, 42, 180, 0, 32, 162, 0, 18, 28, 42, 27, 29, 182, 0, 152, 96, 61, 132, 3, 1]
abbrev dktX4_duties_0 : List UInt8 := dkwX4_duties_0 ++ dktX4_duties_1
theorem dksX4_duties_0 : cX4_duties.data.toList.drop 0 = dktX4_duties_0 := by decide +kernel
theorem dksX4_duties_1 : cX4_duties.data.toList.drop 24 = dktX4_duties_1 := dk_seg dksX4_duties_0 24 rfl rfl
theorem dX4_duties_0 : decode cX4_duties 0 = .ok (.iconst 0, 1) := dk_3 (dk_at dksX4_duties_0 0 rfl rfl)
theorem dX4_duties_1 : decode cX4_duties 1 = .ok (.istore_n 2, 1) := dk_61 (dk_at dksX4_duties_0 1 rfl rfl)
theorem dX4_duties_2 : decode cX4_duties 2 = .ok (.iconst 0, 1) := dk_3 (dk_at dksX4_duties_0 2 rfl rfl)
theorem dX4_duties_3 : decode cX4_duties 3 = .ok (.istore_n 3, 1) := dk_62 (dk_at dksX4_duties_0 3 rfl rfl)
theorem dX4_duties_4 : decode cX4_duties 4 = .ok (.iload_n 3, 1) := dk_29 (dk_at dksX4_duties_0 4 rfl rfl)
theorem dX4_duties_5 : decode cX4_duties 5 = .ok (.aload_n 0, 1) := dk_42 (dk_at dksX4_duties_0 5 rfl rfl)
theorem dX4_duties_6 : decode cX4_duties 6 = .ok (.getfield 32, 3) := dk_180 0 32 (dk_at dksX4_duties_0 6 rfl rfl)
theorem dX4_duties_9 : decode cX4_duties 9 = .ok (.if_icmp .ge 18, 3) := dk_162 0 18 (dk_at dksX4_duties_0 9 rfl rfl)
theorem dX4_duties_12 : decode cX4_duties 12 = .ok (.iload_n 2, 1) := dk_28 (dk_at dksX4_duties_0 12 rfl rfl)
theorem dX4_duties_13 : decode cX4_duties 13 = .ok (.aload_n 0, 1) := dk_42 (dk_at dksX4_duties_0 13 rfl rfl)
theorem dX4_duties_14 : decode cX4_duties 14 = .ok (.iload_n 1, 1) := dk_27 (dk_at dksX4_duties_0 14 rfl rfl)
theorem dX4_duties_15 : decode cX4_duties 15 = .ok (.iload_n 3, 1) := dk_29 (dk_at dksX4_duties_0 15 rfl rfl)
theorem dX4_duties_16 : decode cX4_duties 16 = .ok (.invokevirtual 152, 3) := dk_182 0 152 (dk_at dksX4_duties_0 16 rfl rfl)
theorem dX4_duties_19 : decode cX4_duties 19 = .ok (.iadd, 1) := dk_96 (dk_at dksX4_duties_0 19 rfl rfl)
theorem dX4_duties_20 : decode cX4_duties 20 = .ok (.istore_n 2, 1) := dk_61 (dk_at dksX4_duties_0 20 rfl rfl)
theorem dX4_duties_21 : decode cX4_duties 21 = .ok (.iinc 3 1, 3) := dk_132 3 1 (dk_at dksX4_duties_0 21 rfl rfl)
theorem dX4_duties_24 : decode cX4_duties 24 = .ok (.goto (-20), 3) := dk_167 255 236 (dk_at dksX4_duties_1 0 rfl rfl)
theorem dX4_duties_27 : decode cX4_duties 27 = .ok (.iload_n 2, 1) := dk_28 (dk_at dksX4_duties_1 3 rfl rfl)
theorem dX4_duties_28 : decode cX4_duties 28 = .ok (.ireturn, 1) := dk_172 (dk_at dksX4_duties_1 4 rfl rfl)
abbrev cX4_duty : ByteArray := prog_15_method_16_code
def yX4_duty : MethodName := ⟨RX4, "duty", "(II)I"⟩
def dkwX4_duty_1 : List UInt8 := [46, 104, 16, 100, 108, 167, 0, 4, 3, 172]
abbrev dktX4_duty_1 : List UInt8 := dkwX4_duty_1 ++ []
def dkwX4_duty_0 : List UInt8 := [42, 27, 28, 182, 0, 149, 42, 180, 0, 9, 28, 46, 100, 62, 29, 158, 0, 17, 29, 42, 180, 0, 15, 28]
abbrev dktX4_duty_0 : List UInt8 := dkwX4_duty_0 ++ dktX4_duty_1
theorem dksX4_duty_0 : cX4_duty.data.toList.drop 0 = dktX4_duty_0 := by decide +kernel
theorem dksX4_duty_1 : cX4_duty.data.toList.drop 24 = dktX4_duty_1 := dk_seg dksX4_duty_0 24 rfl rfl
theorem dX4_duty_0 : decode cX4_duty 0 = .ok (.aload_n 0, 1) := dk_42 (dk_at dksX4_duty_0 0 rfl rfl)
theorem dX4_duty_1 : decode cX4_duty 1 = .ok (.iload_n 1, 1) := dk_27 (dk_at dksX4_duty_0 1 rfl rfl)
theorem dX4_duty_2 : decode cX4_duty 2 = .ok (.iload_n 2, 1) := dk_28 (dk_at dksX4_duty_0 2 rfl rfl)
theorem dX4_duty_3 : decode cX4_duty 3 = .ok (.invokevirtual 149, 3) := dk_182 0 149 (dk_at dksX4_duty_0 3 rfl rfl)
theorem dX4_duty_6 : decode cX4_duty 6 = .ok (.aload_n 0, 1) := dk_42 (dk_at dksX4_duty_0 6 rfl rfl)
theorem dX4_duty_7 : decode cX4_duty 7 = .ok (.getfield 9, 3) := dk_180 0 9 (dk_at dksX4_duty_0 7 rfl rfl)
theorem dX4_duty_10 : decode cX4_duty 10 = .ok (.iload_n 2, 1) := dk_28 (dk_at dksX4_duty_0 10 rfl rfl)
theorem dX4_duty_11 : decode cX4_duty 11 = .ok (.iaload, 1) := dk_46 (dk_at dksX4_duty_0 11 rfl rfl)
theorem dX4_duty_12 : decode cX4_duty 12 = .ok (.isub, 1) := dk_100 (dk_at dksX4_duty_0 12 rfl rfl)
theorem dX4_duty_13 : decode cX4_duty 13 = .ok (.istore_n 3, 1) := dk_62 (dk_at dksX4_duty_0 13 rfl rfl)
theorem dX4_duty_14 : decode cX4_duty 14 = .ok (.iload_n 3, 1) := dk_29 (dk_at dksX4_duty_0 14 rfl rfl)
theorem dX4_duty_15 : decode cX4_duty 15 = .ok (.ifCond .le 17, 3) := dk_158 0 17 (dk_at dksX4_duty_0 15 rfl rfl)
theorem dX4_duty_18 : decode cX4_duty 18 = .ok (.iload_n 3, 1) := dk_29 (dk_at dksX4_duty_0 18 rfl rfl)
theorem dX4_duty_19 : decode cX4_duty 19 = .ok (.aload_n 0, 1) := dk_42 (dk_at dksX4_duty_0 19 rfl rfl)
theorem dX4_duty_20 : decode cX4_duty 20 = .ok (.getfield 15, 3) := dk_180 0 15 (dk_at dksX4_duty_0 20 rfl rfl)
theorem dX4_duty_23 : decode cX4_duty 23 = .ok (.iload_n 2, 1) := dk_28 (dk_at dksX4_duty_0 23 rfl rfl)
theorem dX4_duty_24 : decode cX4_duty 24 = .ok (.iaload, 1) := dk_46 (dk_at dksX4_duty_1 0 rfl rfl)
theorem dX4_duty_25 : decode cX4_duty 25 = .ok (.imul, 1) := dk_104 (dk_at dksX4_duty_1 1 rfl rfl)
theorem dX4_duty_26 : decode cX4_duty 26 = .ok (.bipush 100, 2) := dk_16 100 (dk_at dksX4_duty_1 2 rfl rfl)
theorem dX4_duty_28 : decode cX4_duty 28 = .ok (.idiv, 1) := dk_108 (dk_at dksX4_duty_1 4 rfl rfl)
theorem dX4_duty_29 : decode cX4_duty 29 = .ok (.goto 4, 3) := dk_167 0 4 (dk_at dksX4_duty_1 5 rfl rfl)
theorem dX4_duty_32 : decode cX4_duty 32 = .ok (.iconst 0, 1) := dk_3 (dk_at dksX4_duty_1 8 rfl rfl)
theorem dX4_duty_33 : decode cX4_duty 33 = .ok (.ireturn, 1) := dk_172 (dk_at dksX4_duty_1 9 rfl rfl)
abbrev cX4_gets : ByteArray := prog_15_method_15_code
def yX4_gets : MethodName := ⟨RX4, "gets", "(II)I"⟩
def dkwX4_gets_4 : List UInt8 := [167, 255, 218, 21, 5, 172]
abbrev dktX4_gets_4 : List UInt8 := dkwX4_gets_4 ++ []
def dkwX4_gets_3 : List UInt8 := [180, 0, 35, 160, 0, 7, 3, 167, 0, 11, 42, 25, 4, 21, 6, 182, 0, 145, 100, 54, 5, 132, 6, 1]
abbrev dktX4_gets_3 : List UInt8 := dkwX4_gets_3 ++ dktX4_gets_4
def dkwX4_gets_2 : List UInt8 := [180, 0, 25, 54, 5, 3, 54, 6, 21, 6, 42, 180, 0, 32, 162, 0, 35, 21, 5, 21, 6, 42]
abbrev dktX4_gets_2 : List UInt8 := dkwX4_gets_2 ++ dktX4_gets_3
def dkwX4_gets_1 : List UInt8 := [192, 0, 64, 58, 4, 28, 42, 180, 0, 35, 159, 0, 11, 42, 25, 4, 28, 182, 0, 145, 172, 42]
abbrev dktX4_gets_1 : List UInt8 := dkwX4_gets_1 ++ dktX4_gets_2
def dkwX4_gets_0 : List UInt8 := [42, 27, 182, 0, 134, 180, 0, 127, 62, 29, 2, 160, 0, 5, 3, 172, 42, 180, 0, 21, 29, 182, 0, 60]
abbrev dktX4_gets_0 : List UInt8 := dkwX4_gets_0 ++ dktX4_gets_1
theorem dksX4_gets_0 : cX4_gets.data.toList.drop 0 = dktX4_gets_0 := by decide +kernel
theorem dksX4_gets_1 : cX4_gets.data.toList.drop 24 = dktX4_gets_1 := dk_seg dksX4_gets_0 24 rfl rfl
theorem dksX4_gets_2 : cX4_gets.data.toList.drop 46 = dktX4_gets_2 := dk_seg dksX4_gets_1 22 rfl rfl
theorem dksX4_gets_3 : cX4_gets.data.toList.drop 68 = dktX4_gets_3 := dk_seg dksX4_gets_2 22 rfl rfl
theorem dksX4_gets_4 : cX4_gets.data.toList.drop 92 = dktX4_gets_4 := dk_seg dksX4_gets_3 24 rfl rfl
theorem dX4_gets_0 : decode cX4_gets 0 = .ok (.aload_n 0, 1) := dk_42 (dk_at dksX4_gets_0 0 rfl rfl)
theorem dX4_gets_1 : decode cX4_gets 1 = .ok (.iload_n 1, 1) := dk_27 (dk_at dksX4_gets_0 1 rfl rfl)
theorem dX4_gets_2 : decode cX4_gets 2 = .ok (.invokevirtual 134, 3) := dk_182 0 134 (dk_at dksX4_gets_0 2 rfl rfl)
theorem dX4_gets_5 : decode cX4_gets 5 = .ok (.getfield 127, 3) := dk_180 0 127 (dk_at dksX4_gets_0 5 rfl rfl)
theorem dX4_gets_8 : decode cX4_gets 8 = .ok (.istore_n 3, 1) := dk_62 (dk_at dksX4_gets_0 8 rfl rfl)
theorem dX4_gets_9 : decode cX4_gets 9 = .ok (.iload_n 3, 1) := dk_29 (dk_at dksX4_gets_0 9 rfl rfl)
theorem dX4_gets_10 : decode cX4_gets 10 = .ok (.iconst (-1), 1) := dk_2 (dk_at dksX4_gets_0 10 rfl rfl)
theorem dX4_gets_11 : decode cX4_gets 11 = .ok (.if_icmp .ne 5, 3) := dk_160 0 5 (dk_at dksX4_gets_0 11 rfl rfl)
theorem dX4_gets_14 : decode cX4_gets 14 = .ok (.iconst 0, 1) := dk_3 (dk_at dksX4_gets_0 14 rfl rfl)
theorem dX4_gets_15 : decode cX4_gets 15 = .ok (.ireturn, 1) := dk_172 (dk_at dksX4_gets_0 15 rfl rfl)
theorem dX4_gets_16 : decode cX4_gets 16 = .ok (.aload_n 0, 1) := dk_42 (dk_at dksX4_gets_0 16 rfl rfl)
theorem dX4_gets_17 : decode cX4_gets 17 = .ok (.getfield 21, 3) := dk_180 0 21 (dk_at dksX4_gets_0 17 rfl rfl)
theorem dX4_gets_20 : decode cX4_gets 20 = .ok (.iload_n 3, 1) := dk_29 (dk_at dksX4_gets_0 20 rfl rfl)
theorem dX4_gets_21 : decode cX4_gets 21 = .ok (.invokevirtual 60, 3) := dk_182 0 60 (dk_at dksX4_gets_0 21 rfl rfl)
theorem dX4_gets_24 : decode cX4_gets 24 = .ok (.checkcast 64, 3) := dk_192 0 64 (dk_at dksX4_gets_1 0 rfl rfl)
theorem dX4_gets_27 : decode cX4_gets 27 = .ok (.astore 4, 2) := dk_58 4 (dk_at dksX4_gets_1 3 rfl rfl)
theorem dX4_gets_29 : decode cX4_gets 29 = .ok (.iload_n 2, 1) := dk_28 (dk_at dksX4_gets_1 5 rfl rfl)
theorem dX4_gets_30 : decode cX4_gets 30 = .ok (.aload_n 0, 1) := dk_42 (dk_at dksX4_gets_1 6 rfl rfl)
theorem dX4_gets_31 : decode cX4_gets 31 = .ok (.getfield 35, 3) := dk_180 0 35 (dk_at dksX4_gets_1 7 rfl rfl)
theorem dX4_gets_34 : decode cX4_gets 34 = .ok (.if_icmp .eq 11, 3) := dk_159 0 11 (dk_at dksX4_gets_1 10 rfl rfl)
theorem dX4_gets_37 : decode cX4_gets 37 = .ok (.aload_n 0, 1) := dk_42 (dk_at dksX4_gets_1 13 rfl rfl)
theorem dX4_gets_38 : decode cX4_gets 38 = .ok (.aload 4, 2) := dk_25 4 (dk_at dksX4_gets_1 14 rfl rfl)
theorem dX4_gets_40 : decode cX4_gets 40 = .ok (.iload_n 2, 1) := dk_28 (dk_at dksX4_gets_1 16 rfl rfl)
theorem dX4_gets_41 : decode cX4_gets 41 = .ok (.invokevirtual 145, 3) := dk_182 0 145 (dk_at dksX4_gets_1 17 rfl rfl)
theorem dX4_gets_44 : decode cX4_gets 44 = .ok (.ireturn, 1) := dk_172 (dk_at dksX4_gets_1 20 rfl rfl)
theorem dX4_gets_45 : decode cX4_gets 45 = .ok (.aload_n 0, 1) := dk_42 (dk_at dksX4_gets_1 21 rfl rfl)
theorem dX4_gets_46 : decode cX4_gets 46 = .ok (.getfield 25, 3) := dk_180 0 25 (dk_at dksX4_gets_2 0 rfl rfl)
theorem dX4_gets_49 : decode cX4_gets 49 = .ok (.istore 5, 2) := dk_54 5 (dk_at dksX4_gets_2 3 rfl rfl)
theorem dX4_gets_51 : decode cX4_gets 51 = .ok (.iconst 0, 1) := dk_3 (dk_at dksX4_gets_2 5 rfl rfl)
theorem dX4_gets_52 : decode cX4_gets 52 = .ok (.istore 6, 2) := dk_54 6 (dk_at dksX4_gets_2 6 rfl rfl)
theorem dX4_gets_54 : decode cX4_gets 54 = .ok (.iload 6, 2) := dk_21 6 (dk_at dksX4_gets_2 8 rfl rfl)
theorem dX4_gets_56 : decode cX4_gets 56 = .ok (.aload_n 0, 1) := dk_42 (dk_at dksX4_gets_2 10 rfl rfl)
theorem dX4_gets_57 : decode cX4_gets 57 = .ok (.getfield 32, 3) := dk_180 0 32 (dk_at dksX4_gets_2 11 rfl rfl)
theorem dX4_gets_60 : decode cX4_gets 60 = .ok (.if_icmp .ge 35, 3) := dk_162 0 35 (dk_at dksX4_gets_2 14 rfl rfl)
theorem dX4_gets_63 : decode cX4_gets 63 = .ok (.iload 5, 2) := dk_21 5 (dk_at dksX4_gets_2 17 rfl rfl)
theorem dX4_gets_65 : decode cX4_gets 65 = .ok (.iload 6, 2) := dk_21 6 (dk_at dksX4_gets_2 19 rfl rfl)
theorem dX4_gets_67 : decode cX4_gets 67 = .ok (.aload_n 0, 1) := dk_42 (dk_at dksX4_gets_2 21 rfl rfl)
theorem dX4_gets_68 : decode cX4_gets 68 = .ok (.getfield 35, 3) := dk_180 0 35 (dk_at dksX4_gets_3 0 rfl rfl)
theorem dX4_gets_71 : decode cX4_gets 71 = .ok (.if_icmp .ne 7, 3) := dk_160 0 7 (dk_at dksX4_gets_3 3 rfl rfl)
theorem dX4_gets_74 : decode cX4_gets 74 = .ok (.iconst 0, 1) := dk_3 (dk_at dksX4_gets_3 6 rfl rfl)
theorem dX4_gets_75 : decode cX4_gets 75 = .ok (.goto 11, 3) := dk_167 0 11 (dk_at dksX4_gets_3 7 rfl rfl)
theorem dX4_gets_78 : decode cX4_gets 78 = .ok (.aload_n 0, 1) := dk_42 (dk_at dksX4_gets_3 10 rfl rfl)
theorem dX4_gets_79 : decode cX4_gets 79 = .ok (.aload 4, 2) := dk_25 4 (dk_at dksX4_gets_3 11 rfl rfl)
theorem dX4_gets_81 : decode cX4_gets 81 = .ok (.iload 6, 2) := dk_21 6 (dk_at dksX4_gets_3 13 rfl rfl)
theorem dX4_gets_83 : decode cX4_gets 83 = .ok (.invokevirtual 145, 3) := dk_182 0 145 (dk_at dksX4_gets_3 15 rfl rfl)
theorem dX4_gets_86 : decode cX4_gets 86 = .ok (.isub, 1) := dk_100 (dk_at dksX4_gets_3 18 rfl rfl)
theorem dX4_gets_87 : decode cX4_gets 87 = .ok (.istore 5, 2) := dk_54 5 (dk_at dksX4_gets_3 19 rfl rfl)
theorem dX4_gets_89 : decode cX4_gets 89 = .ok (.iinc 6 1, 3) := dk_132 6 1 (dk_at dksX4_gets_3 21 rfl rfl)
theorem dX4_gets_92 : decode cX4_gets 92 = .ok (.goto (-38), 3) := dk_167 255 218 (dk_at dksX4_gets_4 0 rfl rfl)
theorem dX4_gets_95 : decode cX4_gets 95 = .ok (.iload 5, 2) := dk_21 5 (dk_at dksX4_gets_4 3 rfl rfl)
theorem dX4_gets_97 : decode cX4_gets 97 = .ok (.ireturn, 1) := dk_172 (dk_at dksX4_gets_4 5 rfl rfl)
abbrev cX4_partOf : ByteArray := prog_15_method_14_code
def yX4_partOf : MethodName := ⟨RX4, "partOf", "(LHeirCases$Rule;I)I"⟩
def dkwX4_partOf_0 : List UInt8 := [42, 180, 0, 25, 133, 43, 180, 0, 140, 28, 46, 133, 105, 20, 0, 143, 109, 136, 172]
abbrev dktX4_partOf_0 : List UInt8 := dkwX4_partOf_0 ++ []
theorem dksX4_partOf_0 : cX4_partOf.data.toList.drop 0 = dktX4_partOf_0 := by decide +kernel
theorem dX4_partOf_0 : decode cX4_partOf 0 = .ok (.aload_n 0, 1) := dk_42 (dk_at dksX4_partOf_0 0 rfl rfl)
theorem dX4_partOf_1 : decode cX4_partOf 1 = .ok (.getfield 25, 3) := dk_180 0 25 (dk_at dksX4_partOf_0 1 rfl rfl)
theorem dX4_partOf_4 : decode cX4_partOf 4 = .ok (.i2l, 1) := dk_133 (dk_at dksX4_partOf_0 4 rfl rfl)
theorem dX4_partOf_5 : decode cX4_partOf 5 = .ok (.aload_n 1, 1) := dk_43 (dk_at dksX4_partOf_0 5 rfl rfl)
theorem dX4_partOf_6 : decode cX4_partOf 6 = .ok (.getfield 140, 3) := dk_180 0 140 (dk_at dksX4_partOf_0 6 rfl rfl)
theorem dX4_partOf_9 : decode cX4_partOf 9 = .ok (.iload_n 2, 1) := dk_28 (dk_at dksX4_partOf_0 9 rfl rfl)
theorem dX4_partOf_10 : decode cX4_partOf 10 = .ok (.iaload, 1) := dk_46 (dk_at dksX4_partOf_0 10 rfl rfl)
theorem dX4_partOf_11 : decode cX4_partOf 11 = .ok (.i2l, 1) := dk_133 (dk_at dksX4_partOf_0 11 rfl rfl)
theorem dX4_partOf_12 : decode cX4_partOf 12 = .ok (.lmul, 1) := dk_105 (dk_at dksX4_partOf_0 12 rfl rfl)
theorem dX4_partOf_13 : decode cX4_partOf 13 = .ok (.ldc2_w 143, 3) := dk_20 0 143 (dk_at dksX4_partOf_0 13 rfl rfl)
theorem dX4_partOf_16 : decode cX4_partOf 16 = .ok (.ldiv, 1) := dk_109 (dk_at dksX4_partOf_0 16 rfl rfl)
theorem dX4_partOf_17 : decode cX4_partOf 17 = .ok (.l2i, 1) := dk_136 (dk_at dksX4_partOf_0 17 rfl rfl)
theorem dX4_partOf_18 : decode cX4_partOf 18 = .ok (.ireturn, 1) := dk_172 (dk_at dksX4_partOf_0 18 rfl rfl)
abbrev cX4_setValue : ByteArray := prog_15_method_20_code
def yX4_setValue : MethodName := ⟨RX4, "setValue", "(II)V"⟩
def dkwX4_setValue_0 : List UInt8 := [42, 42, 180, 0, 74, 182, 0, 81, 78, 45, 27, 28, 79, 42, 42, 45, 182, 0, 164, 181, 0, 74, 177]
abbrev dktX4_setValue_0 : List UInt8 := dkwX4_setValue_0 ++ []
theorem dksX4_setValue_0 : cX4_setValue.data.toList.drop 0 = dktX4_setValue_0 := by decide +kernel
theorem dX4_setValue_0 : decode cX4_setValue 0 = .ok (.aload_n 0, 1) := dk_42 (dk_at dksX4_setValue_0 0 rfl rfl)
theorem dX4_setValue_1 : decode cX4_setValue 1 = .ok (.aload_n 0, 1) := dk_42 (dk_at dksX4_setValue_0 1 rfl rfl)
theorem dX4_setValue_2 : decode cX4_setValue 2 = .ok (.getfield 74, 3) := dk_180 0 74 (dk_at dksX4_setValue_0 2 rfl rfl)
theorem dX4_setValue_5 : decode cX4_setValue 5 = .ok (.invokevirtual 81, 3) := dk_182 0 81 (dk_at dksX4_setValue_0 5 rfl rfl)
theorem dX4_setValue_8 : decode cX4_setValue 8 = .ok (.astore_n 3, 1) := dk_78 (dk_at dksX4_setValue_0 8 rfl rfl)
theorem dX4_setValue_9 : decode cX4_setValue 9 = .ok (.aload_n 3, 1) := dk_45 (dk_at dksX4_setValue_0 9 rfl rfl)
theorem dX4_setValue_10 : decode cX4_setValue 10 = .ok (.iload_n 1, 1) := dk_27 (dk_at dksX4_setValue_0 10 rfl rfl)
theorem dX4_setValue_11 : decode cX4_setValue 11 = .ok (.iload_n 2, 1) := dk_28 (dk_at dksX4_setValue_0 11 rfl rfl)
theorem dX4_setValue_12 : decode cX4_setValue 12 = .ok (.iastore, 1) := dk_79 (dk_at dksX4_setValue_0 12 rfl rfl)
theorem dX4_setValue_13 : decode cX4_setValue 13 = .ok (.aload_n 0, 1) := dk_42 (dk_at dksX4_setValue_0 13 rfl rfl)
theorem dX4_setValue_14 : decode cX4_setValue 14 = .ok (.aload_n 0, 1) := dk_42 (dk_at dksX4_setValue_0 14 rfl rfl)
theorem dX4_setValue_15 : decode cX4_setValue 15 = .ok (.aload_n 3, 1) := dk_45 (dk_at dksX4_setValue_0 15 rfl rfl)
theorem dX4_setValue_16 : decode cX4_setValue 16 = .ok (.invokevirtual 164, 3) := dk_182 0 164 (dk_at dksX4_setValue_0 16 rfl rfl)
theorem dX4_setValue_19 : decode cX4_setValue 19 = .ok (.putfield 74, 3) := dk_181 0 74 (dk_at dksX4_setValue_0 19 rfl rfl)
theorem dX4_setValue_22 : decode cX4_setValue 22 = .ok (.return_, 1) := dk_177 (dk_at dksX4_setValue_0 22 rfl rfl)
abbrev cX4_numberOf : ByteArray := prog_15_method_6_code
def yX4_numberOf : MethodName := ⟨RX4, "numberOf", "([I)I"⟩
def dkwX4_numberOf_1 : List UInt8 := [46, 96, 61, 132, 3, 255, 167, 255, 236, 28, 172]
abbrev dktX4_numberOf_1 : List UInt8 := dkwX4_numberOf_1 ++ []
def dkwX4_numberOf_0 : List UInt8 := [3, 61, 42, 180, 0, 29, 190, 4, 100, 62, 29, 155, 0, 22, 28, 42, 180, 0, 29, 29, 46, 104, 43, 29]
abbrev dktX4_numberOf_0 : List UInt8 := dkwX4_numberOf_0 ++ dktX4_numberOf_1
theorem dksX4_numberOf_0 : cX4_numberOf.data.toList.drop 0 = dktX4_numberOf_0 := by decide +kernel
theorem dksX4_numberOf_1 : cX4_numberOf.data.toList.drop 24 = dktX4_numberOf_1 := dk_seg dksX4_numberOf_0 24 rfl rfl
theorem dX4_numberOf_0 : decode cX4_numberOf 0 = .ok (.iconst 0, 1) := dk_3 (dk_at dksX4_numberOf_0 0 rfl rfl)
theorem dX4_numberOf_1 : decode cX4_numberOf 1 = .ok (.istore_n 2, 1) := dk_61 (dk_at dksX4_numberOf_0 1 rfl rfl)
theorem dX4_numberOf_2 : decode cX4_numberOf 2 = .ok (.aload_n 0, 1) := dk_42 (dk_at dksX4_numberOf_0 2 rfl rfl)
theorem dX4_numberOf_3 : decode cX4_numberOf 3 = .ok (.getfield 29, 3) := dk_180 0 29 (dk_at dksX4_numberOf_0 3 rfl rfl)
theorem dX4_numberOf_6 : decode cX4_numberOf 6 = .ok (.arraylength, 1) := dk_190 (dk_at dksX4_numberOf_0 6 rfl rfl)
theorem dX4_numberOf_7 : decode cX4_numberOf 7 = .ok (.iconst 1, 1) := dk_4 (dk_at dksX4_numberOf_0 7 rfl rfl)
theorem dX4_numberOf_8 : decode cX4_numberOf 8 = .ok (.isub, 1) := dk_100 (dk_at dksX4_numberOf_0 8 rfl rfl)
theorem dX4_numberOf_9 : decode cX4_numberOf 9 = .ok (.istore_n 3, 1) := dk_62 (dk_at dksX4_numberOf_0 9 rfl rfl)
theorem dX4_numberOf_10 : decode cX4_numberOf 10 = .ok (.iload_n 3, 1) := dk_29 (dk_at dksX4_numberOf_0 10 rfl rfl)
theorem dX4_numberOf_11 : decode cX4_numberOf 11 = .ok (.ifCond .lt 22, 3) := dk_155 0 22 (dk_at dksX4_numberOf_0 11 rfl rfl)
theorem dX4_numberOf_14 : decode cX4_numberOf 14 = .ok (.iload_n 2, 1) := dk_28 (dk_at dksX4_numberOf_0 14 rfl rfl)
theorem dX4_numberOf_15 : decode cX4_numberOf 15 = .ok (.aload_n 0, 1) := dk_42 (dk_at dksX4_numberOf_0 15 rfl rfl)
theorem dX4_numberOf_16 : decode cX4_numberOf 16 = .ok (.getfield 29, 3) := dk_180 0 29 (dk_at dksX4_numberOf_0 16 rfl rfl)
theorem dX4_numberOf_19 : decode cX4_numberOf 19 = .ok (.iload_n 3, 1) := dk_29 (dk_at dksX4_numberOf_0 19 rfl rfl)
theorem dX4_numberOf_20 : decode cX4_numberOf 20 = .ok (.iaload, 1) := dk_46 (dk_at dksX4_numberOf_0 20 rfl rfl)
theorem dX4_numberOf_21 : decode cX4_numberOf 21 = .ok (.imul, 1) := dk_104 (dk_at dksX4_numberOf_0 21 rfl rfl)
theorem dX4_numberOf_22 : decode cX4_numberOf 22 = .ok (.aload_n 1, 1) := dk_43 (dk_at dksX4_numberOf_0 22 rfl rfl)
theorem dX4_numberOf_23 : decode cX4_numberOf 23 = .ok (.iload_n 3, 1) := dk_29 (dk_at dksX4_numberOf_0 23 rfl rfl)
theorem dX4_numberOf_24 : decode cX4_numberOf 24 = .ok (.iaload, 1) := dk_46 (dk_at dksX4_numberOf_1 0 rfl rfl)
theorem dX4_numberOf_25 : decode cX4_numberOf 25 = .ok (.iadd, 1) := dk_96 (dk_at dksX4_numberOf_1 1 rfl rfl)
theorem dX4_numberOf_26 : decode cX4_numberOf 26 = .ok (.istore_n 2, 1) := dk_61 (dk_at dksX4_numberOf_1 2 rfl rfl)
theorem dX4_numberOf_27 : decode cX4_numberOf 27 = .ok (.iinc 3 (-1), 3) := dk_132 3 255 (dk_at dksX4_numberOf_1 3 rfl rfl)
theorem dX4_numberOf_30 : decode cX4_numberOf 30 = .ok (.goto (-20), 3) := dk_167 255 236 (dk_at dksX4_numberOf_1 6 rfl rfl)
theorem dX4_numberOf_33 : decode cX4_numberOf 33 = .ok (.iload_n 2, 1) := dk_28 (dk_at dksX4_numberOf_1 9 rfl rfl)
theorem dX4_numberOf_34 : decode cX4_numberOf 34 = .ok (.ireturn, 1) := dk_172 (dk_at dksX4_numberOf_1 10 rfl rfl)
theorem q150 : (Jvm.Cond.initialized "HeirCases$Will") ∈ lw_all := lw_g (lw_at lw_m1 25 rfl) rfl
theorem q803 : (Jvm.Cond.instantiable "HeirCases$Will" (9 : Nat)) ∈ lw_all := lw_g (lw_at lw_m3 198 rfl) rfl
theorem q805 : (Jvm.Cond.instanceMethod ({ cls := "HeirCases$Will", name := "<init>", desc := "([III)V" } : Jvm.MethodName)) ∈ lw_all := lw_g (lw_at lw_m3 200 rfl) rfl
theorem q806 : (Jvm.Cond.code ({ cls := "HeirCases$Will", name := "<init>", desc := "([III)V" } : Jvm.MethodName) prog_15_method_1_code (4 : Nat) (Option.none : Option Jvm.ClassFile.FieldType)) ∈ lw_all := lw_g (lw_at lw_m3 201 rfl) rfl
theorem q807 : (Jvm.Cond.methodLink "HeirCases$Will" (3 : Nat) ({ cls := "java/lang/Object", name := "<init>", desc := "()V" } : Jvm.MethodName)) ∈ lw_all := lw_g (lw_at lw_m3 202 rfl) rfl
theorem q808 : (Jvm.Cond.classLink "HeirCases$Will" (18 : Nat) "java/util/ArrayList") ∈ lw_all := lw_g (lw_at lw_m3 203 rfl) rfl
theorem q810 : (Jvm.Cond.methodLink "HeirCases$Will" (20 : Nat) ({ cls := "java/util/ArrayList", name := "<init>", desc := "()V" } : Jvm.MethodName)) ∈ lw_all := lw_g (lw_at lw_m3 205 rfl) rfl
theorem q832 : (Jvm.Cond.methodLink "HeirCases$Will" (38 : Nat) ({ cls := "HeirCases$Will", name := "cases", desc := "()I" } : Jvm.MethodName)) ∈ lw_all := lw_g (lw_at lw_m3 227 rfl) rfl
theorem q833 : (Jvm.Cond.instanceMethod ({ cls := "HeirCases$Will", name := "cases", desc := "()I" } : Jvm.MethodName)) ∈ lw_all := lw_g (lw_at lw_m3 228 rfl) rfl
theorem q834 : (Jvm.Cond.selects "HeirCases$Will" ({ cls := "HeirCases$Will", name := "cases", desc := "()I" } : Jvm.MethodName) ({ cls := "HeirCases$Will", name := "cases", desc := "()I" } : Jvm.MethodName)) ∈ lw_all := lw_g (lw_at lw_m3 229 rfl) rfl
theorem q835 : (Jvm.Cond.code ({ cls := "HeirCases$Will", name := "cases", desc := "()I" } : Jvm.MethodName) prog_15_method_4_code (3 : Nat) (Option.some Jvm.ClassFile.FieldType.int)) ∈ lw_all := lw_g (lw_at lw_m3 230 rfl) rfl
theorem q836 : (Jvm.Cond.classLink "HeirCases$Will" (42 : Nat) "HeirCases$Finding") ∈ lw_all := lw_g (lw_at lw_m3 231 rfl) rfl
theorem q838 : (Jvm.Cond.fieldLink "HeirCases$Will" (29 : Nat) "HeirCases$Will" "values" "[I") ∈ lw_all := lw_g (lw_at lw_m3 233 rfl) rfl
theorem q841 : (Jvm.Cond.fieldLink "HeirCases$Will" (32 : Nat) "HeirCases$Will" "heirs" "I") ∈ lw_all := lw_g (lw_at lw_m3 236 rfl) rfl
theorem q844 : (Jvm.Cond.fieldLink "HeirCases$Will" (9 : Nat) "HeirCases$Will" "free" "[I") ∈ lw_all := lw_g (lw_at lw_m3 239 rfl) rfl
theorem q847 : (Jvm.Cond.fieldLink "HeirCases$Will" (15 : Nat) "HeirCases$Will" "rates" "[I") ∈ lw_all := lw_g (lw_at lw_m4 2 rfl) rfl
theorem q850 : (Jvm.Cond.fieldLink "HeirCases$Will" (21 : Nat) "HeirCases$Will" "rules" "Ljava/util/ArrayList;") ∈ lw_all := lw_g (lw_at lw_m4 5 rfl) rfl
theorem q853 : (Jvm.Cond.fieldLink "HeirCases$Will" (44 : Nat) "HeirCases$Will" "found" "[LHeirCases$Finding;") ∈ lw_all := lw_g (lw_at lw_m4 8 rfl) rfl
theorem q854 : (Jvm.Cond.fieldLink "HeirCases$Will" (35 : Nat) "HeirCases$Will" "rest" "I") ∈ lw_all := lw_g (lw_at lw_m4 9 rfl) rfl
theorem q856 : (Jvm.Cond.fieldLink "HeirCases$Will" (25 : Nat) "HeirCases$Will" "estate" "I") ∈ lw_all := lw_g (lw_at lw_m4 11 rfl) rfl
theorem q859 : (Jvm.Cond.fieldLink "HeirCases$Will" (74 : Nat) "HeirCases$Will" "atHand" "I") ∈ lw_all := lw_g (lw_at lw_m4 14 rfl) rfl
theorem q861 : (Jvm.Cond.laysFinal "HeirCases$Will" "HeirCases$Will" "values" "[I") ∈ lw_all := lw_g (lw_at lw_m4 16 rfl) rfl
theorem q862 : (Jvm.Cond.soleField "HeirCases$Will" "values") ∈ lw_all := lw_g (lw_at lw_m4 17 rfl) rfl
theorem q863 : (Jvm.Cond.laysFinal "HeirCases$Will" "HeirCases$Will" "heirs" "I") ∈ lw_all := lw_g (lw_at lw_m4 18 rfl) rfl
theorem q864 : (Jvm.Cond.soleField "HeirCases$Will" "heirs") ∈ lw_all := lw_g (lw_at lw_m4 19 rfl) rfl
theorem q865 : (Jvm.Cond.laysFinal "HeirCases$Will" "HeirCases$Will" "free" "[I") ∈ lw_all := lw_g (lw_at lw_m4 20 rfl) rfl
theorem q866 : (Jvm.Cond.soleField "HeirCases$Will" "free") ∈ lw_all := lw_g (lw_at lw_m4 21 rfl) rfl
theorem q867 : (Jvm.Cond.laysFinal "HeirCases$Will" "HeirCases$Will" "rates" "[I") ∈ lw_all := lw_g (lw_at lw_m4 22 rfl) rfl
theorem q868 : (Jvm.Cond.soleField "HeirCases$Will" "rates") ∈ lw_all := lw_g (lw_at lw_m4 23 rfl) rfl
theorem q869 : (Jvm.Cond.laysFinal "HeirCases$Will" "HeirCases$Will" "rules" "Ljava/util/ArrayList;") ∈ lw_all := lw_g (lw_at lw_m4 24 rfl) rfl
theorem q870 : (Jvm.Cond.soleField "HeirCases$Will" "rules") ∈ lw_all := lw_g (lw_at lw_m4 25 rfl) rfl
theorem q871 : (Jvm.Cond.laysFinal "HeirCases$Will" "HeirCases$Will" "found" "[LHeirCases$Finding;") ∈ lw_all := lw_g (lw_at lw_m4 26 rfl) rfl
theorem q872 : (Jvm.Cond.soleField "HeirCases$Will" "found") ∈ lw_all := lw_g (lw_at lw_m4 27 rfl) rfl
theorem q873 : (Jvm.Cond.lays "HeirCases$Will" "HeirCases$Will" "rest" "I") ∈ lw_all := lw_g (lw_at lw_m4 28 rfl) rfl
theorem q874 : (Jvm.Cond.soleField "HeirCases$Will" "rest") ∈ lw_all := lw_g (lw_at lw_m4 29 rfl) rfl
theorem q875 : (Jvm.Cond.lays "HeirCases$Will" "HeirCases$Will" "estate" "I") ∈ lw_all := lw_g (lw_at lw_m4 30 rfl) rfl
theorem q876 : (Jvm.Cond.soleField "HeirCases$Will" "estate") ∈ lw_all := lw_g (lw_at lw_m4 31 rfl) rfl
theorem q877 : (Jvm.Cond.lays "HeirCases$Will" "HeirCases$Will" "atHand" "I") ∈ lw_all := lw_g (lw_at lw_m4 32 rfl) rfl
theorem q878 : (Jvm.Cond.soleField "HeirCases$Will" "atHand") ∈ lw_all := lw_g (lw_at lw_m4 33 rfl) rfl
theorem q879 : (Jvm.Cond.superclass "HeirCases$Will" "java/lang/Object") ∈ lw_all := lw_g (lw_at lw_m4 34 rfl) rfl
theorem q1073 : (Jvm.Cond.selects "HeirCases$Will" ({ cls := "java/lang/Object", name := "getClass", desc := "()Ljava/lang/Class;" } : Jvm.MethodName) ({ cls := "java/lang/Object", name := "getClass", desc := "()Ljava/lang/Class;" } : Jvm.MethodName)) ∈ lw_all := lw_g (lw_at lw_m4 228 rfl) rfl
theorem q1102 : (Jvm.Cond.fieldLink "HeirCases$Will" (91 : Nat) "HeirCases$Rule" "guard" "LHeirCases$Guard;") ∈ lw_all := lw_g (lw_at lw_m5 17 rfl) rfl
theorem q1107 : (Jvm.Cond.fieldLink "HeirCases$Will" (140 : Nat) "HeirCases$Rule" "shares" "[I") ∈ lw_all := lw_g (lw_at lw_m5 22 rfl) rfl
theorem q1110 : (Jvm.Cond.fieldLink "HeirCases$Will" (107 : Nat) "HeirCases$Rule" "over" "I") ∈ lw_all := lw_g (lw_at lw_m5 25 rfl) rfl
theorem q1133 : (Jvm.Cond.instanceMethod ({ cls := "HeirCases$Will", name := "setShare", desc := "(LHeirCases$Rule;III)Z" } : Jvm.MethodName)) ∈ lw_all := lw_g (lw_at lw_m5 48 rfl) rfl
theorem q1134 : (Jvm.Cond.selects "HeirCases$Will" ({ cls := "HeirCases$Will", name := "setShare", desc := "(LHeirCases$Rule;III)Z" } : Jvm.MethodName) ({ cls := "HeirCases$Will", name := "setShare", desc := "(LHeirCases$Rule;III)Z" } : Jvm.MethodName)) ∈ lw_all := lw_g (lw_at lw_m5 49 rfl) rfl
theorem q1135 : (Jvm.Cond.code ({ cls := "HeirCases$Will", name := "setShare", desc := "(LHeirCases$Rule;III)Z" } : Jvm.MethodName) prog_15_method_19_code (7 : Nat) (Option.some Jvm.ClassFile.FieldType.boolean)) ∈ lw_all := lw_g (lw_at lw_m5 50 rfl) rfl
theorem q1136 : (Jvm.Cond.methodLink "HeirCases$Will" (155 : Nat) ({ cls := "HeirCases$Will", name := "forget", desc := "()V" } : Jvm.MethodName)) ∈ lw_all := lw_g (lw_at lw_m5 51 rfl) rfl
theorem q1137 : (Jvm.Cond.instanceMethod ({ cls := "HeirCases$Will", name := "forget", desc := "()V" } : Jvm.MethodName)) ∈ lw_all := lw_g (lw_at lw_m5 52 rfl) rfl
theorem q1138 : (Jvm.Cond.selects "HeirCases$Will" ({ cls := "HeirCases$Will", name := "forget", desc := "()V" } : Jvm.MethodName) ({ cls := "HeirCases$Will", name := "forget", desc := "()V" } : Jvm.MethodName)) ∈ lw_all := lw_g (lw_at lw_m5 53 rfl) rfl
theorem q1139 : (Jvm.Cond.code ({ cls := "HeirCases$Will", name := "forget", desc := "()V" } : Jvm.MethodName) prog_15_method_2_code (2 : Nat) (Option.none : Option Jvm.ClassFile.FieldType)) ∈ lw_all := lw_g (lw_at lw_m5 54 rfl) rfl
theorem q1140 : (Jvm.Cond.methodLink "HeirCases$Will" (161 : Nat) ({ cls := "HeirCases$Rule", name := "sharesTogether", desc := "()I" } : Jvm.MethodName)) ∈ lw_all := lw_g (lw_at lw_m5 55 rfl) rfl
theorem q1215 : (Jvm.Cond.instanceMethod ({ cls := "HeirCases$Will", name := "gaps", desc := "()I" } : Jvm.MethodName)) ∈ lw_all := lw_g (lw_at lw_m5 130 rfl) rfl
theorem q1216 : (Jvm.Cond.selects "HeirCases$Will" ({ cls := "HeirCases$Will", name := "gaps", desc := "()I" } : Jvm.MethodName) ({ cls := "HeirCases$Will", name := "gaps", desc := "()I" } : Jvm.MethodName)) ∈ lw_all := lw_g (lw_at lw_m5 131 rfl) rfl
theorem q1217 : (Jvm.Cond.code ({ cls := "HeirCases$Will", name := "gaps", desc := "()I" } : Jvm.MethodName) prog_15_method_12_code (1 : Nat) (Option.some Jvm.ClassFile.FieldType.int)) ∈ lw_all := lw_g (lw_at lw_m5 132 rfl) rfl
theorem q1218 : (Jvm.Cond.methodLink "HeirCases$Will" (137 : Nat) ({ cls := "HeirCases$Will", name := "withVerdict", desc := "(I)I" } : Jvm.MethodName)) ∈ lw_all := lw_g (lw_at lw_m5 133 rfl) rfl
theorem q1219 : (Jvm.Cond.instanceMethod ({ cls := "HeirCases$Will", name := "withVerdict", desc := "(I)I" } : Jvm.MethodName)) ∈ lw_all := lw_g (lw_at lw_m5 134 rfl) rfl
theorem q1220 : (Jvm.Cond.selects "HeirCases$Will" ({ cls := "HeirCases$Will", name := "withVerdict", desc := "(I)I" } : Jvm.MethodName) ({ cls := "HeirCases$Will", name := "withVerdict", desc := "(I)I" } : Jvm.MethodName)) ∈ lw_all := lw_g (lw_at lw_m5 135 rfl) rfl
theorem q1221 : (Jvm.Cond.code ({ cls := "HeirCases$Will", name := "withVerdict", desc := "(I)I" } : Jvm.MethodName) prog_15_method_11_code (5 : Nat) (Option.some Jvm.ClassFile.FieldType.int)) ∈ lw_all := lw_g (lw_at lw_m5 136 rfl) rfl
theorem q1222 : (Jvm.Cond.methodLink "HeirCases$Will" (134 : Nat) ({ cls := "HeirCases$Will", name := "look", desc := "(I)LHeirCases$Finding;" } : Jvm.MethodName)) ∈ lw_all := lw_g (lw_at lw_m5 137 rfl) rfl
theorem q1223 : (Jvm.Cond.instanceMethod ({ cls := "HeirCases$Will", name := "look", desc := "(I)LHeirCases$Finding;" } : Jvm.MethodName)) ∈ lw_all := lw_g (lw_at lw_m5 138 rfl) rfl
theorem q1224 : (Jvm.Cond.selects "HeirCases$Will" ({ cls := "HeirCases$Will", name := "look", desc := "(I)LHeirCases$Finding;" } : Jvm.MethodName) ({ cls := "HeirCases$Will", name := "look", desc := "(I)LHeirCases$Finding;" } : Jvm.MethodName)) ∈ lw_all := lw_g (lw_at lw_m5 139 rfl) rfl
theorem q1225 : (Jvm.Cond.code ({ cls := "HeirCases$Will", name := "look", desc := "(I)LHeirCases$Finding;" } : Jvm.MethodName) prog_15_method_7_code (2 : Nat) (Option.some (Jvm.ClassFile.FieldType.object "HeirCases$Finding"))) ∈ lw_all := lw_g (lw_at lw_m5 140 rfl) rfl
theorem q1226 : (Jvm.Cond.methodLink "HeirCases$Will" (77 : Nat) ({ cls := "HeirCases$Will", name := "find", desc := "(I)LHeirCases$Finding;" } : Jvm.MethodName)) ∈ lw_all := lw_g (lw_at lw_m5 141 rfl) rfl
theorem q1227 : (Jvm.Cond.privateMethod ({ cls := "HeirCases$Will", name := "find", desc := "(I)LHeirCases$Finding;" } : Jvm.MethodName)) ∈ lw_tbl := lw_at lw_m5 142 rfl
theorem q1228 : (Jvm.Cond.instanceMethod ({ cls := "HeirCases$Will", name := "find", desc := "(I)LHeirCases$Finding;" } : Jvm.MethodName)) ∈ lw_all := lw_g (lw_at lw_m5 143 rfl) rfl
theorem q1229 : (Jvm.Cond.code ({ cls := "HeirCases$Will", name := "find", desc := "(I)LHeirCases$Finding;" } : Jvm.MethodName) prog_15_method_8_code (4 : Nat) (Option.some (Jvm.ClassFile.FieldType.object "HeirCases$Finding"))) ∈ lw_all := lw_g (lw_at lw_m5 144 rfl) rfl
theorem q1231 : (Jvm.Cond.methodLink "HeirCases$Will" (81 : Nat) ({ cls := "HeirCases$Will", name := "valuesOf", desc := "(I)[I" } : Jvm.MethodName)) ∈ lw_all := lw_g (lw_at lw_m5 146 rfl) rfl
theorem q1232 : (Jvm.Cond.instanceMethod ({ cls := "HeirCases$Will", name := "valuesOf", desc := "(I)[I" } : Jvm.MethodName)) ∈ lw_all := lw_g (lw_at lw_m5 147 rfl) rfl
theorem q1233 : (Jvm.Cond.selects "HeirCases$Will" ({ cls := "HeirCases$Will", name := "valuesOf", desc := "(I)[I" } : Jvm.MethodName) ({ cls := "HeirCases$Will", name := "valuesOf", desc := "(I)[I" } : Jvm.MethodName)) ∈ lw_all := lw_g (lw_at lw_m5 148 rfl) rfl
theorem q1234 : (Jvm.Cond.code ({ cls := "HeirCases$Will", name := "valuesOf", desc := "(I)[I" } : Jvm.MethodName) prog_15_method_5_code (5 : Nat) (Option.some (Jvm.ClassFile.FieldType.array Jvm.ClassFile.FieldType.int))) ∈ lw_all := lw_g (lw_at lw_m5 149 rfl) rfl
theorem q1235 : (Jvm.Cond.methodLink "HeirCases$Will" (85 : Nat) ({ cls := "HeirCases$Finding", name := "<init>", desc := "([I)V" } : Jvm.MethodName)) ∈ lw_all := lw_g (lw_at lw_m5 150 rfl) rfl
theorem q1240 : (Jvm.Cond.fieldLink "HeirCases$Will" (95 : Nat) "HeirCases$Finding" "row" "[I") ∈ lw_all := lw_g (lw_at lw_m5 155 rfl) rfl
theorem q1242 : (Jvm.Cond.fieldLink "HeirCases$Will" (88 : Nat) "HeirCases$Finding" "applying" "I") ∈ lw_all := lw_g (lw_at lw_m5 157 rfl) rfl
theorem q1244 : (Jvm.Cond.fieldLink "HeirCases$Will" (104 : Nat) "HeirCases$Finding" "unbeaten" "I") ∈ lw_all := lw_g (lw_at lw_m5 159 rfl) rfl
theorem q1246 : (Jvm.Cond.fieldLink "HeirCases$Will" (120 : Nat) "HeirCases$Finding" "verdict" "I") ∈ lw_all := lw_g (lw_at lw_m5 161 rfl) rfl
theorem q1249 : (Jvm.Cond.fieldLink "HeirCases$Will" (127 : Nat) "HeirCases$Finding" "settledBy" "I") ∈ lw_all := lw_g (lw_at lw_m5 164 rfl) rfl
theorem q1262 : (Jvm.Cond.methodLink "HeirCases$Will" (57 : Nat) ({ cls := "java/util/ArrayList", name := "size", desc := "()I" } : Jvm.MethodName)) ∈ lw_all := lw_g (lw_at lw_m5 177 rfl) rfl
theorem q1263 : (Jvm.Cond.methodLink "HeirCases$Will" (60 : Nat) ({ cls := "java/util/ArrayList", name := "get", desc := "(I)Ljava/lang/Object;" } : Jvm.MethodName)) ∈ lw_all := lw_g (lw_at lw_m5 178 rfl) rfl
theorem q1275 : (Jvm.Cond.classLink "HeirCases$Will" (64 : Nat) "HeirCases$Rule") ∈ lw_all := lw_g (lw_at lw_m5 190 rfl) rfl
theorem q1276 : (Jvm.Cond.interfaceEntry "HeirCases$Will" (98 : Nat)) ∈ lw_tbl := lw_at lw_m5 191 rfl
theorem q1277 : (Jvm.Cond.methodLink "HeirCases$Will" (98 : Nat) ({ cls := "HeirCases$Guard", name := "holds", desc := "([I)Z" } : Jvm.MethodName)) ∈ lw_all := lw_g (lw_at lw_m5 192 rfl) rfl
theorem q1315 : (Jvm.Cond.methodLink "HeirCases$Will" (110 : Nat) ({ cls := "HeirCases$Will", name := "judge", desc := "(LHeirCases$Finding;)V" } : Jvm.MethodName)) ∈ lw_all := lw_g (lw_at lw_m5 230 rfl) rfl
theorem q1316 : (Jvm.Cond.privateMethod ({ cls := "HeirCases$Will", name := "judge", desc := "(LHeirCases$Finding;)V" } : Jvm.MethodName)) ∈ lw_tbl := lw_at lw_m5 231 rfl
theorem q1317 : (Jvm.Cond.instanceMethod ({ cls := "HeirCases$Will", name := "judge", desc := "(LHeirCases$Finding;)V" } : Jvm.MethodName)) ∈ lw_all := lw_g (lw_at lw_m5 232 rfl) rfl
theorem q1318 : (Jvm.Cond.code ({ cls := "HeirCases$Will", name := "judge", desc := "(LHeirCases$Finding;)V" } : Jvm.MethodName) prog_15_method_9_code (3 : Nat) (Option.none : Option Jvm.ClassFile.FieldType)) ∈ lw_all := lw_g (lw_at lw_m5 233 rfl) rfl
theorem q1319 : (Jvm.Cond.methodLink "HeirCases$Will" (114 : Nat) ({ cls := "java/lang/Integer", name := "numberOfTrailingZeros", desc := "(I)I" } : Jvm.MethodName)) ∈ lw_all := lw_g (lw_at lw_m5 234 rfl) rfl
theorem q1323 : (Jvm.Cond.methodLink "HeirCases$Will" (123 : Nat) ({ cls := "HeirCases$Will", name := "unlike", desc := "(II)I" } : Jvm.MethodName)) ∈ lw_all := lw_g (lw_at lw_m5 238 rfl) rfl
theorem q1324 : (Jvm.Cond.instanceMethod ({ cls := "HeirCases$Will", name := "unlike", desc := "(II)I" } : Jvm.MethodName)) ∈ lw_all := lw_g (lw_at lw_m5 239 rfl) rfl
theorem q1325 : (Jvm.Cond.selects "HeirCases$Will" ({ cls := "HeirCases$Will", name := "unlike", desc := "(II)I" } : Jvm.MethodName) ({ cls := "HeirCases$Will", name := "unlike", desc := "(II)I" } : Jvm.MethodName)) ∈ lw_all := lw_g (lw_at lw_m6 0 rfl) rfl
theorem q1326 : (Jvm.Cond.code ({ cls := "HeirCases$Will", name := "unlike", desc := "(II)I" } : Jvm.MethodName) prog_15_method_10_code (4 : Nat) (Option.some Jvm.ClassFile.FieldType.int)) ∈ lw_all := lw_g (lw_at lw_m6 1 rfl) rfl
theorem q1327 : (Jvm.Cond.methodLink "HeirCases$Will" (130 : Nat) ({ cls := "HeirCases$Rule", name := "givesLike", desc := "(LHeirCases$Rule;)Z" } : Jvm.MethodName)) ∈ lw_all := lw_g (lw_at lw_m6 2 rfl) rfl
theorem q1336 : (Jvm.Cond.instanceMethod ({ cls := "HeirCases$Will", name := "unsettled", desc := "()I" } : Jvm.MethodName)) ∈ lw_all := lw_g (lw_at lw_m6 11 rfl) rfl
theorem q1337 : (Jvm.Cond.selects "HeirCases$Will" ({ cls := "HeirCases$Will", name := "unsettled", desc := "()I" } : Jvm.MethodName) ({ cls := "HeirCases$Will", name := "unsettled", desc := "()I" } : Jvm.MethodName)) ∈ lw_all := lw_g (lw_at lw_m6 12 rfl) rfl
theorem q1338 : (Jvm.Cond.code ({ cls := "HeirCases$Will", name := "unsettled", desc := "()I" } : Jvm.MethodName) prog_15_method_13_code (1 : Nat) (Option.some Jvm.ClassFile.FieldType.int)) ∈ lw_all := lw_g (lw_at lw_m6 13 rfl) rfl
theorem q1343 : (Jvm.Cond.instanceMethod ({ cls := "HeirCases$Will", name := "drop", desc := "(I)V" } : Jvm.MethodName)) ∈ lw_all := lw_g (lw_at lw_m6 18 rfl) rfl
theorem q1344 : (Jvm.Cond.selects "HeirCases$Will" ({ cls := "HeirCases$Will", name := "drop", desc := "(I)V" } : Jvm.MethodName) ({ cls := "HeirCases$Will", name := "drop", desc := "(I)V" } : Jvm.MethodName)) ∈ lw_all := lw_g (lw_at lw_m6 19 rfl) rfl
theorem q1345 : (Jvm.Cond.code ({ cls := "HeirCases$Will", name := "drop", desc := "(I)V" } : Jvm.MethodName) prog_15_method_18_code (5 : Nat) (Option.none : Option Jvm.ClassFile.FieldType)) ∈ lw_all := lw_g (lw_at lw_m6 20 rfl) rfl
theorem q1346 : (Jvm.Cond.methodLink "HeirCases$Will" (158 : Nat) ({ cls := "java/util/ArrayList", name := "remove", desc := "(I)Ljava/lang/Object;" } : Jvm.MethodName)) ∈ lw_all := lw_g (lw_at lw_m6 21 rfl) rfl
theorem q1360 : (Jvm.Cond.instanceMethod ({ cls := "HeirCases$Will", name := "duplicate", desc := "()LHeirCases$Will;" } : Jvm.MethodName)) ∈ lw_all := lw_g (lw_at lw_m6 35 rfl) rfl
theorem q1361 : (Jvm.Cond.selects "HeirCases$Will" ({ cls := "HeirCases$Will", name := "duplicate", desc := "()LHeirCases$Will;" } : Jvm.MethodName) ({ cls := "HeirCases$Will", name := "duplicate", desc := "()LHeirCases$Will;" } : Jvm.MethodName)) ∈ lw_all := lw_g (lw_at lw_m6 36 rfl) rfl
theorem q1362 : (Jvm.Cond.code ({ cls := "HeirCases$Will", name := "duplicate", desc := "()LHeirCases$Will;" } : Jvm.MethodName) prog_15_method_3_code (3 : Nat) (Option.some (Jvm.ClassFile.FieldType.object "HeirCases$Will"))) ∈ lw_all := lw_g (lw_at lw_m6 37 rfl) rfl
theorem q1363 : (Jvm.Cond.classLink "HeirCases$Will" (10 : Nat) "HeirCases$Will") ∈ lw_all := lw_g (lw_at lw_m6 38 rfl) rfl
theorem q1364 : (Jvm.Cond.methodLink "HeirCases$Will" (48 : Nat) ({ cls := "HeirCases$Will", name := "<init>", desc := "([III)V" } : Jvm.MethodName)) ∈ lw_all := lw_g (lw_at lw_m6 39 rfl) rfl
theorem q1365 : (Jvm.Cond.methodLink "HeirCases$Will" (51 : Nat) ({ cls := "java/lang/System", name := "arraycopy", desc := "(Ljava/lang/Object;ILjava/lang/Object;II)V" } : Jvm.MethodName)) ∈ lw_all := lw_g (lw_at lw_m6 40 rfl) rfl
theorem q1366 : (Jvm.Cond.methodLink "HeirCases$Will" (66 : Nat) ({ cls := "HeirCases$Rule", name := "duplicate", desc := "()LHeirCases$Rule;" } : Jvm.MethodName)) ∈ lw_all := lw_g (lw_at lw_m6 41 rfl) rfl
theorem q1373 : (Jvm.Cond.methodLink "HeirCases$Will" (70 : Nat) ({ cls := "java/util/ArrayList", name := "add", desc := "(Ljava/lang/Object;)Z" } : Jvm.MethodName)) ∈ lw_all := lw_g (lw_at lw_m6 48 rfl) rfl
theorem q1414 : (Jvm.Cond.instanceMethod ({ cls := "HeirCases$Will", name := "duties", desc := "(I)I" } : Jvm.MethodName)) ∈ lw_all := lw_g (lw_at lw_m6 89 rfl) rfl
theorem q1415 : (Jvm.Cond.selects "HeirCases$Will" ({ cls := "HeirCases$Will", name := "duties", desc := "(I)I" } : Jvm.MethodName) ({ cls := "HeirCases$Will", name := "duties", desc := "(I)I" } : Jvm.MethodName)) ∈ lw_all := lw_g (lw_at lw_m6 90 rfl) rfl
theorem q1416 : (Jvm.Cond.code ({ cls := "HeirCases$Will", name := "duties", desc := "(I)I" } : Jvm.MethodName) prog_15_method_17_code (4 : Nat) (Option.some Jvm.ClassFile.FieldType.int)) ∈ lw_all := lw_g (lw_at lw_m6 91 rfl) rfl
theorem q1417 : (Jvm.Cond.methodLink "HeirCases$Will" (152 : Nat) ({ cls := "HeirCases$Will", name := "duty", desc := "(II)I" } : Jvm.MethodName)) ∈ lw_all := lw_g (lw_at lw_m6 92 rfl) rfl
theorem q1418 : (Jvm.Cond.instanceMethod ({ cls := "HeirCases$Will", name := "duty", desc := "(II)I" } : Jvm.MethodName)) ∈ lw_all := lw_g (lw_at lw_m6 93 rfl) rfl
theorem q1419 : (Jvm.Cond.selects "HeirCases$Will" ({ cls := "HeirCases$Will", name := "duty", desc := "(II)I" } : Jvm.MethodName) ({ cls := "HeirCases$Will", name := "duty", desc := "(II)I" } : Jvm.MethodName)) ∈ lw_all := lw_g (lw_at lw_m6 94 rfl) rfl
theorem q1420 : (Jvm.Cond.code ({ cls := "HeirCases$Will", name := "duty", desc := "(II)I" } : Jvm.MethodName) prog_15_method_16_code (4 : Nat) (Option.some Jvm.ClassFile.FieldType.int)) ∈ lw_all := lw_g (lw_at lw_m6 95 rfl) rfl
theorem q1421 : (Jvm.Cond.methodLink "HeirCases$Will" (149 : Nat) ({ cls := "HeirCases$Will", name := "gets", desc := "(II)I" } : Jvm.MethodName)) ∈ lw_all := lw_g (lw_at lw_m6 96 rfl) rfl
theorem q1422 : (Jvm.Cond.instanceMethod ({ cls := "HeirCases$Will", name := "gets", desc := "(II)I" } : Jvm.MethodName)) ∈ lw_all := lw_g (lw_at lw_m6 97 rfl) rfl
theorem q1423 : (Jvm.Cond.selects "HeirCases$Will" ({ cls := "HeirCases$Will", name := "gets", desc := "(II)I" } : Jvm.MethodName) ({ cls := "HeirCases$Will", name := "gets", desc := "(II)I" } : Jvm.MethodName)) ∈ lw_all := lw_g (lw_at lw_m6 98 rfl) rfl
theorem q1424 : (Jvm.Cond.code ({ cls := "HeirCases$Will", name := "gets", desc := "(II)I" } : Jvm.MethodName) prog_15_method_15_code (7 : Nat) (Option.some Jvm.ClassFile.FieldType.int)) ∈ lw_all := lw_g (lw_at lw_m6 99 rfl) rfl
theorem q1425 : (Jvm.Cond.methodLink "HeirCases$Will" (145 : Nat) ({ cls := "HeirCases$Will", name := "partOf", desc := "(LHeirCases$Rule;I)I" } : Jvm.MethodName)) ∈ lw_all := lw_g (lw_at lw_m6 100 rfl) rfl
theorem q1426 : (Jvm.Cond.privateMethod ({ cls := "HeirCases$Will", name := "partOf", desc := "(LHeirCases$Rule;I)I" } : Jvm.MethodName)) ∈ lw_tbl := lw_at lw_m6 101 rfl
theorem q1427 : (Jvm.Cond.instanceMethod ({ cls := "HeirCases$Will", name := "partOf", desc := "(LHeirCases$Rule;I)I" } : Jvm.MethodName)) ∈ lw_all := lw_g (lw_at lw_m6 102 rfl) rfl
theorem q1428 : (Jvm.Cond.code ({ cls := "HeirCases$Will", name := "partOf", desc := "(LHeirCases$Rule;I)I" } : Jvm.MethodName) prog_15_method_14_code (3 : Nat) (Option.some Jvm.ClassFile.FieldType.int)) ∈ lw_all := lw_g (lw_at lw_m6 103 rfl) rfl
theorem q1429 : (Jvm.Cond.constantLong "HeirCases$Will" (143 : Nat) (27720 : Int64)) ∈ lw_all := lw_g (lw_at lw_m6 104 rfl) rfl
theorem q2054 : (Jvm.Cond.instanceMethod ({ cls := "HeirCases$Will", name := "setValue", desc := "(II)V" } : Jvm.MethodName)) ∈ lw_all := lw_g (lw_at lw_m9 9 rfl) rfl
theorem q2055 : (Jvm.Cond.selects "HeirCases$Will" ({ cls := "HeirCases$Will", name := "setValue", desc := "(II)V" } : Jvm.MethodName) ({ cls := "HeirCases$Will", name := "setValue", desc := "(II)V" } : Jvm.MethodName)) ∈ lw_all := lw_g (lw_at lw_m9 10 rfl) rfl
theorem q2056 : (Jvm.Cond.code ({ cls := "HeirCases$Will", name := "setValue", desc := "(II)V" } : Jvm.MethodName) prog_15_method_20_code (4 : Nat) (Option.none : Option Jvm.ClassFile.FieldType)) ∈ lw_all := lw_g (lw_at lw_m9 11 rfl) rfl
theorem q2057 : (Jvm.Cond.methodLink "HeirCases$Will" (164 : Nat) ({ cls := "HeirCases$Will", name := "numberOf", desc := "([I)I" } : Jvm.MethodName)) ∈ lw_all := lw_g (lw_at lw_m9 12 rfl) rfl
theorem q2058 : (Jvm.Cond.instanceMethod ({ cls := "HeirCases$Will", name := "numberOf", desc := "([I)I" } : Jvm.MethodName)) ∈ lw_all := lw_g (lw_at lw_m9 13 rfl) rfl
theorem q2059 : (Jvm.Cond.selects "HeirCases$Will" ({ cls := "HeirCases$Will", name := "numberOf", desc := "([I)I" } : Jvm.MethodName) ({ cls := "HeirCases$Will", name := "numberOf", desc := "([I)I" } : Jvm.MethodName)) ∈ lw_all := lw_g (lw_at lw_m9 14 rfl) rfl
theorem q2060 : (Jvm.Cond.code ({ cls := "HeirCases$Will", name := "numberOf", desc := "([I)I" } : Jvm.MethodName) prog_15_method_6_code (4 : Nat) (Option.some Jvm.ClassFile.FieldType.int)) ∈ lw_all := lw_g (lw_at lw_m9 15 rfl) rfl
theorem q2713 : (Jvm.Cond.castable "HeirCases$Will" "java/lang/Object") ∈ lw_tbl := lw_at lw_m11 188 rfl
theorem in_X4 : ∀ w ∈ wsX40, w ∈ lw_all := lw_in wsX40 [861, 863, 865, 867, 869, 871, 873, 875, 877] (by decide +kernel) (by decide +kernel)
/-! HeirCases$1Not -/
set_option maxRecDepth 100000
def RX5 : String := "HeirCases$1Not"
def TX5 : u_T := fun k => match k with
  | _ => ("HeirCases$1Not", "val$guard", "LHeirCases$Guard;", true)
def tyX5 : Nat → FieldType := fun k => match k with
  | _ => .object "HeirCases$Guard"
abbrev wsX50 : List Cond := u_ws RX5 TX5 1
theorem nmX5 : ∀ a, a < 1 → ∀ b, b < 1 → a ≠ b → (TX5 a).2.1 ≠ (TX5 b).2.1 := by decide +kernel
theorem tyX5_ok : ∀ k, k < 1 → parseFieldDescriptor (TX5 k).2.2.1 = some (tyX5 k) := by decide +kernel
abbrev cX5_init : ByteArray := prog_3_method_1_code
def yX5_init : MethodName := ⟨RX5, "<init>", "(LHeirCases$Guard;)V"⟩
def dkwX5_init_0 : List UInt8 := [42, 43, 181, 0, 1, 42, 183, 0, 7, 177]
abbrev dktX5_init_0 : List UInt8 := dkwX5_init_0 ++ []
theorem dksX5_init_0 : cX5_init.data.toList.drop 0 = dktX5_init_0 := by decide +kernel
theorem dX5_init_0 : decode cX5_init 0 = .ok (.aload_n 0, 1) := dk_42 (dk_at dksX5_init_0 0 rfl rfl)
theorem dX5_init_1 : decode cX5_init 1 = .ok (.aload_n 1, 1) := dk_43 (dk_at dksX5_init_0 1 rfl rfl)
theorem dX5_init_2 : decode cX5_init 2 = .ok (.putfield 1, 3) := dk_181 0 1 (dk_at dksX5_init_0 2 rfl rfl)
theorem dX5_init_5 : decode cX5_init 5 = .ok (.aload_n 0, 1) := dk_42 (dk_at dksX5_init_0 5 rfl rfl)
theorem dX5_init_6 : decode cX5_init 6 = .ok (.invokespecial 7, 3) := dk_183 0 7 (dk_at dksX5_init_0 6 rfl rfl)
theorem dX5_init_9 : decode cX5_init 9 = .ok (.return_, 1) := dk_177 (dk_at dksX5_init_0 9 rfl rfl)
abbrev cX5_holds : ByteArray := prog_3_method_2_code
def yX5_holds : MethodName := ⟨RX5, "holds", "([I)Z"⟩
def dkwX5_holds_0 : List UInt8 := [42, 180, 0, 1, 43, 185, 0, 13, 2, 0, 154, 0, 7, 4, 167, 0, 4, 3, 172]
abbrev dktX5_holds_0 : List UInt8 := dkwX5_holds_0 ++ []
theorem dksX5_holds_0 : cX5_holds.data.toList.drop 0 = dktX5_holds_0 := by decide +kernel
theorem dX5_holds_0 : decode cX5_holds 0 = .ok (.aload_n 0, 1) := dk_42 (dk_at dksX5_holds_0 0 rfl rfl)
theorem dX5_holds_1 : decode cX5_holds 1 = .ok (.getfield 1, 3) := dk_180 0 1 (dk_at dksX5_holds_0 1 rfl rfl)
theorem dX5_holds_4 : decode cX5_holds 4 = .ok (.aload_n 1, 1) := dk_43 (dk_at dksX5_holds_0 4 rfl rfl)
theorem dX5_holds_5 : decode cX5_holds 5 = .ok (.invokeinterface 13 2, 5) := by decide +kernel
theorem dX5_holds_10 : decode cX5_holds 10 = .ok (.ifCond .ne 7, 3) := dk_154 0 7 (dk_at dksX5_holds_0 10 rfl rfl)
theorem dX5_holds_13 : decode cX5_holds 13 = .ok (.iconst 1, 1) := dk_4 (dk_at dksX5_holds_0 13 rfl rfl)
theorem dX5_holds_14 : decode cX5_holds 14 = .ok (.goto 4, 3) := dk_167 0 4 (dk_at dksX5_holds_0 14 rfl rfl)
theorem dX5_holds_17 : decode cX5_holds 17 = .ok (.iconst 0, 1) := dk_3 (dk_at dksX5_holds_0 17 rfl rfl)
theorem dX5_holds_18 : decode cX5_holds 18 = .ok (.ireturn, 1) := dk_172 (dk_at dksX5_holds_0 18 rfl rfl)
abbrev cX5_write : ByteArray := prog_3_method_3_code
def yX5_write : MethodName := ⟨RX5, "write", "(Ljava/lang/StringBuilder;)V"⟩
def dkwX5_write_0 : List UInt8 := [43, 18, 19, 182, 0, 21, 87, 42, 180, 0, 1, 5, 43, 184, 0, 27, 177]
abbrev dktX5_write_0 : List UInt8 := dkwX5_write_0 ++ []
theorem dksX5_write_0 : cX5_write.data.toList.drop 0 = dktX5_write_0 := by decide +kernel
theorem dX5_write_0 : decode cX5_write 0 = .ok (.aload_n 1, 1) := dk_43 (dk_at dksX5_write_0 0 rfl rfl)
theorem dX5_write_1 : decode cX5_write 1 = .ok (.ldc 19, 2) := dk_18 19 (dk_at dksX5_write_0 1 rfl rfl)
theorem dX5_write_3 : decode cX5_write 3 = .ok (.invokevirtual 21, 3) := dk_182 0 21 (dk_at dksX5_write_0 3 rfl rfl)
theorem dX5_write_6 : decode cX5_write 6 = .ok (.pop, 1) := dk_87 (dk_at dksX5_write_0 6 rfl rfl)
theorem dX5_write_7 : decode cX5_write 7 = .ok (.aload_n 0, 1) := dk_42 (dk_at dksX5_write_0 7 rfl rfl)
theorem dX5_write_8 : decode cX5_write 8 = .ok (.getfield 1, 3) := dk_180 0 1 (dk_at dksX5_write_0 8 rfl rfl)
theorem dX5_write_11 : decode cX5_write 11 = .ok (.iconst 2, 1) := dk_5 (dk_at dksX5_write_0 11 rfl rfl)
theorem dX5_write_12 : decode cX5_write 12 = .ok (.aload_n 1, 1) := dk_43 (dk_at dksX5_write_0 12 rfl rfl)
theorem dX5_write_13 : decode cX5_write 13 = .ok (.invokestatic 27, 3) := dk_184 0 27 (dk_at dksX5_write_0 13 rfl rfl)
theorem dX5_write_16 : decode cX5_write 16 = .ok (.return_, 1) := dk_177 (dk_at dksX5_write_0 16 rfl rfl)
theorem q153 : (Jvm.Cond.initialized "HeirCases$1Not") ∈ lw_all := lw_g (lw_at lw_m1 28 rfl) rfl
theorem q971 : (Jvm.Cond.instantiable "HeirCases$1Not" (1 : Nat)) ∈ lw_all := lw_g (lw_at lw_m4 126 rfl) rfl
theorem q973 : (Jvm.Cond.instanceMethod ({ cls := "HeirCases$1Not", name := "<init>", desc := "(LHeirCases$Guard;)V" } : Jvm.MethodName)) ∈ lw_all := lw_g (lw_at lw_m4 128 rfl) rfl
theorem q974 : (Jvm.Cond.code ({ cls := "HeirCases$1Not", name := "<init>", desc := "(LHeirCases$Guard;)V" } : Jvm.MethodName) prog_3_method_1_code (2 : Nat) (Option.none : Option Jvm.ClassFile.FieldType)) ∈ lw_all := lw_g (lw_at lw_m4 129 rfl) rfl
theorem q975 : (Jvm.Cond.methodLink "HeirCases$1Not" (7 : Nat) ({ cls := "java/lang/Object", name := "<init>", desc := "()V" } : Jvm.MethodName)) ∈ lw_all := lw_g (lw_at lw_m4 130 rfl) rfl
theorem q976 : (Jvm.Cond.fieldLink "HeirCases$1Not" (1 : Nat) "HeirCases$1Not" "val$guard" "LHeirCases$Guard;") ∈ lw_all := lw_g (lw_at lw_m4 131 rfl) rfl
theorem q977 : (Jvm.Cond.laysFinal "HeirCases$1Not" "HeirCases$1Not" "val$guard" "LHeirCases$Guard;") ∈ lw_all := lw_g (lw_at lw_m4 132 rfl) rfl
theorem q978 : (Jvm.Cond.soleField "HeirCases$1Not" "val$guard") ∈ lw_all := lw_g (lw_at lw_m4 133 rfl) rfl
theorem q979 : (Jvm.Cond.superclass "HeirCases$1Not" "java/lang/Object") ∈ lw_all := lw_g (lw_at lw_m4 134 rfl) rfl
theorem q1065 : (Jvm.Cond.selects "HeirCases$1Not" ({ cls := "java/lang/Object", name := "getClass", desc := "()Ljava/lang/Class;" } : Jvm.MethodName) ({ cls := "java/lang/Object", name := "getClass", desc := "()Ljava/lang/Class;" } : Jvm.MethodName)) ∈ lw_all := lw_g (lw_at lw_m4 220 rfl) rfl
theorem q1286 : (Jvm.Cond.castable "HeirCases$1Not" "HeirCases$Guard") ∈ lw_tbl := lw_at lw_m5 201 rfl
theorem q1287 : (Jvm.Cond.selects "HeirCases$1Not" ({ cls := "HeirCases$Guard", name := "holds", desc := "([I)Z" } : Jvm.MethodName) ({ cls := "HeirCases$1Not", name := "holds", desc := "([I)Z" } : Jvm.MethodName)) ∈ lw_all := lw_g (lw_at lw_m5 202 rfl) rfl
theorem q1288 : (Jvm.Cond.unhidden "HeirCases$1Not" "holds" "([I)Z") ∈ lw_tbl := lw_at lw_m5 203 rfl
theorem q1289 : (Jvm.Cond.instanceMethod ({ cls := "HeirCases$1Not", name := "holds", desc := "([I)Z" } : Jvm.MethodName)) ∈ lw_all := lw_g (lw_at lw_m5 204 rfl) rfl
theorem q1290 : (Jvm.Cond.publicMethod ({ cls := "HeirCases$1Not", name := "holds", desc := "([I)Z" } : Jvm.MethodName)) ∈ lw_tbl := lw_at lw_m5 205 rfl
theorem q1291 : (Jvm.Cond.code ({ cls := "HeirCases$1Not", name := "holds", desc := "([I)Z" } : Jvm.MethodName) prog_3_method_2_code (2 : Nat) (Option.some Jvm.ClassFile.FieldType.boolean)) ∈ lw_all := lw_g (lw_at lw_m5 206 rfl) rfl
theorem q1292 : (Jvm.Cond.interfaceEntry "HeirCases$1Not" (13 : Nat)) ∈ lw_tbl := lw_at lw_m5 207 rfl
theorem q1293 : (Jvm.Cond.methodLink "HeirCases$1Not" (13 : Nat) ({ cls := "HeirCases$Guard", name := "holds", desc := "([I)Z" } : Jvm.MethodName)) ∈ lw_all := lw_g (lw_at lw_m5 208 rfl) rfl
theorem q1891 : (Jvm.Cond.selects "HeirCases$1Not" ({ cls := "HeirCases$Guard", name := "write", desc := "(Ljava/lang/StringBuilder;)V" } : Jvm.MethodName) ({ cls := "HeirCases$1Not", name := "write", desc := "(Ljava/lang/StringBuilder;)V" } : Jvm.MethodName)) ∈ lw_all := lw_g (lw_at lw_m8 86 rfl) rfl
theorem q1892 : (Jvm.Cond.unhidden "HeirCases$1Not" "write" "(Ljava/lang/StringBuilder;)V") ∈ lw_tbl := lw_at lw_m8 87 rfl
theorem q1893 : (Jvm.Cond.instanceMethod ({ cls := "HeirCases$1Not", name := "write", desc := "(Ljava/lang/StringBuilder;)V" } : Jvm.MethodName)) ∈ lw_all := lw_g (lw_at lw_m8 88 rfl) rfl
theorem q1894 : (Jvm.Cond.publicMethod ({ cls := "HeirCases$1Not", name := "write", desc := "(Ljava/lang/StringBuilder;)V" } : Jvm.MethodName)) ∈ lw_tbl := lw_at lw_m8 89 rfl
theorem q1895 : (Jvm.Cond.code ({ cls := "HeirCases$1Not", name := "write", desc := "(Ljava/lang/StringBuilder;)V" } : Jvm.MethodName) prog_3_method_3_code (2 : Nat) (Option.none : Option Jvm.ClassFile.FieldType)) ∈ lw_all := lw_g (lw_at lw_m8 90 rfl) rfl
theorem q1896 : (Jvm.Cond.stringRef "HeirCases$1Not" (19 : Nat) "not ") ∈ lw_tbl := lw_at lw_m8 91 rfl
theorem q1897 : (Jvm.Cond.methodLink "HeirCases$1Not" (21 : Nat) ({ cls := "java/lang/StringBuilder", name := "append", desc := "(Ljava/lang/String;)Ljava/lang/StringBuilder;" } : Jvm.MethodName)) ∈ lw_all := lw_g (lw_at lw_m8 92 rfl) rfl
theorem q1898 : (Jvm.Cond.methodLink "HeirCases$1Not" (27 : Nat) ({ cls := "HeirCases$Guard", name := "writeInside", desc := "(LHeirCases$Guard;ILjava/lang/StringBuilder;)V" } : Jvm.MethodName)) ∈ lw_all := lw_g (lw_at lw_m8 93 rfl) rfl
theorem q1909 : (Jvm.Cond.unhidden "HeirCases$1Not" "tightness" "()I") ∈ lw_tbl := lw_at lw_m8 104 rfl
theorem q2725 : (Jvm.Cond.castable "HeirCases$1Not" "java/lang/Object") ∈ lw_tbl := lw_at lw_m11 200 rfl
theorem in_X5 : ∀ w ∈ wsX50, w ∈ lw_all := lw_in wsX50 [977] (by decide +kernel) (by decide +kernel)
/-! HeirCases$1 -/
set_option maxRecDepth 100000
def RX6 : String := "HeirCases$1"
abbrev cX6_init : ByteArray := prog_2_method_1_code
def yX6_init : MethodName := ⟨RX6, "<init>", "()V"⟩
theorem dX6_init_0 : decode cX6_init 0 = .ok (.aload_n 0, 1) := by decide +kernel
theorem dX6_init_1 : decode cX6_init 1 = .ok (.invokespecial 1, 3) := by decide +kernel
theorem dX6_init_4 : decode cX6_init 4 = .ok (.return_, 1) := by decide +kernel
abbrev cX6_holds : ByteArray := prog_2_method_2_code
def yX6_holds : MethodName := ⟨RX6, "holds", "([I)Z"⟩
theorem dX6_holds_0 : decode cX6_holds 0 = .ok (.iconst 1, 1) := by decide +kernel
theorem dX6_holds_1 : decode cX6_holds 1 = .ok (.ireturn, 1) := by decide +kernel
abbrev cX6_write : ByteArray := prog_2_method_3_code
def yX6_write : MethodName := ⟨RX6, "write", "(Ljava/lang/StringBuilder;)V"⟩
def dkwX6_write_0 : List UInt8 := [43, 18, 7, 182, 0, 9, 87, 177]
abbrev dktX6_write_0 : List UInt8 := dkwX6_write_0 ++ []
theorem dksX6_write_0 : cX6_write.data.toList.drop 0 = dktX6_write_0 := by decide +kernel
theorem dX6_write_0 : decode cX6_write 0 = .ok (.aload_n 1, 1) := dk_43 (dk_at dksX6_write_0 0 rfl rfl)
theorem dX6_write_1 : decode cX6_write 1 = .ok (.ldc 7, 2) := dk_18 7 (dk_at dksX6_write_0 1 rfl rfl)
theorem dX6_write_3 : decode cX6_write 3 = .ok (.invokevirtual 9, 3) := dk_182 0 9 (dk_at dksX6_write_0 3 rfl rfl)
theorem dX6_write_6 : decode cX6_write 6 = .ok (.pop, 1) := dk_87 (dk_at dksX6_write_0 6 rfl rfl)
theorem dX6_write_7 : decode cX6_write 7 = .ok (.return_, 1) := dk_177 (dk_at dksX6_write_0 7 rfl rfl)
theorem q154 : (Jvm.Cond.initialized "HeirCases$1") ∈ lw_all := lw_g (lw_at lw_m1 29 rfl) rfl
theorem q991 : (Jvm.Cond.instantiable "HeirCases$1" (0 : Nat)) ∈ lw_all := lw_g (lw_at lw_m4 146 rfl) rfl
theorem q993 : (Jvm.Cond.instanceMethod ({ cls := "HeirCases$1", name := "<init>", desc := "()V" } : Jvm.MethodName)) ∈ lw_all := lw_g (lw_at lw_m4 148 rfl) rfl
theorem q994 : (Jvm.Cond.code ({ cls := "HeirCases$1", name := "<init>", desc := "()V" } : Jvm.MethodName) prog_2_method_1_code (1 : Nat) (Option.none : Option Jvm.ClassFile.FieldType)) ∈ lw_all := lw_g (lw_at lw_m4 149 rfl) rfl
theorem q995 : (Jvm.Cond.methodLink "HeirCases$1" (1 : Nat) ({ cls := "java/lang/Object", name := "<init>", desc := "()V" } : Jvm.MethodName)) ∈ lw_all := lw_g (lw_at lw_m4 150 rfl) rfl
theorem q996 : (Jvm.Cond.superclass "HeirCases$1" "java/lang/Object") ∈ lw_all := lw_g (lw_at lw_m4 151 rfl) rfl
theorem q1064 : (Jvm.Cond.selects "HeirCases$1" ({ cls := "java/lang/Object", name := "getClass", desc := "()Ljava/lang/Class;" } : Jvm.MethodName) ({ cls := "java/lang/Object", name := "getClass", desc := "()Ljava/lang/Class;" } : Jvm.MethodName)) ∈ lw_all := lw_g (lw_at lw_m4 219 rfl) rfl
theorem q1280 : (Jvm.Cond.castable "HeirCases$1" "HeirCases$Guard") ∈ lw_tbl := lw_at lw_m5 195 rfl
theorem q1281 : (Jvm.Cond.selects "HeirCases$1" ({ cls := "HeirCases$Guard", name := "holds", desc := "([I)Z" } : Jvm.MethodName) ({ cls := "HeirCases$1", name := "holds", desc := "([I)Z" } : Jvm.MethodName)) ∈ lw_all := lw_g (lw_at lw_m5 196 rfl) rfl
theorem q1282 : (Jvm.Cond.unhidden "HeirCases$1" "holds" "([I)Z") ∈ lw_tbl := lw_at lw_m5 197 rfl
theorem q1283 : (Jvm.Cond.instanceMethod ({ cls := "HeirCases$1", name := "holds", desc := "([I)Z" } : Jvm.MethodName)) ∈ lw_all := lw_g (lw_at lw_m5 198 rfl) rfl
theorem q1284 : (Jvm.Cond.publicMethod ({ cls := "HeirCases$1", name := "holds", desc := "([I)Z" } : Jvm.MethodName)) ∈ lw_tbl := lw_at lw_m5 199 rfl
theorem q1285 : (Jvm.Cond.code ({ cls := "HeirCases$1", name := "holds", desc := "([I)Z" } : Jvm.MethodName) prog_2_method_2_code (2 : Nat) (Option.some Jvm.ClassFile.FieldType.boolean)) ∈ lw_all := lw_g (lw_at lw_m5 200 rfl) rfl
theorem q1884 : (Jvm.Cond.selects "HeirCases$1" ({ cls := "HeirCases$Guard", name := "write", desc := "(Ljava/lang/StringBuilder;)V" } : Jvm.MethodName) ({ cls := "HeirCases$1", name := "write", desc := "(Ljava/lang/StringBuilder;)V" } : Jvm.MethodName)) ∈ lw_all := lw_g (lw_at lw_m8 79 rfl) rfl
theorem q1885 : (Jvm.Cond.unhidden "HeirCases$1" "write" "(Ljava/lang/StringBuilder;)V") ∈ lw_tbl := lw_at lw_m8 80 rfl
theorem q1886 : (Jvm.Cond.instanceMethod ({ cls := "HeirCases$1", name := "write", desc := "(Ljava/lang/StringBuilder;)V" } : Jvm.MethodName)) ∈ lw_all := lw_g (lw_at lw_m8 81 rfl) rfl
theorem q1887 : (Jvm.Cond.publicMethod ({ cls := "HeirCases$1", name := "write", desc := "(Ljava/lang/StringBuilder;)V" } : Jvm.MethodName)) ∈ lw_tbl := lw_at lw_m8 82 rfl
theorem q1888 : (Jvm.Cond.code ({ cls := "HeirCases$1", name := "write", desc := "(Ljava/lang/StringBuilder;)V" } : Jvm.MethodName) prog_2_method_3_code (2 : Nat) (Option.none : Option Jvm.ClassFile.FieldType)) ∈ lw_all := lw_g (lw_at lw_m8 83 rfl) rfl
theorem q1889 : (Jvm.Cond.stringRef "HeirCases$1" (7 : Nat) "always") ∈ lw_tbl := lw_at lw_m8 84 rfl
theorem q1890 : (Jvm.Cond.methodLink "HeirCases$1" (9 : Nat) ({ cls := "java/lang/StringBuilder", name := "append", desc := "(Ljava/lang/String;)Ljava/lang/StringBuilder;" } : Jvm.MethodName)) ∈ lw_all := lw_g (lw_at lw_m8 85 rfl) rfl
theorem q1905 : (Jvm.Cond.unhidden "HeirCases$1" "tightness" "()I") ∈ lw_tbl := lw_at lw_m8 100 rfl
theorem q2726 : (Jvm.Cond.castable "HeirCases$1" "java/lang/Object") ∈ lw_tbl := lw_at lw_m11 201 rfl
/-! HeirCases$Comparison -/
set_option maxRecDepth 100000
def RX7 : String := "HeirCases$Comparison"
def TX7 : u_T := fun k => match k with
  | 0 => ("HeirCases$Comparison", "fact", "I", true)
  | 1 => ("HeirCases$Comparison", "sign", "C", true)
  | 2 => ("HeirCases$Comparison", "wanted", "I", true)
  | _ => ("HeirCases$Comparison", "comparing", "LHeirCases$Comparing;", true)
def tyX7 : Nat → FieldType := fun k => match k with
  | 0 => .int
  | 1 => .char
  | 2 => .int
  | _ => .object "HeirCases$Comparing"
abbrev wsX70 : List Cond := u_ws RX7 TX7 4
theorem nmX7 : ∀ a, a < 4 → ∀ b, b < 4 → a ≠ b → (TX7 a).2.1 ≠ (TX7 b).2.1 := by decide +kernel
theorem tyX7_ok : ∀ k, k < 4 → parseFieldDescriptor (TX7 k).2.2.1 = some (tyX7 k) := by decide +kernel
abbrev cX7_init : ByteArray := prog_5_method_1_code
def yX7_init : MethodName := ⟨RX7, "<init>", "(ICI)V"⟩
def dkwX7_init_3 : List UInt8 := [177]
abbrev dktX7_init_3 : List UInt8 := dkwX7_init_3 ++ []
def dkwX7_init_2 : List UInt8 := [186, 0, 20, 0, 0, 167, 0, 16, 186, 0, 24, 0, 0, 167, 0, 8, 186, 0, 25, 0, 0, 181, 0, 26]
abbrev dktX7_init_2 : List UInt8 := dkwX7_init_2 ++ dktX7_init_3
def dkwX7_init_1 : List UInt8 := [171, 0, 0, 0, 0, 0, 43, 0, 0, 0, 2, 0, 0, 0, 60, 0, 0, 0, 27, 0, 0, 0, 62, 0, 0, 0, 35]
abbrev dktX7_init_1 : List UInt8 := dkwX7_init_1 ++ dktX7_init_2
def dkwX7_init_0 : List UInt8 := [42, 183, 0, 1, 42, 27, 181, 0, 7, 42, 28, 181, 0, 13, 42, 29, 181, 0, 17, 42, 28]
abbrev dktX7_init_0 : List UInt8 := dkwX7_init_0 ++ dktX7_init_1
theorem dksX7_init_0 : cX7_init.data.toList.drop 0 = dktX7_init_0 := by decide +kernel
theorem dksX7_init_1 : cX7_init.data.toList.drop 21 = dktX7_init_1 := dk_seg dksX7_init_0 21 rfl rfl
theorem dksX7_init_2 : cX7_init.data.toList.drop 48 = dktX7_init_2 := dk_seg dksX7_init_1 27 rfl rfl
theorem dksX7_init_3 : cX7_init.data.toList.drop 72 = dktX7_init_3 := dk_seg dksX7_init_2 24 rfl rfl
theorem dX7_init_0 : decode cX7_init 0 = .ok (.aload_n 0, 1) := dk_42 (dk_at dksX7_init_0 0 rfl rfl)
theorem dX7_init_1 : decode cX7_init 1 = .ok (.invokespecial 1, 3) := dk_183 0 1 (dk_at dksX7_init_0 1 rfl rfl)
theorem dX7_init_4 : decode cX7_init 4 = .ok (.aload_n 0, 1) := dk_42 (dk_at dksX7_init_0 4 rfl rfl)
theorem dX7_init_5 : decode cX7_init 5 = .ok (.iload_n 1, 1) := dk_27 (dk_at dksX7_init_0 5 rfl rfl)
theorem dX7_init_6 : decode cX7_init 6 = .ok (.putfield 7, 3) := dk_181 0 7 (dk_at dksX7_init_0 6 rfl rfl)
theorem dX7_init_9 : decode cX7_init 9 = .ok (.aload_n 0, 1) := dk_42 (dk_at dksX7_init_0 9 rfl rfl)
theorem dX7_init_10 : decode cX7_init 10 = .ok (.iload_n 2, 1) := dk_28 (dk_at dksX7_init_0 10 rfl rfl)
theorem dX7_init_11 : decode cX7_init 11 = .ok (.putfield 13, 3) := dk_181 0 13 (dk_at dksX7_init_0 11 rfl rfl)
theorem dX7_init_14 : decode cX7_init 14 = .ok (.aload_n 0, 1) := dk_42 (dk_at dksX7_init_0 14 rfl rfl)
theorem dX7_init_15 : decode cX7_init 15 = .ok (.iload_n 3, 1) := dk_29 (dk_at dksX7_init_0 15 rfl rfl)
theorem dX7_init_16 : decode cX7_init 16 = .ok (.putfield 17, 3) := dk_181 0 17 (dk_at dksX7_init_0 16 rfl rfl)
theorem dX7_init_19 : decode cX7_init 19 = .ok (.aload_n 0, 1) := dk_42 (dk_at dksX7_init_0 19 rfl rfl)
theorem dX7_init_20 : decode cX7_init 20 = .ok (.iload_n 2, 1) := dk_28 (dk_at dksX7_init_0 20 rfl rfl)
theorem dX7_init_21 : decode cX7_init 21 = .ok (.lookupswitch 43 #[(60, 27), (62, 35)], 27) := by decide +kernel
theorem dX7_init_48 : decode cX7_init 48 = .ok (.invokedynamic 20, 5) := by decide +kernel
theorem dX7_init_53 : decode cX7_init 53 = .ok (.goto 16, 3) := dk_167 0 16 (dk_at dksX7_init_2 5 rfl rfl)
theorem dX7_init_56 : decode cX7_init 56 = .ok (.invokedynamic 24, 5) := by decide +kernel
theorem dX7_init_61 : decode cX7_init 61 = .ok (.goto 8, 3) := dk_167 0 8 (dk_at dksX7_init_2 13 rfl rfl)
theorem dX7_init_64 : decode cX7_init 64 = .ok (.invokedynamic 25, 5) := by decide +kernel
theorem dX7_init_69 : decode cX7_init 69 = .ok (.putfield 26, 3) := dk_181 0 26 (dk_at dksX7_init_2 21 rfl rfl)
theorem dX7_init_72 : decode cX7_init 72 = .ok (.return_, 1) := dk_177 (dk_at dksX7_init_3 0 rfl rfl)
abbrev cX7_lambda_new_0 : ByteArray := prog_5_method_6_code
def yX7_lambda_new_0 : MethodName := ⟨RX7, "lambda$new$0", "(II)Z"⟩
def dkwX7_lambda_new_0_0 : List UInt8 := [26, 27, 162, 0, 7, 4, 167, 0, 4, 3, 172]
abbrev dktX7_lambda_new_0_0 : List UInt8 := dkwX7_lambda_new_0_0 ++ []
theorem dksX7_lambda_new_0_0 : cX7_lambda_new_0.data.toList.drop 0 = dktX7_lambda_new_0_0 := by decide +kernel
theorem dX7_lambda_new_0_0 : decode cX7_lambda_new_0 0 = .ok (.iload_n 0, 1) := dk_26 (dk_at dksX7_lambda_new_0_0 0 rfl rfl)
theorem dX7_lambda_new_0_1 : decode cX7_lambda_new_0 1 = .ok (.iload_n 1, 1) := dk_27 (dk_at dksX7_lambda_new_0_0 1 rfl rfl)
theorem dX7_lambda_new_0_2 : decode cX7_lambda_new_0 2 = .ok (.if_icmp .ge 7, 3) := dk_162 0 7 (dk_at dksX7_lambda_new_0_0 2 rfl rfl)
theorem dX7_lambda_new_0_5 : decode cX7_lambda_new_0 5 = .ok (.iconst 1, 1) := dk_4 (dk_at dksX7_lambda_new_0_0 5 rfl rfl)
theorem dX7_lambda_new_0_6 : decode cX7_lambda_new_0 6 = .ok (.goto 4, 3) := dk_167 0 4 (dk_at dksX7_lambda_new_0_0 6 rfl rfl)
theorem dX7_lambda_new_0_9 : decode cX7_lambda_new_0 9 = .ok (.iconst 0, 1) := dk_3 (dk_at dksX7_lambda_new_0_0 9 rfl rfl)
theorem dX7_lambda_new_0_10 : decode cX7_lambda_new_0 10 = .ok (.ireturn, 1) := dk_172 (dk_at dksX7_lambda_new_0_0 10 rfl rfl)
abbrev cX7_lambda_new_1 : ByteArray := prog_5_method_5_code
def yX7_lambda_new_1 : MethodName := ⟨RX7, "lambda$new$1", "(II)Z"⟩
def dkwX7_lambda_new_1_0 : List UInt8 := [26, 27, 164, 0, 7, 4, 167, 0, 4, 3, 172]
abbrev dktX7_lambda_new_1_0 : List UInt8 := dkwX7_lambda_new_1_0 ++ []
theorem dksX7_lambda_new_1_0 : cX7_lambda_new_1.data.toList.drop 0 = dktX7_lambda_new_1_0 := by decide +kernel
theorem dX7_lambda_new_1_0 : decode cX7_lambda_new_1 0 = .ok (.iload_n 0, 1) := dk_26 (dk_at dksX7_lambda_new_1_0 0 rfl rfl)
theorem dX7_lambda_new_1_1 : decode cX7_lambda_new_1 1 = .ok (.iload_n 1, 1) := dk_27 (dk_at dksX7_lambda_new_1_0 1 rfl rfl)
theorem dX7_lambda_new_1_2 : decode cX7_lambda_new_1 2 = .ok (.if_icmp .le 7, 3) := dk_164 0 7 (dk_at dksX7_lambda_new_1_0 2 rfl rfl)
theorem dX7_lambda_new_1_5 : decode cX7_lambda_new_1 5 = .ok (.iconst 1, 1) := dk_4 (dk_at dksX7_lambda_new_1_0 5 rfl rfl)
theorem dX7_lambda_new_1_6 : decode cX7_lambda_new_1 6 = .ok (.goto 4, 3) := dk_167 0 4 (dk_at dksX7_lambda_new_1_0 6 rfl rfl)
theorem dX7_lambda_new_1_9 : decode cX7_lambda_new_1 9 = .ok (.iconst 0, 1) := dk_3 (dk_at dksX7_lambda_new_1_0 9 rfl rfl)
theorem dX7_lambda_new_1_10 : decode cX7_lambda_new_1 10 = .ok (.ireturn, 1) := dk_172 (dk_at dksX7_lambda_new_1_0 10 rfl rfl)
abbrev cX7_lambda_new_2 : ByteArray := prog_5_method_4_code
def yX7_lambda_new_2 : MethodName := ⟨RX7, "lambda$new$2", "(II)Z"⟩
def dkwX7_lambda_new_2_0 : List UInt8 := [26, 27, 160, 0, 7, 4, 167, 0, 4, 3, 172]
abbrev dktX7_lambda_new_2_0 : List UInt8 := dkwX7_lambda_new_2_0 ++ []
theorem dksX7_lambda_new_2_0 : cX7_lambda_new_2.data.toList.drop 0 = dktX7_lambda_new_2_0 := by decide +kernel
theorem dX7_lambda_new_2_0 : decode cX7_lambda_new_2 0 = .ok (.iload_n 0, 1) := dk_26 (dk_at dksX7_lambda_new_2_0 0 rfl rfl)
theorem dX7_lambda_new_2_1 : decode cX7_lambda_new_2 1 = .ok (.iload_n 1, 1) := dk_27 (dk_at dksX7_lambda_new_2_0 1 rfl rfl)
theorem dX7_lambda_new_2_2 : decode cX7_lambda_new_2 2 = .ok (.if_icmp .ne 7, 3) := dk_160 0 7 (dk_at dksX7_lambda_new_2_0 2 rfl rfl)
theorem dX7_lambda_new_2_5 : decode cX7_lambda_new_2 5 = .ok (.iconst 1, 1) := dk_4 (dk_at dksX7_lambda_new_2_0 5 rfl rfl)
theorem dX7_lambda_new_2_6 : decode cX7_lambda_new_2 6 = .ok (.goto 4, 3) := dk_167 0 4 (dk_at dksX7_lambda_new_2_0 6 rfl rfl)
theorem dX7_lambda_new_2_9 : decode cX7_lambda_new_2 9 = .ok (.iconst 0, 1) := dk_3 (dk_at dksX7_lambda_new_2_0 9 rfl rfl)
theorem dX7_lambda_new_2_10 : decode cX7_lambda_new_2 10 = .ok (.ireturn, 1) := dk_172 (dk_at dksX7_lambda_new_2_0 10 rfl rfl)
abbrev cX7_holds : ByteArray := prog_5_method_2_code
def yX7_holds : MethodName := ⟨RX7, "holds", "([I)Z"⟩
def dkwX7_holds_0 : List UInt8 := [42, 180, 0, 26, 43, 42, 180, 0, 7, 46, 42, 180, 0, 17, 185, 0, 30, 3, 0, 172]
abbrev dktX7_holds_0 : List UInt8 := dkwX7_holds_0 ++ []
theorem dksX7_holds_0 : cX7_holds.data.toList.drop 0 = dktX7_holds_0 := by decide +kernel
theorem dX7_holds_0 : decode cX7_holds 0 = .ok (.aload_n 0, 1) := dk_42 (dk_at dksX7_holds_0 0 rfl rfl)
theorem dX7_holds_1 : decode cX7_holds 1 = .ok (.getfield 26, 3) := dk_180 0 26 (dk_at dksX7_holds_0 1 rfl rfl)
theorem dX7_holds_4 : decode cX7_holds 4 = .ok (.aload_n 1, 1) := dk_43 (dk_at dksX7_holds_0 4 rfl rfl)
theorem dX7_holds_5 : decode cX7_holds 5 = .ok (.aload_n 0, 1) := dk_42 (dk_at dksX7_holds_0 5 rfl rfl)
theorem dX7_holds_6 : decode cX7_holds 6 = .ok (.getfield 7, 3) := dk_180 0 7 (dk_at dksX7_holds_0 6 rfl rfl)
theorem dX7_holds_9 : decode cX7_holds 9 = .ok (.iaload, 1) := dk_46 (dk_at dksX7_holds_0 9 rfl rfl)
theorem dX7_holds_10 : decode cX7_holds 10 = .ok (.aload_n 0, 1) := dk_42 (dk_at dksX7_holds_0 10 rfl rfl)
theorem dX7_holds_11 : decode cX7_holds 11 = .ok (.getfield 17, 3) := dk_180 0 17 (dk_at dksX7_holds_0 11 rfl rfl)
theorem dX7_holds_14 : decode cX7_holds 14 = .ok (.invokeinterface 30 3, 5) := by decide +kernel
theorem dX7_holds_19 : decode cX7_holds 19 = .ok (.ireturn, 1) := dk_172 (dk_at dksX7_holds_0 19 rfl rfl)
abbrev cX7_write : ByteArray := prog_5_method_3_code
def yX7_write : MethodName := ⟨RX7, "write", "(Ljava/lang/StringBuilder;)V"⟩
def dkwX7_write_1 : List UInt8 := [182, 0, 43, 16, 32, 182, 0, 43, 42, 180, 0, 17, 182, 0, 49, 87, 177]
abbrev dktX7_write_1 : List UInt8 := dkwX7_write_1 ++ []
def dkwX7_write_0 : List UInt8 := [43, 18, 35, 42, 180, 0, 7, 182, 0, 37, 182, 0, 43, 16, 32, 182, 0, 43, 42, 180, 0, 13]
abbrev dktX7_write_0 : List UInt8 := dkwX7_write_0 ++ dktX7_write_1
theorem dksX7_write_0 : cX7_write.data.toList.drop 0 = dktX7_write_0 := by decide +kernel
theorem dksX7_write_1 : cX7_write.data.toList.drop 22 = dktX7_write_1 := dk_seg dksX7_write_0 22 rfl rfl
theorem dX7_write_0 : decode cX7_write 0 = .ok (.aload_n 1, 1) := dk_43 (dk_at dksX7_write_0 0 rfl rfl)
theorem dX7_write_1 : decode cX7_write 1 = .ok (.ldc 35, 2) := dk_18 35 (dk_at dksX7_write_0 1 rfl rfl)
theorem dX7_write_3 : decode cX7_write 3 = .ok (.aload_n 0, 1) := dk_42 (dk_at dksX7_write_0 3 rfl rfl)
theorem dX7_write_4 : decode cX7_write 4 = .ok (.getfield 7, 3) := dk_180 0 7 (dk_at dksX7_write_0 4 rfl rfl)
theorem dX7_write_7 : decode cX7_write 7 = .ok (.invokevirtual 37, 3) := dk_182 0 37 (dk_at dksX7_write_0 7 rfl rfl)
theorem dX7_write_10 : decode cX7_write 10 = .ok (.invokevirtual 43, 3) := dk_182 0 43 (dk_at dksX7_write_0 10 rfl rfl)
theorem dX7_write_13 : decode cX7_write 13 = .ok (.bipush 32, 2) := dk_16 32 (dk_at dksX7_write_0 13 rfl rfl)
theorem dX7_write_15 : decode cX7_write 15 = .ok (.invokevirtual 43, 3) := dk_182 0 43 (dk_at dksX7_write_0 15 rfl rfl)
theorem dX7_write_18 : decode cX7_write 18 = .ok (.aload_n 0, 1) := dk_42 (dk_at dksX7_write_0 18 rfl rfl)
theorem dX7_write_19 : decode cX7_write 19 = .ok (.getfield 13, 3) := dk_180 0 13 (dk_at dksX7_write_0 19 rfl rfl)
theorem dX7_write_22 : decode cX7_write 22 = .ok (.invokevirtual 43, 3) := dk_182 0 43 (dk_at dksX7_write_1 0 rfl rfl)
theorem dX7_write_25 : decode cX7_write 25 = .ok (.bipush 32, 2) := dk_16 32 (dk_at dksX7_write_1 3 rfl rfl)
theorem dX7_write_27 : decode cX7_write 27 = .ok (.invokevirtual 43, 3) := dk_182 0 43 (dk_at dksX7_write_1 5 rfl rfl)
theorem dX7_write_30 : decode cX7_write 30 = .ok (.aload_n 0, 1) := dk_42 (dk_at dksX7_write_1 8 rfl rfl)
theorem dX7_write_31 : decode cX7_write 31 = .ok (.getfield 17, 3) := dk_180 0 17 (dk_at dksX7_write_1 9 rfl rfl)
theorem dX7_write_34 : decode cX7_write 34 = .ok (.invokevirtual 49, 3) := dk_182 0 49 (dk_at dksX7_write_1 12 rfl rfl)
theorem dX7_write_37 : decode cX7_write 37 = .ok (.pop, 1) := dk_87 (dk_at dksX7_write_1 15 rfl rfl)
theorem dX7_write_38 : decode cX7_write 38 = .ok (.return_, 1) := dk_177 (dk_at dksX7_write_1 16 rfl rfl)
theorem q155 : (Jvm.Cond.initialized "HeirCases$Comparison") ∈ lw_all := lw_g (lw_at lw_m1 30 rfl) rfl
theorem q999 : (Jvm.Cond.instantiable "HeirCases$Comparison" (4 : Nat)) ∈ lw_all := lw_g (lw_at lw_m4 154 rfl) rfl
theorem q1001 : (Jvm.Cond.instanceMethod ({ cls := "HeirCases$Comparison", name := "<init>", desc := "(ICI)V" } : Jvm.MethodName)) ∈ lw_all := lw_g (lw_at lw_m4 156 rfl) rfl
theorem q1002 : (Jvm.Cond.code ({ cls := "HeirCases$Comparison", name := "<init>", desc := "(ICI)V" } : Jvm.MethodName) prog_5_method_1_code (4 : Nat) (Option.none : Option Jvm.ClassFile.FieldType)) ∈ lw_all := lw_g (lw_at lw_m4 157 rfl) rfl
theorem q1003 : (Jvm.Cond.methodLink "HeirCases$Comparison" (1 : Nat) ({ cls := "java/lang/Object", name := "<init>", desc := "()V" } : Jvm.MethodName)) ∈ lw_all := lw_g (lw_at lw_m4 158 rfl) rfl
theorem q1004 : (Jvm.Cond.static ({ cls := "HeirCases$Comparison", name := "lambda$new$0", desc := "(II)Z" } : Jvm.MethodName)) ∈ lw_all := lw_g (lw_at lw_m4 159 rfl) rfl
theorem q1005 : (Jvm.Cond.code ({ cls := "HeirCases$Comparison", name := "lambda$new$0", desc := "(II)Z" } : Jvm.MethodName) prog_5_method_6_code (2 : Nat) (Option.some Jvm.ClassFile.FieldType.boolean)) ∈ lw_all := lw_g (lw_at lw_m4 160 rfl) rfl
theorem q1006 : (Jvm.Cond.static ({ cls := "HeirCases$Comparison", name := "lambda$new$1", desc := "(II)Z" } : Jvm.MethodName)) ∈ lw_all := lw_g (lw_at lw_m4 161 rfl) rfl
theorem q1007 : (Jvm.Cond.code ({ cls := "HeirCases$Comparison", name := "lambda$new$1", desc := "(II)Z" } : Jvm.MethodName) prog_5_method_5_code (2 : Nat) (Option.some Jvm.ClassFile.FieldType.boolean)) ∈ lw_all := lw_g (lw_at lw_m4 162 rfl) rfl
theorem q1008 : (Jvm.Cond.static ({ cls := "HeirCases$Comparison", name := "lambda$new$2", desc := "(II)Z" } : Jvm.MethodName)) ∈ lw_all := lw_g (lw_at lw_m4 163 rfl) rfl
theorem q1009 : (Jvm.Cond.code ({ cls := "HeirCases$Comparison", name := "lambda$new$2", desc := "(II)Z" } : Jvm.MethodName) prog_5_method_4_code (2 : Nat) (Option.some Jvm.ClassFile.FieldType.boolean)) ∈ lw_all := lw_g (lw_at lw_m4 164 rfl) rfl
theorem q1010 : (Jvm.Cond.fieldLink "HeirCases$Comparison" (7 : Nat) "HeirCases$Comparison" "fact" "I") ∈ lw_all := lw_g (lw_at lw_m4 165 rfl) rfl
theorem q1011 : (Jvm.Cond.fieldLink "HeirCases$Comparison" (13 : Nat) "HeirCases$Comparison" "sign" "C") ∈ lw_all := lw_g (lw_at lw_m4 166 rfl) rfl
theorem q1012 : (Jvm.Cond.fieldLink "HeirCases$Comparison" (17 : Nat) "HeirCases$Comparison" "wanted" "I") ∈ lw_all := lw_g (lw_at lw_m4 167 rfl) rfl
theorem q1013 : (Jvm.Cond.fieldLink "HeirCases$Comparison" (26 : Nat) "HeirCases$Comparison" "comparing" "LHeirCases$Comparing;") ∈ lw_all := lw_g (lw_at lw_m4 168 rfl) rfl
theorem q1014 : (Jvm.Cond.laysFinal "HeirCases$Comparison" "HeirCases$Comparison" "fact" "I") ∈ lw_all := lw_g (lw_at lw_m4 169 rfl) rfl
theorem q1015 : (Jvm.Cond.soleField "HeirCases$Comparison" "fact") ∈ lw_all := lw_g (lw_at lw_m4 170 rfl) rfl
theorem q1016 : (Jvm.Cond.laysFinal "HeirCases$Comparison" "HeirCases$Comparison" "sign" "C") ∈ lw_all := lw_g (lw_at lw_m4 171 rfl) rfl
theorem q1017 : (Jvm.Cond.soleField "HeirCases$Comparison" "sign") ∈ lw_all := lw_g (lw_at lw_m4 172 rfl) rfl
theorem q1018 : (Jvm.Cond.laysFinal "HeirCases$Comparison" "HeirCases$Comparison" "wanted" "I") ∈ lw_all := lw_g (lw_at lw_m4 173 rfl) rfl
theorem q1019 : (Jvm.Cond.soleField "HeirCases$Comparison" "wanted") ∈ lw_all := lw_g (lw_at lw_m4 174 rfl) rfl
theorem q1020 : (Jvm.Cond.laysFinal "HeirCases$Comparison" "HeirCases$Comparison" "comparing" "LHeirCases$Comparing;") ∈ lw_all := lw_g (lw_at lw_m4 175 rfl) rfl
theorem q1021 : (Jvm.Cond.soleField "HeirCases$Comparison" "comparing") ∈ lw_all := lw_g (lw_at lw_m4 176 rfl) rfl
theorem q1022 : (Jvm.Cond.superclass "HeirCases$Comparison" "java/lang/Object") ∈ lw_all := lw_g (lw_at lw_m4 177 rfl) rfl
theorem q1066 : (Jvm.Cond.selects "HeirCases$Comparison" ({ cls := "java/lang/Object", name := "getClass", desc := "()Ljava/lang/Class;" } : Jvm.MethodName) ({ cls := "java/lang/Object", name := "getClass", desc := "()Ljava/lang/Class;" } : Jvm.MethodName)) ∈ lw_all := lw_g (lw_at lw_m4 221 rfl) rfl
theorem q1294 : (Jvm.Cond.castable "HeirCases$Comparison" "HeirCases$Guard") ∈ lw_tbl := lw_at lw_m5 209 rfl
theorem q1295 : (Jvm.Cond.selects "HeirCases$Comparison" ({ cls := "HeirCases$Guard", name := "holds", desc := "([I)Z" } : Jvm.MethodName) ({ cls := "HeirCases$Comparison", name := "holds", desc := "([I)Z" } : Jvm.MethodName)) ∈ lw_all := lw_g (lw_at lw_m5 210 rfl) rfl
theorem q1296 : (Jvm.Cond.unhidden "HeirCases$Comparison" "holds" "([I)Z") ∈ lw_tbl := lw_at lw_m5 211 rfl
theorem q1297 : (Jvm.Cond.instanceMethod ({ cls := "HeirCases$Comparison", name := "holds", desc := "([I)Z" } : Jvm.MethodName)) ∈ lw_all := lw_g (lw_at lw_m5 212 rfl) rfl
theorem q1298 : (Jvm.Cond.publicMethod ({ cls := "HeirCases$Comparison", name := "holds", desc := "([I)Z" } : Jvm.MethodName)) ∈ lw_tbl := lw_at lw_m5 213 rfl
theorem q1299 : (Jvm.Cond.code ({ cls := "HeirCases$Comparison", name := "holds", desc := "([I)Z" } : Jvm.MethodName) prog_5_method_2_code (2 : Nat) (Option.some Jvm.ClassFile.FieldType.boolean)) ∈ lw_all := lw_g (lw_at lw_m5 214 rfl) rfl
theorem q1300 : (Jvm.Cond.interfaceEntry "HeirCases$Comparison" (30 : Nat)) ∈ lw_tbl := lw_at lw_m5 215 rfl
theorem q1301 : (Jvm.Cond.methodLink "HeirCases$Comparison" (30 : Nat) ({ cls := "HeirCases$Comparing", name := "is", desc := "(II)Z" } : Jvm.MethodName)) ∈ lw_all := lw_g (lw_at lw_m5 216 rfl) rfl
theorem q1910 : (Jvm.Cond.unhidden "HeirCases$Comparison" "tightness" "()I") ∈ lw_tbl := lw_at lw_m8 105 rfl
theorem q1921 : (Jvm.Cond.selects "HeirCases$Comparison" ({ cls := "HeirCases$Guard", name := "write", desc := "(Ljava/lang/StringBuilder;)V" } : Jvm.MethodName) ({ cls := "HeirCases$Comparison", name := "write", desc := "(Ljava/lang/StringBuilder;)V" } : Jvm.MethodName)) ∈ lw_all := lw_g (lw_at lw_m8 116 rfl) rfl
theorem q1922 : (Jvm.Cond.unhidden "HeirCases$Comparison" "write" "(Ljava/lang/StringBuilder;)V") ∈ lw_tbl := lw_at lw_m8 117 rfl
theorem q1923 : (Jvm.Cond.instanceMethod ({ cls := "HeirCases$Comparison", name := "write", desc := "(Ljava/lang/StringBuilder;)V" } : Jvm.MethodName)) ∈ lw_all := lw_g (lw_at lw_m8 118 rfl) rfl
theorem q1924 : (Jvm.Cond.publicMethod ({ cls := "HeirCases$Comparison", name := "write", desc := "(Ljava/lang/StringBuilder;)V" } : Jvm.MethodName)) ∈ lw_tbl := lw_at lw_m8 119 rfl
theorem q1925 : (Jvm.Cond.code ({ cls := "HeirCases$Comparison", name := "write", desc := "(Ljava/lang/StringBuilder;)V" } : Jvm.MethodName) prog_5_method_3_code (2 : Nat) (Option.none : Option Jvm.ClassFile.FieldType)) ∈ lw_all := lw_g (lw_at lw_m8 120 rfl) rfl
theorem q1926 : (Jvm.Cond.stringRef "HeirCases$Comparison" (35 : Nat) "abcd") ∈ lw_tbl := lw_at lw_m8 121 rfl
theorem q1927 : (Jvm.Cond.methodLink "HeirCases$Comparison" (37 : Nat) ({ cls := "java/lang/String", name := "charAt", desc := "(I)C" } : Jvm.MethodName)) ∈ lw_all := lw_g (lw_at lw_m8 122 rfl) rfl
theorem q1928 : (Jvm.Cond.methodLink "HeirCases$Comparison" (43 : Nat) ({ cls := "java/lang/StringBuilder", name := "append", desc := "(C)Ljava/lang/StringBuilder;" } : Jvm.MethodName)) ∈ lw_all := lw_g (lw_at lw_m8 123 rfl) rfl
theorem q1929 : (Jvm.Cond.methodLink "HeirCases$Comparison" (49 : Nat) ({ cls := "java/lang/StringBuilder", name := "append", desc := "(I)Ljava/lang/StringBuilder;" } : Jvm.MethodName)) ∈ lw_all := lw_g (lw_at lw_m8 124 rfl) rfl
theorem q2706 : (Jvm.Cond.selects "HeirCases$Comparison" ({ cls := "HeirCases$Comparison", name := "holds", desc := "([I)Z" } : Jvm.MethodName) ({ cls := "HeirCases$Comparison", name := "holds", desc := "([I)Z" } : Jvm.MethodName)) ∈ lw_all := lw_g (lw_at lw_m11 181 rfl) rfl
theorem q2727 : (Jvm.Cond.castable "HeirCases$Comparison" "java/lang/Object") ∈ lw_tbl := lw_at lw_m11 202 rfl
theorem in_X7 : ∀ w ∈ wsX70, w ∈ lw_all := lw_in wsX70 [1014, 1016, 1018, 1020] (by decide +kernel) (by decide +kernel)
/-! HeirCases$Joined -/
set_option maxRecDepth 100000
def RX8 : String := "HeirCases$Joined"
def TX8 : u_T := fun k => match k with
  | 0 => ("HeirCases$Joined", "parts", "Ljava/util/ArrayList;", true)
  | _ => ("HeirCases$Joined", "isAnd", "Z", true)
def tyX8 : Nat → FieldType := fun k => match k with
  | 0 => .object "java/util/ArrayList"
  | _ => .boolean
abbrev wsX80 : List Cond := u_ws RX8 TX8 2
theorem nmX8 : ∀ a, a < 2 → ∀ b, b < 2 → a ≠ b → (TX8 a).2.1 ≠ (TX8 b).2.1 := by decide +kernel
theorem tyX8_ok : ∀ k, k < 2 → parseFieldDescriptor (TX8 k).2.2.1 = some (tyX8 k) := by decide +kernel
abbrev cX8_init : ByteArray := prog_10_method_1_code
def yX8_init : MethodName := ⟨RX8, "<init>", "(Z)V"⟩
def dkwX8_init_0 : List UInt8 := [42, 183, 0, 1, 42, 187, 0, 7, 89, 183, 0, 9, 181, 0, 10, 42, 27, 181, 0, 16, 177]
abbrev dktX8_init_0 : List UInt8 := dkwX8_init_0 ++ []
theorem dksX8_init_0 : cX8_init.data.toList.drop 0 = dktX8_init_0 := by decide +kernel
theorem dX8_init_0 : decode cX8_init 0 = .ok (.aload_n 0, 1) := dk_42 (dk_at dksX8_init_0 0 rfl rfl)
theorem dX8_init_1 : decode cX8_init 1 = .ok (.invokespecial 1, 3) := dk_183 0 1 (dk_at dksX8_init_0 1 rfl rfl)
theorem dX8_init_4 : decode cX8_init 4 = .ok (.aload_n 0, 1) := dk_42 (dk_at dksX8_init_0 4 rfl rfl)
theorem dX8_init_5 : decode cX8_init 5 = .ok (.new 7, 3) := dk_187 0 7 (dk_at dksX8_init_0 5 rfl rfl)
theorem dX8_init_8 : decode cX8_init 8 = .ok (.dup, 1) := dk_89 (dk_at dksX8_init_0 8 rfl rfl)
theorem dX8_init_9 : decode cX8_init 9 = .ok (.invokespecial 9, 3) := dk_183 0 9 (dk_at dksX8_init_0 9 rfl rfl)
theorem dX8_init_12 : decode cX8_init 12 = .ok (.putfield 10, 3) := dk_181 0 10 (dk_at dksX8_init_0 12 rfl rfl)
theorem dX8_init_15 : decode cX8_init 15 = .ok (.aload_n 0, 1) := dk_42 (dk_at dksX8_init_0 15 rfl rfl)
theorem dX8_init_16 : decode cX8_init 16 = .ok (.iload_n 1, 1) := dk_27 (dk_at dksX8_init_0 16 rfl rfl)
theorem dX8_init_17 : decode cX8_init 17 = .ok (.putfield 16, 3) := dk_181 0 16 (dk_at dksX8_init_0 17 rfl rfl)
theorem dX8_init_20 : decode cX8_init 20 = .ok (.return_, 1) := dk_177 (dk_at dksX8_init_0 20 rfl rfl)
abbrev cX8_holds : ByteArray := prog_10_method_2_code
def yX8_holds : MethodName := ⟨RX8, "holds", "([I)Z"⟩
def dkwX8_holds_2 : List UInt8 := [167, 255, 216, 28, 172]
abbrev dktX8_holds_2 : List UInt8 := dkwX8_holds_2 ++ []
def dkwX8_holds_1 : List UInt8 := [160, 0, 27, 42, 180, 0, 10, 29, 182, 0, 24, 192, 0, 28, 43, 185, 0, 30, 2, 0, 61, 132, 3, 1]
abbrev dktX8_holds_1 : List UInt8 := dkwX8_holds_1 ++ dktX8_holds_2
def dkwX8_holds_0 : List UInt8 := [42, 180, 0, 16, 61, 3, 62, 29, 42, 180, 0, 10, 182, 0, 20, 162, 0, 35, 28, 42, 180, 0, 16]
abbrev dktX8_holds_0 : List UInt8 := dkwX8_holds_0 ++ dktX8_holds_1
theorem dksX8_holds_0 : cX8_holds.data.toList.drop 0 = dktX8_holds_0 := by decide +kernel
theorem dksX8_holds_1 : cX8_holds.data.toList.drop 23 = dktX8_holds_1 := dk_seg dksX8_holds_0 23 rfl rfl
theorem dksX8_holds_2 : cX8_holds.data.toList.drop 47 = dktX8_holds_2 := dk_seg dksX8_holds_1 24 rfl rfl
theorem dX8_holds_0 : decode cX8_holds 0 = .ok (.aload_n 0, 1) := dk_42 (dk_at dksX8_holds_0 0 rfl rfl)
theorem dX8_holds_1 : decode cX8_holds 1 = .ok (.getfield 16, 3) := dk_180 0 16 (dk_at dksX8_holds_0 1 rfl rfl)
theorem dX8_holds_4 : decode cX8_holds 4 = .ok (.istore_n 2, 1) := dk_61 (dk_at dksX8_holds_0 4 rfl rfl)
theorem dX8_holds_5 : decode cX8_holds 5 = .ok (.iconst 0, 1) := dk_3 (dk_at dksX8_holds_0 5 rfl rfl)
theorem dX8_holds_6 : decode cX8_holds 6 = .ok (.istore_n 3, 1) := dk_62 (dk_at dksX8_holds_0 6 rfl rfl)
theorem dX8_holds_7 : decode cX8_holds 7 = .ok (.iload_n 3, 1) := dk_29 (dk_at dksX8_holds_0 7 rfl rfl)
theorem dX8_holds_8 : decode cX8_holds 8 = .ok (.aload_n 0, 1) := dk_42 (dk_at dksX8_holds_0 8 rfl rfl)
theorem dX8_holds_9 : decode cX8_holds 9 = .ok (.getfield 10, 3) := dk_180 0 10 (dk_at dksX8_holds_0 9 rfl rfl)
theorem dX8_holds_12 : decode cX8_holds 12 = .ok (.invokevirtual 20, 3) := dk_182 0 20 (dk_at dksX8_holds_0 12 rfl rfl)
theorem dX8_holds_15 : decode cX8_holds 15 = .ok (.if_icmp .ge 35, 3) := dk_162 0 35 (dk_at dksX8_holds_0 15 rfl rfl)
theorem dX8_holds_18 : decode cX8_holds 18 = .ok (.iload_n 2, 1) := dk_28 (dk_at dksX8_holds_0 18 rfl rfl)
theorem dX8_holds_19 : decode cX8_holds 19 = .ok (.aload_n 0, 1) := dk_42 (dk_at dksX8_holds_0 19 rfl rfl)
theorem dX8_holds_20 : decode cX8_holds 20 = .ok (.getfield 16, 3) := dk_180 0 16 (dk_at dksX8_holds_0 20 rfl rfl)
theorem dX8_holds_23 : decode cX8_holds 23 = .ok (.if_icmp .ne 27, 3) := dk_160 0 27 (dk_at dksX8_holds_1 0 rfl rfl)
theorem dX8_holds_26 : decode cX8_holds 26 = .ok (.aload_n 0, 1) := dk_42 (dk_at dksX8_holds_1 3 rfl rfl)
theorem dX8_holds_27 : decode cX8_holds 27 = .ok (.getfield 10, 3) := dk_180 0 10 (dk_at dksX8_holds_1 4 rfl rfl)
theorem dX8_holds_30 : decode cX8_holds 30 = .ok (.iload_n 3, 1) := dk_29 (dk_at dksX8_holds_1 7 rfl rfl)
theorem dX8_holds_31 : decode cX8_holds 31 = .ok (.invokevirtual 24, 3) := dk_182 0 24 (dk_at dksX8_holds_1 8 rfl rfl)
theorem dX8_holds_34 : decode cX8_holds 34 = .ok (.checkcast 28, 3) := dk_192 0 28 (dk_at dksX8_holds_1 11 rfl rfl)
theorem dX8_holds_37 : decode cX8_holds 37 = .ok (.aload_n 1, 1) := dk_43 (dk_at dksX8_holds_1 14 rfl rfl)
theorem dX8_holds_38 : decode cX8_holds 38 = .ok (.invokeinterface 30 2, 5) := by decide +kernel
theorem dX8_holds_43 : decode cX8_holds 43 = .ok (.istore_n 2, 1) := dk_61 (dk_at dksX8_holds_1 20 rfl rfl)
theorem dX8_holds_44 : decode cX8_holds 44 = .ok (.iinc 3 1, 3) := dk_132 3 1 (dk_at dksX8_holds_1 21 rfl rfl)
theorem dX8_holds_47 : decode cX8_holds 47 = .ok (.goto (-40), 3) := dk_167 255 216 (dk_at dksX8_holds_2 0 rfl rfl)
theorem dX8_holds_50 : decode cX8_holds 50 = .ok (.iload_n 2, 1) := dk_28 (dk_at dksX8_holds_2 3 rfl rfl)
theorem dX8_holds_51 : decode cX8_holds 51 = .ok (.ireturn, 1) := dk_172 (dk_at dksX8_holds_2 4 rfl rfl)
abbrev cX8_tightness : ByteArray := prog_10_method_3_code
def yX8_tightness : MethodName := ⟨RX8, "tightness", "()I"⟩
def dkwX8_tightness_0 : List UInt8 := [42, 180, 0, 16, 153, 0, 7, 4, 167, 0, 4, 3, 172]
abbrev dktX8_tightness_0 : List UInt8 := dkwX8_tightness_0 ++ []
theorem dksX8_tightness_0 : cX8_tightness.data.toList.drop 0 = dktX8_tightness_0 := by decide +kernel
theorem dX8_tightness_0 : decode cX8_tightness 0 = .ok (.aload_n 0, 1) := dk_42 (dk_at dksX8_tightness_0 0 rfl rfl)
theorem dX8_tightness_1 : decode cX8_tightness 1 = .ok (.getfield 16, 3) := dk_180 0 16 (dk_at dksX8_tightness_0 1 rfl rfl)
theorem dX8_tightness_4 : decode cX8_tightness 4 = .ok (.ifCond .eq 7, 3) := dk_153 0 7 (dk_at dksX8_tightness_0 4 rfl rfl)
theorem dX8_tightness_7 : decode cX8_tightness 7 = .ok (.iconst 1, 1) := dk_4 (dk_at dksX8_tightness_0 7 rfl rfl)
theorem dX8_tightness_8 : decode cX8_tightness 8 = .ok (.goto 4, 3) := dk_167 0 4 (dk_at dksX8_tightness_0 8 rfl rfl)
theorem dX8_tightness_11 : decode cX8_tightness 11 = .ok (.iconst 0, 1) := dk_3 (dk_at dksX8_tightness_0 11 rfl rfl)
theorem dX8_tightness_12 : decode cX8_tightness 12 = .ok (.ireturn, 1) := dk_172 (dk_at dksX8_tightness_0 12 rfl rfl)
abbrev cX8_write : ByteArray := prog_10_method_4_code
def yX8_write : MethodName := ⟨RX8, "write", "(Ljava/lang/StringBuilder;)V"⟩
def dkwX8_write_2 : List UInt8 := [182, 0, 24, 192, 0, 28, 42, 182, 0, 46, 43, 184, 0, 49, 132, 2, 1, 167, 255, 195, 177]
abbrev dktX8_write_2 : List UInt8 := dkwX8_write_2 ++ []
def dkwX8_write_1 : List UInt8 := [180, 0, 16, 153, 0, 8, 18, 36, 167, 0, 5, 18, 38, 182, 0, 40, 87, 42, 180, 0, 10, 28]
abbrev dktX8_write_1 : List UInt8 := dkwX8_write_1 ++ dktX8_write_2
def dkwX8_write_0 : List UInt8 := [3, 61, 28, 42, 180, 0, 10, 182, 0, 20, 162, 0, 56, 43, 28, 154, 0, 8, 18, 34, 167, 0, 17, 42]
abbrev dktX8_write_0 : List UInt8 := dkwX8_write_0 ++ dktX8_write_1
theorem dksX8_write_0 : cX8_write.data.toList.drop 0 = dktX8_write_0 := by decide +kernel
theorem dksX8_write_1 : cX8_write.data.toList.drop 24 = dktX8_write_1 := dk_seg dksX8_write_0 24 rfl rfl
theorem dksX8_write_2 : cX8_write.data.toList.drop 46 = dktX8_write_2 := dk_seg dksX8_write_1 22 rfl rfl
theorem dX8_write_0 : decode cX8_write 0 = .ok (.iconst 0, 1) := dk_3 (dk_at dksX8_write_0 0 rfl rfl)
theorem dX8_write_1 : decode cX8_write 1 = .ok (.istore_n 2, 1) := dk_61 (dk_at dksX8_write_0 1 rfl rfl)
theorem dX8_write_2 : decode cX8_write 2 = .ok (.iload_n 2, 1) := dk_28 (dk_at dksX8_write_0 2 rfl rfl)
theorem dX8_write_3 : decode cX8_write 3 = .ok (.aload_n 0, 1) := dk_42 (dk_at dksX8_write_0 3 rfl rfl)
theorem dX8_write_4 : decode cX8_write 4 = .ok (.getfield 10, 3) := dk_180 0 10 (dk_at dksX8_write_0 4 rfl rfl)
theorem dX8_write_7 : decode cX8_write 7 = .ok (.invokevirtual 20, 3) := dk_182 0 20 (dk_at dksX8_write_0 7 rfl rfl)
theorem dX8_write_10 : decode cX8_write 10 = .ok (.if_icmp .ge 56, 3) := dk_162 0 56 (dk_at dksX8_write_0 10 rfl rfl)
theorem dX8_write_13 : decode cX8_write 13 = .ok (.aload_n 1, 1) := dk_43 (dk_at dksX8_write_0 13 rfl rfl)
theorem dX8_write_14 : decode cX8_write 14 = .ok (.iload_n 2, 1) := dk_28 (dk_at dksX8_write_0 14 rfl rfl)
theorem dX8_write_15 : decode cX8_write 15 = .ok (.ifCond .ne 8, 3) := dk_154 0 8 (dk_at dksX8_write_0 15 rfl rfl)
theorem dX8_write_18 : decode cX8_write 18 = .ok (.ldc 34, 2) := dk_18 34 (dk_at dksX8_write_0 18 rfl rfl)
theorem dX8_write_20 : decode cX8_write 20 = .ok (.goto 17, 3) := dk_167 0 17 (dk_at dksX8_write_0 20 rfl rfl)
theorem dX8_write_23 : decode cX8_write 23 = .ok (.aload_n 0, 1) := dk_42 (dk_at dksX8_write_0 23 rfl rfl)
theorem dX8_write_24 : decode cX8_write 24 = .ok (.getfield 16, 3) := dk_180 0 16 (dk_at dksX8_write_1 0 rfl rfl)
theorem dX8_write_27 : decode cX8_write 27 = .ok (.ifCond .eq 8, 3) := dk_153 0 8 (dk_at dksX8_write_1 3 rfl rfl)
theorem dX8_write_30 : decode cX8_write 30 = .ok (.ldc 36, 2) := dk_18 36 (dk_at dksX8_write_1 6 rfl rfl)
theorem dX8_write_32 : decode cX8_write 32 = .ok (.goto 5, 3) := dk_167 0 5 (dk_at dksX8_write_1 8 rfl rfl)
theorem dX8_write_35 : decode cX8_write 35 = .ok (.ldc 38, 2) := dk_18 38 (dk_at dksX8_write_1 11 rfl rfl)
theorem dX8_write_37 : decode cX8_write 37 = .ok (.invokevirtual 40, 3) := dk_182 0 40 (dk_at dksX8_write_1 13 rfl rfl)
theorem dX8_write_40 : decode cX8_write 40 = .ok (.pop, 1) := dk_87 (dk_at dksX8_write_1 16 rfl rfl)
theorem dX8_write_41 : decode cX8_write 41 = .ok (.aload_n 0, 1) := dk_42 (dk_at dksX8_write_1 17 rfl rfl)
theorem dX8_write_42 : decode cX8_write 42 = .ok (.getfield 10, 3) := dk_180 0 10 (dk_at dksX8_write_1 18 rfl rfl)
theorem dX8_write_45 : decode cX8_write 45 = .ok (.iload_n 2, 1) := dk_28 (dk_at dksX8_write_1 21 rfl rfl)
theorem dX8_write_46 : decode cX8_write 46 = .ok (.invokevirtual 24, 3) := dk_182 0 24 (dk_at dksX8_write_2 0 rfl rfl)
theorem dX8_write_49 : decode cX8_write 49 = .ok (.checkcast 28, 3) := dk_192 0 28 (dk_at dksX8_write_2 3 rfl rfl)
theorem dX8_write_52 : decode cX8_write 52 = .ok (.aload_n 0, 1) := dk_42 (dk_at dksX8_write_2 6 rfl rfl)
theorem dX8_write_53 : decode cX8_write 53 = .ok (.invokevirtual 46, 3) := dk_182 0 46 (dk_at dksX8_write_2 7 rfl rfl)
theorem dX8_write_56 : decode cX8_write 56 = .ok (.aload_n 1, 1) := dk_43 (dk_at dksX8_write_2 10 rfl rfl)
theorem dX8_write_57 : decode cX8_write 57 = .ok (.invokestatic 49, 3) := dk_184 0 49 (dk_at dksX8_write_2 11 rfl rfl)
theorem dX8_write_60 : decode cX8_write 60 = .ok (.iinc 2 1, 3) := dk_132 2 1 (dk_at dksX8_write_2 14 rfl rfl)
theorem dX8_write_63 : decode cX8_write 63 = .ok (.goto (-61), 3) := dk_167 255 195 (dk_at dksX8_write_2 17 rfl rfl)
theorem dX8_write_66 : decode cX8_write 66 = .ok (.return_, 1) := dk_177 (dk_at dksX8_write_2 20 rfl rfl)
theorem q156 : (Jvm.Cond.initialized "HeirCases$Joined") ∈ lw_all := lw_g (lw_at lw_m1 31 rfl) rfl
theorem q1025 : (Jvm.Cond.instantiable "HeirCases$Joined" (2 : Nat)) ∈ lw_all := lw_g (lw_at lw_m4 180 rfl) rfl
theorem q1027 : (Jvm.Cond.instanceMethod ({ cls := "HeirCases$Joined", name := "<init>", desc := "(Z)V" } : Jvm.MethodName)) ∈ lw_all := lw_g (lw_at lw_m4 182 rfl) rfl
theorem q1028 : (Jvm.Cond.code ({ cls := "HeirCases$Joined", name := "<init>", desc := "(Z)V" } : Jvm.MethodName) prog_10_method_1_code (2 : Nat) (Option.none : Option Jvm.ClassFile.FieldType)) ∈ lw_all := lw_g (lw_at lw_m4 183 rfl) rfl
theorem q1029 : (Jvm.Cond.methodLink "HeirCases$Joined" (1 : Nat) ({ cls := "java/lang/Object", name := "<init>", desc := "()V" } : Jvm.MethodName)) ∈ lw_all := lw_g (lw_at lw_m4 184 rfl) rfl
theorem q1030 : (Jvm.Cond.classLink "HeirCases$Joined" (7 : Nat) "java/util/ArrayList") ∈ lw_all := lw_g (lw_at lw_m4 185 rfl) rfl
theorem q1031 : (Jvm.Cond.methodLink "HeirCases$Joined" (9 : Nat) ({ cls := "java/util/ArrayList", name := "<init>", desc := "()V" } : Jvm.MethodName)) ∈ lw_all := lw_g (lw_at lw_m4 186 rfl) rfl
theorem q1032 : (Jvm.Cond.fieldLink "HeirCases$Joined" (10 : Nat) "HeirCases$Joined" "parts" "Ljava/util/ArrayList;") ∈ lw_all := lw_g (lw_at lw_m4 187 rfl) rfl
theorem q1034 : (Jvm.Cond.fieldLink "HeirCases$Joined" (16 : Nat) "HeirCases$Joined" "isAnd" "Z") ∈ lw_all := lw_g (lw_at lw_m4 189 rfl) rfl
theorem q1035 : (Jvm.Cond.laysFinal "HeirCases$Joined" "HeirCases$Joined" "parts" "Ljava/util/ArrayList;") ∈ lw_all := lw_g (lw_at lw_m4 190 rfl) rfl
theorem q1036 : (Jvm.Cond.soleField "HeirCases$Joined" "parts") ∈ lw_all := lw_g (lw_at lw_m4 191 rfl) rfl
theorem q1037 : (Jvm.Cond.laysFinal "HeirCases$Joined" "HeirCases$Joined" "isAnd" "Z") ∈ lw_all := lw_g (lw_at lw_m4 192 rfl) rfl
theorem q1038 : (Jvm.Cond.soleField "HeirCases$Joined" "isAnd") ∈ lw_all := lw_g (lw_at lw_m4 193 rfl) rfl
theorem q1039 : (Jvm.Cond.superclass "HeirCases$Joined" "java/lang/Object") ∈ lw_all := lw_g (lw_at lw_m4 194 rfl) rfl
theorem q1069 : (Jvm.Cond.selects "HeirCases$Joined" ({ cls := "java/lang/Object", name := "getClass", desc := "()Ljava/lang/Class;" } : Jvm.MethodName) ({ cls := "java/lang/Object", name := "getClass", desc := "()Ljava/lang/Class;" } : Jvm.MethodName)) ∈ lw_all := lw_g (lw_at lw_m4 224 rfl) rfl
theorem q1304 : (Jvm.Cond.castable "HeirCases$Joined" "HeirCases$Guard") ∈ lw_tbl := lw_at lw_m5 219 rfl
theorem q1305 : (Jvm.Cond.selects "HeirCases$Joined" ({ cls := "HeirCases$Guard", name := "holds", desc := "([I)Z" } : Jvm.MethodName) ({ cls := "HeirCases$Joined", name := "holds", desc := "([I)Z" } : Jvm.MethodName)) ∈ lw_all := lw_g (lw_at lw_m5 220 rfl) rfl
theorem q1306 : (Jvm.Cond.unhidden "HeirCases$Joined" "holds" "([I)Z") ∈ lw_tbl := lw_at lw_m5 221 rfl
theorem q1307 : (Jvm.Cond.instanceMethod ({ cls := "HeirCases$Joined", name := "holds", desc := "([I)Z" } : Jvm.MethodName)) ∈ lw_all := lw_g (lw_at lw_m5 222 rfl) rfl
theorem q1308 : (Jvm.Cond.publicMethod ({ cls := "HeirCases$Joined", name := "holds", desc := "([I)Z" } : Jvm.MethodName)) ∈ lw_tbl := lw_at lw_m5 223 rfl
theorem q1309 : (Jvm.Cond.code ({ cls := "HeirCases$Joined", name := "holds", desc := "([I)Z" } : Jvm.MethodName) prog_10_method_2_code (4 : Nat) (Option.some Jvm.ClassFile.FieldType.boolean)) ∈ lw_all := lw_g (lw_at lw_m5 224 rfl) rfl
theorem q1310 : (Jvm.Cond.methodLink "HeirCases$Joined" (20 : Nat) ({ cls := "java/util/ArrayList", name := "size", desc := "()I" } : Jvm.MethodName)) ∈ lw_all := lw_g (lw_at lw_m5 225 rfl) rfl
theorem q1311 : (Jvm.Cond.methodLink "HeirCases$Joined" (24 : Nat) ({ cls := "java/util/ArrayList", name := "get", desc := "(I)Ljava/lang/Object;" } : Jvm.MethodName)) ∈ lw_all := lw_g (lw_at lw_m5 226 rfl) rfl
theorem q1312 : (Jvm.Cond.classLink "HeirCases$Joined" (28 : Nat) "HeirCases$Guard") ∈ lw_all := lw_g (lw_at lw_m5 227 rfl) rfl
theorem q1313 : (Jvm.Cond.interfaceEntry "HeirCases$Joined" (30 : Nat)) ∈ lw_tbl := lw_at lw_m5 228 rfl
theorem q1314 : (Jvm.Cond.methodLink "HeirCases$Joined" (30 : Nat) ({ cls := "HeirCases$Guard", name := "holds", desc := "([I)Z" } : Jvm.MethodName)) ∈ lw_all := lw_g (lw_at lw_m5 229 rfl) rfl
theorem q1911 : (Jvm.Cond.selects "HeirCases$Joined" ({ cls := "HeirCases$Guard", name := "tightness", desc := "()I" } : Jvm.MethodName) ({ cls := "HeirCases$Joined", name := "tightness", desc := "()I" } : Jvm.MethodName)) ∈ lw_all := lw_g (lw_at lw_m8 106 rfl) rfl
theorem q1912 : (Jvm.Cond.unhidden "HeirCases$Joined" "tightness" "()I") ∈ lw_tbl := lw_at lw_m8 107 rfl
theorem q1913 : (Jvm.Cond.instanceMethod ({ cls := "HeirCases$Joined", name := "tightness", desc := "()I" } : Jvm.MethodName)) ∈ lw_all := lw_g (lw_at lw_m8 108 rfl) rfl
theorem q1914 : (Jvm.Cond.publicMethod ({ cls := "HeirCases$Joined", name := "tightness", desc := "()I" } : Jvm.MethodName)) ∈ lw_tbl := lw_at lw_m8 109 rfl
theorem q1915 : (Jvm.Cond.code ({ cls := "HeirCases$Joined", name := "tightness", desc := "()I" } : Jvm.MethodName) prog_10_method_3_code (1 : Nat) (Option.some Jvm.ClassFile.FieldType.int)) ∈ lw_all := lw_g (lw_at lw_m8 110 rfl) rfl
theorem q1930 : (Jvm.Cond.selects "HeirCases$Joined" ({ cls := "HeirCases$Guard", name := "write", desc := "(Ljava/lang/StringBuilder;)V" } : Jvm.MethodName) ({ cls := "HeirCases$Joined", name := "write", desc := "(Ljava/lang/StringBuilder;)V" } : Jvm.MethodName)) ∈ lw_all := lw_g (lw_at lw_m8 125 rfl) rfl
theorem q1931 : (Jvm.Cond.unhidden "HeirCases$Joined" "write" "(Ljava/lang/StringBuilder;)V") ∈ lw_tbl := lw_at lw_m8 126 rfl
theorem q1932 : (Jvm.Cond.instanceMethod ({ cls := "HeirCases$Joined", name := "write", desc := "(Ljava/lang/StringBuilder;)V" } : Jvm.MethodName)) ∈ lw_all := lw_g (lw_at lw_m8 127 rfl) rfl
theorem q1933 : (Jvm.Cond.publicMethod ({ cls := "HeirCases$Joined", name := "write", desc := "(Ljava/lang/StringBuilder;)V" } : Jvm.MethodName)) ∈ lw_tbl := lw_at lw_m8 128 rfl
theorem q1934 : (Jvm.Cond.code ({ cls := "HeirCases$Joined", name := "write", desc := "(Ljava/lang/StringBuilder;)V" } : Jvm.MethodName) prog_10_method_4_code (3 : Nat) (Option.none : Option Jvm.ClassFile.FieldType)) ∈ lw_all := lw_g (lw_at lw_m8 129 rfl) rfl
theorem q1935 : (Jvm.Cond.stringRef "HeirCases$Joined" (34 : Nat) "") ∈ lw_tbl := lw_at lw_m8 130 rfl
theorem q1936 : (Jvm.Cond.stringRef "HeirCases$Joined" (36 : Nat) " and ") ∈ lw_tbl := lw_at lw_m8 131 rfl
theorem q1937 : (Jvm.Cond.stringRef "HeirCases$Joined" (38 : Nat) " or ") ∈ lw_tbl := lw_at lw_m8 132 rfl
theorem q1938 : (Jvm.Cond.methodLink "HeirCases$Joined" (40 : Nat) ({ cls := "java/lang/StringBuilder", name := "append", desc := "(Ljava/lang/String;)Ljava/lang/StringBuilder;" } : Jvm.MethodName)) ∈ lw_all := lw_g (lw_at lw_m8 133 rfl) rfl
theorem q1939 : (Jvm.Cond.methodLink "HeirCases$Joined" (46 : Nat) ({ cls := "HeirCases$Joined", name := "tightness", desc := "()I" } : Jvm.MethodName)) ∈ lw_all := lw_g (lw_at lw_m8 134 rfl) rfl
theorem q1940 : (Jvm.Cond.methodLink "HeirCases$Joined" (49 : Nat) ({ cls := "HeirCases$Guard", name := "writeInside", desc := "(LHeirCases$Guard;ILjava/lang/StringBuilder;)V" } : Jvm.MethodName)) ∈ lw_all := lw_g (lw_at lw_m8 135 rfl) rfl
theorem q2709 : (Jvm.Cond.selects "HeirCases$Joined" ({ cls := "HeirCases$Joined", name := "tightness", desc := "()I" } : Jvm.MethodName) ({ cls := "HeirCases$Joined", name := "tightness", desc := "()I" } : Jvm.MethodName)) ∈ lw_all := lw_g (lw_at lw_m11 184 rfl) rfl
theorem q2728 : (Jvm.Cond.castable "HeirCases$Joined" "java/lang/Object") ∈ lw_tbl := lw_at lw_m11 203 rfl
theorem in_X8 : ∀ w ∈ wsX80, w ∈ lw_all := lw_in wsX80 [1035, 1037] (by decide +kernel) (by decide +kernel)
/-! HeirCases$Rule -/
set_option maxRecDepth 100000
def RX9 : String := "HeirCases$Rule"
def TX9 : u_T := fun k => match k with
  | 0 => ("HeirCases$Rule", "guard", "LHeirCases$Guard;", true)
  | 1 => ("HeirCases$Rule", "factors", "I", true)
  | 2 => ("HeirCases$Rule", "shares", "[I", true)
  | _ => ("HeirCases$Rule", "over", "I", false)
def tyX9 : Nat → FieldType := fun k => match k with
  | 0 => .object "HeirCases$Guard"
  | 1 => .int
  | 2 => .array .int
  | _ => .int
abbrev wsX90 : List Cond := u_ws RX9 TX9 4
theorem nmX9 : ∀ a, a < 4 → ∀ b, b < 4 → a ≠ b → (TX9 a).2.1 ≠ (TX9 b).2.1 := by decide +kernel
theorem tyX9_ok : ∀ k, k < 4 → parseFieldDescriptor (TX9 k).2.2.1 = some (tyX9 k) := by decide +kernel
abbrev cX9_init : ByteArray := prog_13_method_1_code
def yX9_init : MethodName := ⟨RX9, "<init>", "(LHeirCases$Guard;I)V"⟩
def dkwX9_init_0 : List UInt8 := [42, 183, 0, 3, 42, 7, 188, 10, 181, 0, 9, 42, 43, 181, 0, 15, 42, 28, 181, 0, 19, 177]
abbrev dktX9_init_0 : List UInt8 := dkwX9_init_0 ++ []
theorem dksX9_init_0 : cX9_init.data.toList.drop 0 = dktX9_init_0 := by decide +kernel
theorem dX9_init_0 : decode cX9_init 0 = .ok (.aload_n 0, 1) := dk_42 (dk_at dksX9_init_0 0 rfl rfl)
theorem dX9_init_1 : decode cX9_init 1 = .ok (.invokespecial 3, 3) := dk_183 0 3 (dk_at dksX9_init_0 1 rfl rfl)
theorem dX9_init_4 : decode cX9_init 4 = .ok (.aload_n 0, 1) := dk_42 (dk_at dksX9_init_0 4 rfl rfl)
theorem dX9_init_5 : decode cX9_init 5 = .ok (.iconst 4, 1) := dk_7 (dk_at dksX9_init_0 5 rfl rfl)
theorem dX9_init_6 : decode cX9_init 6 = .ok (.newarray .int, 2) := dk_188_10 (dk_at dksX9_init_0 6 rfl rfl)
theorem dX9_init_8 : decode cX9_init 8 = .ok (.putfield 9, 3) := dk_181 0 9 (dk_at dksX9_init_0 8 rfl rfl)
theorem dX9_init_11 : decode cX9_init 11 = .ok (.aload_n 0, 1) := dk_42 (dk_at dksX9_init_0 11 rfl rfl)
theorem dX9_init_12 : decode cX9_init 12 = .ok (.aload_n 1, 1) := dk_43 (dk_at dksX9_init_0 12 rfl rfl)
theorem dX9_init_13 : decode cX9_init 13 = .ok (.putfield 15, 3) := dk_181 0 15 (dk_at dksX9_init_0 13 rfl rfl)
theorem dX9_init_16 : decode cX9_init 16 = .ok (.aload_n 0, 1) := dk_42 (dk_at dksX9_init_0 16 rfl rfl)
theorem dX9_init_17 : decode cX9_init 17 = .ok (.iload_n 2, 1) := dk_28 (dk_at dksX9_init_0 17 rfl rfl)
theorem dX9_init_18 : decode cX9_init 18 = .ok (.putfield 19, 3) := dk_181 0 19 (dk_at dksX9_init_0 18 rfl rfl)
theorem dX9_init_21 : decode cX9_init 21 = .ok (.return_, 1) := dk_177 (dk_at dksX9_init_0 21 rfl rfl)
abbrev cX9_sharesTogether : ByteArray := prog_13_method_2_code
def yX9_sharesTogether : MethodName := ⟨RX9, "sharesTogether", "()I"⟩
def dkwX9_sharesTogether_1 : List UInt8 := [27, 172]
abbrev dktX9_sharesTogether_1 : List UInt8 := dkwX9_sharesTogether_1 ++ []
def dkwX9_sharesTogether_0 : List UInt8 := [3, 60, 3, 61, 28, 7, 162, 0, 18, 27, 42, 180, 0, 9, 28, 46, 96, 60, 132, 2, 1, 167, 255, 239]
abbrev dktX9_sharesTogether_0 : List UInt8 := dkwX9_sharesTogether_0 ++ dktX9_sharesTogether_1
theorem dksX9_sharesTogether_0 : cX9_sharesTogether.data.toList.drop 0 = dktX9_sharesTogether_0 := by decide +kernel
theorem dksX9_sharesTogether_1 : cX9_sharesTogether.data.toList.drop 24 = dktX9_sharesTogether_1 := dk_seg dksX9_sharesTogether_0 24 rfl rfl
theorem dX9_sharesTogether_0 : decode cX9_sharesTogether 0 = .ok (.iconst 0, 1) := dk_3 (dk_at dksX9_sharesTogether_0 0 rfl rfl)
theorem dX9_sharesTogether_1 : decode cX9_sharesTogether 1 = .ok (.istore_n 1, 1) := dk_60 (dk_at dksX9_sharesTogether_0 1 rfl rfl)
theorem dX9_sharesTogether_2 : decode cX9_sharesTogether 2 = .ok (.iconst 0, 1) := dk_3 (dk_at dksX9_sharesTogether_0 2 rfl rfl)
theorem dX9_sharesTogether_3 : decode cX9_sharesTogether 3 = .ok (.istore_n 2, 1) := dk_61 (dk_at dksX9_sharesTogether_0 3 rfl rfl)
theorem dX9_sharesTogether_4 : decode cX9_sharesTogether 4 = .ok (.iload_n 2, 1) := dk_28 (dk_at dksX9_sharesTogether_0 4 rfl rfl)
theorem dX9_sharesTogether_5 : decode cX9_sharesTogether 5 = .ok (.iconst 4, 1) := dk_7 (dk_at dksX9_sharesTogether_0 5 rfl rfl)
theorem dX9_sharesTogether_6 : decode cX9_sharesTogether 6 = .ok (.if_icmp .ge 18, 3) := dk_162 0 18 (dk_at dksX9_sharesTogether_0 6 rfl rfl)
theorem dX9_sharesTogether_9 : decode cX9_sharesTogether 9 = .ok (.iload_n 1, 1) := dk_27 (dk_at dksX9_sharesTogether_0 9 rfl rfl)
theorem dX9_sharesTogether_10 : decode cX9_sharesTogether 10 = .ok (.aload_n 0, 1) := dk_42 (dk_at dksX9_sharesTogether_0 10 rfl rfl)
theorem dX9_sharesTogether_11 : decode cX9_sharesTogether 11 = .ok (.getfield 9, 3) := dk_180 0 9 (dk_at dksX9_sharesTogether_0 11 rfl rfl)
theorem dX9_sharesTogether_14 : decode cX9_sharesTogether 14 = .ok (.iload_n 2, 1) := dk_28 (dk_at dksX9_sharesTogether_0 14 rfl rfl)
theorem dX9_sharesTogether_15 : decode cX9_sharesTogether 15 = .ok (.iaload, 1) := dk_46 (dk_at dksX9_sharesTogether_0 15 rfl rfl)
theorem dX9_sharesTogether_16 : decode cX9_sharesTogether 16 = .ok (.iadd, 1) := dk_96 (dk_at dksX9_sharesTogether_0 16 rfl rfl)
theorem dX9_sharesTogether_17 : decode cX9_sharesTogether 17 = .ok (.istore_n 1, 1) := dk_60 (dk_at dksX9_sharesTogether_0 17 rfl rfl)
theorem dX9_sharesTogether_18 : decode cX9_sharesTogether 18 = .ok (.iinc 2 1, 3) := dk_132 2 1 (dk_at dksX9_sharesTogether_0 18 rfl rfl)
theorem dX9_sharesTogether_21 : decode cX9_sharesTogether 21 = .ok (.goto (-17), 3) := dk_167 255 239 (dk_at dksX9_sharesTogether_0 21 rfl rfl)
theorem dX9_sharesTogether_24 : decode cX9_sharesTogether 24 = .ok (.iload_n 1, 1) := dk_27 (dk_at dksX9_sharesTogether_1 0 rfl rfl)
theorem dX9_sharesTogether_25 : decode cX9_sharesTogether 25 = .ok (.ireturn, 1) := dk_172 (dk_at dksX9_sharesTogether_1 1 rfl rfl)
abbrev cX9_givesLike : ByteArray := prog_13_method_3_code
def yX9_givesLike : MethodName := ⟨RX9, "givesLike", "(LHeirCases$Rule;)Z"⟩
def dkwX9_givesLike_1 : List UInt8 := [160, 0, 7, 4, 167, 0, 4, 3, 126, 61, 132, 3, 1, 167, 255, 225, 28, 172]
abbrev dktX9_givesLike_1 : List UInt8 := dkwX9_givesLike_1 ++ []
def dkwX9_givesLike_0 : List UInt8 := [4, 61, 3, 62, 29, 7, 162, 0, 32, 28, 42, 180, 0, 9, 29, 46, 43, 180, 0, 9, 29, 46]
abbrev dktX9_givesLike_0 : List UInt8 := dkwX9_givesLike_0 ++ dktX9_givesLike_1
theorem dksX9_givesLike_0 : cX9_givesLike.data.toList.drop 0 = dktX9_givesLike_0 := by decide +kernel
theorem dksX9_givesLike_1 : cX9_givesLike.data.toList.drop 22 = dktX9_givesLike_1 := dk_seg dksX9_givesLike_0 22 rfl rfl
theorem dX9_givesLike_0 : decode cX9_givesLike 0 = .ok (.iconst 1, 1) := dk_4 (dk_at dksX9_givesLike_0 0 rfl rfl)
theorem dX9_givesLike_1 : decode cX9_givesLike 1 = .ok (.istore_n 2, 1) := dk_61 (dk_at dksX9_givesLike_0 1 rfl rfl)
theorem dX9_givesLike_2 : decode cX9_givesLike 2 = .ok (.iconst 0, 1) := dk_3 (dk_at dksX9_givesLike_0 2 rfl rfl)
theorem dX9_givesLike_3 : decode cX9_givesLike 3 = .ok (.istore_n 3, 1) := dk_62 (dk_at dksX9_givesLike_0 3 rfl rfl)
theorem dX9_givesLike_4 : decode cX9_givesLike 4 = .ok (.iload_n 3, 1) := dk_29 (dk_at dksX9_givesLike_0 4 rfl rfl)
theorem dX9_givesLike_5 : decode cX9_givesLike 5 = .ok (.iconst 4, 1) := dk_7 (dk_at dksX9_givesLike_0 5 rfl rfl)
theorem dX9_givesLike_6 : decode cX9_givesLike 6 = .ok (.if_icmp .ge 32, 3) := dk_162 0 32 (dk_at dksX9_givesLike_0 6 rfl rfl)
theorem dX9_givesLike_9 : decode cX9_givesLike 9 = .ok (.iload_n 2, 1) := dk_28 (dk_at dksX9_givesLike_0 9 rfl rfl)
theorem dX9_givesLike_10 : decode cX9_givesLike 10 = .ok (.aload_n 0, 1) := dk_42 (dk_at dksX9_givesLike_0 10 rfl rfl)
theorem dX9_givesLike_11 : decode cX9_givesLike 11 = .ok (.getfield 9, 3) := dk_180 0 9 (dk_at dksX9_givesLike_0 11 rfl rfl)
theorem dX9_givesLike_14 : decode cX9_givesLike 14 = .ok (.iload_n 3, 1) := dk_29 (dk_at dksX9_givesLike_0 14 rfl rfl)
theorem dX9_givesLike_15 : decode cX9_givesLike 15 = .ok (.iaload, 1) := dk_46 (dk_at dksX9_givesLike_0 15 rfl rfl)
theorem dX9_givesLike_16 : decode cX9_givesLike 16 = .ok (.aload_n 1, 1) := dk_43 (dk_at dksX9_givesLike_0 16 rfl rfl)
theorem dX9_givesLike_17 : decode cX9_givesLike 17 = .ok (.getfield 9, 3) := dk_180 0 9 (dk_at dksX9_givesLike_0 17 rfl rfl)
theorem dX9_givesLike_20 : decode cX9_givesLike 20 = .ok (.iload_n 3, 1) := dk_29 (dk_at dksX9_givesLike_0 20 rfl rfl)
theorem dX9_givesLike_21 : decode cX9_givesLike 21 = .ok (.iaload, 1) := dk_46 (dk_at dksX9_givesLike_0 21 rfl rfl)
theorem dX9_givesLike_22 : decode cX9_givesLike 22 = .ok (.if_icmp .ne 7, 3) := dk_160 0 7 (dk_at dksX9_givesLike_1 0 rfl rfl)
theorem dX9_givesLike_25 : decode cX9_givesLike 25 = .ok (.iconst 1, 1) := dk_4 (dk_at dksX9_givesLike_1 3 rfl rfl)
theorem dX9_givesLike_26 : decode cX9_givesLike 26 = .ok (.goto 4, 3) := dk_167 0 4 (dk_at dksX9_givesLike_1 4 rfl rfl)
theorem dX9_givesLike_29 : decode cX9_givesLike 29 = .ok (.iconst 0, 1) := dk_3 (dk_at dksX9_givesLike_1 7 rfl rfl)
theorem dX9_givesLike_30 : decode cX9_givesLike 30 = .ok (.iand, 1) := dk_126 (dk_at dksX9_givesLike_1 8 rfl rfl)
theorem dX9_givesLike_31 : decode cX9_givesLike 31 = .ok (.istore_n 2, 1) := dk_61 (dk_at dksX9_givesLike_1 9 rfl rfl)
theorem dX9_givesLike_32 : decode cX9_givesLike 32 = .ok (.iinc 3 1, 3) := dk_132 3 1 (dk_at dksX9_givesLike_1 10 rfl rfl)
theorem dX9_givesLike_35 : decode cX9_givesLike 35 = .ok (.goto (-31), 3) := dk_167 255 225 (dk_at dksX9_givesLike_1 13 rfl rfl)
theorem dX9_givesLike_38 : decode cX9_givesLike 38 = .ok (.iload_n 2, 1) := dk_28 (dk_at dksX9_givesLike_1 16 rfl rfl)
theorem dX9_givesLike_39 : decode cX9_givesLike 39 = .ok (.ireturn, 1) := dk_172 (dk_at dksX9_givesLike_1 17 rfl rfl)
abbrev cX9_duplicate : ByteArray := prog_13_method_7_code
def yX9_duplicate : MethodName := ⟨RX9, "duplicate", "()LHeirCases$Rule;"⟩
def dkwX9_duplicate_1 : List UInt8 := [180, 0, 9, 3, 7, 184, 0, 33, 43, 42, 180, 0, 23, 181, 0, 23, 43, 176]
abbrev dktX9_duplicate_1 : List UInt8 := dkwX9_duplicate_1 ++ []
def dkwX9_duplicate_0 : List UInt8 := [187, 0, 10, 89, 42, 180, 0, 15, 42, 180, 0, 19, 183, 0, 30, 76, 42, 180, 0, 9, 3, 43]
abbrev dktX9_duplicate_0 : List UInt8 := dkwX9_duplicate_0 ++ dktX9_duplicate_1
theorem dksX9_duplicate_0 : cX9_duplicate.data.toList.drop 0 = dktX9_duplicate_0 := by decide +kernel
theorem dksX9_duplicate_1 : cX9_duplicate.data.toList.drop 22 = dktX9_duplicate_1 := dk_seg dksX9_duplicate_0 22 rfl rfl
theorem dX9_duplicate_0 : decode cX9_duplicate 0 = .ok (.new 10, 3) := dk_187 0 10 (dk_at dksX9_duplicate_0 0 rfl rfl)
theorem dX9_duplicate_3 : decode cX9_duplicate 3 = .ok (.dup, 1) := dk_89 (dk_at dksX9_duplicate_0 3 rfl rfl)
theorem dX9_duplicate_4 : decode cX9_duplicate 4 = .ok (.aload_n 0, 1) := dk_42 (dk_at dksX9_duplicate_0 4 rfl rfl)
theorem dX9_duplicate_5 : decode cX9_duplicate 5 = .ok (.getfield 15, 3) := dk_180 0 15 (dk_at dksX9_duplicate_0 5 rfl rfl)
theorem dX9_duplicate_8 : decode cX9_duplicate 8 = .ok (.aload_n 0, 1) := dk_42 (dk_at dksX9_duplicate_0 8 rfl rfl)
theorem dX9_duplicate_9 : decode cX9_duplicate 9 = .ok (.getfield 19, 3) := dk_180 0 19 (dk_at dksX9_duplicate_0 9 rfl rfl)
theorem dX9_duplicate_12 : decode cX9_duplicate 12 = .ok (.invokespecial 30, 3) := dk_183 0 30 (dk_at dksX9_duplicate_0 12 rfl rfl)
theorem dX9_duplicate_15 : decode cX9_duplicate 15 = .ok (.astore_n 1, 1) := dk_76 (dk_at dksX9_duplicate_0 15 rfl rfl)
theorem dX9_duplicate_16 : decode cX9_duplicate 16 = .ok (.aload_n 0, 1) := dk_42 (dk_at dksX9_duplicate_0 16 rfl rfl)
theorem dX9_duplicate_17 : decode cX9_duplicate 17 = .ok (.getfield 9, 3) := dk_180 0 9 (dk_at dksX9_duplicate_0 17 rfl rfl)
theorem dX9_duplicate_20 : decode cX9_duplicate 20 = .ok (.iconst 0, 1) := dk_3 (dk_at dksX9_duplicate_0 20 rfl rfl)
theorem dX9_duplicate_21 : decode cX9_duplicate 21 = .ok (.aload_n 1, 1) := dk_43 (dk_at dksX9_duplicate_0 21 rfl rfl)
theorem dX9_duplicate_22 : decode cX9_duplicate 22 = .ok (.getfield 9, 3) := dk_180 0 9 (dk_at dksX9_duplicate_1 0 rfl rfl)
theorem dX9_duplicate_25 : decode cX9_duplicate 25 = .ok (.iconst 0, 1) := dk_3 (dk_at dksX9_duplicate_1 3 rfl rfl)
theorem dX9_duplicate_26 : decode cX9_duplicate 26 = .ok (.iconst 4, 1) := dk_7 (dk_at dksX9_duplicate_1 4 rfl rfl)
theorem dX9_duplicate_27 : decode cX9_duplicate 27 = .ok (.invokestatic 33, 3) := dk_184 0 33 (dk_at dksX9_duplicate_1 5 rfl rfl)
theorem dX9_duplicate_30 : decode cX9_duplicate 30 = .ok (.aload_n 1, 1) := dk_43 (dk_at dksX9_duplicate_1 8 rfl rfl)
theorem dX9_duplicate_31 : decode cX9_duplicate 31 = .ok (.aload_n 0, 1) := dk_42 (dk_at dksX9_duplicate_1 9 rfl rfl)
theorem dX9_duplicate_32 : decode cX9_duplicate 32 = .ok (.getfield 23, 3) := dk_180 0 23 (dk_at dksX9_duplicate_1 10 rfl rfl)
theorem dX9_duplicate_35 : decode cX9_duplicate 35 = .ok (.putfield 23, 3) := dk_181 0 23 (dk_at dksX9_duplicate_1 13 rfl rfl)
theorem dX9_duplicate_38 : decode cX9_duplicate 38 = .ok (.aload_n 1, 1) := dk_43 (dk_at dksX9_duplicate_1 16 rfl rfl)
theorem dX9_duplicate_39 : decode cX9_duplicate 39 = .ok (.areturn, 1) := dk_176 (dk_at dksX9_duplicate_1 17 rfl rfl)
abbrev cX9_isOver : ByteArray := prog_13_method_4_code
def yX9_isOver : MethodName := ⟨RX9, "isOver", "(I)Z"⟩
def dkwX9_isOver_0 : List UInt8 := [42, 180, 0, 23, 27, 122, 4, 126, 4, 160, 0, 7, 4, 167, 0, 4, 3, 172]
abbrev dktX9_isOver_0 : List UInt8 := dkwX9_isOver_0 ++ []
theorem dksX9_isOver_0 : cX9_isOver.data.toList.drop 0 = dktX9_isOver_0 := by decide +kernel
theorem dX9_isOver_0 : decode cX9_isOver 0 = .ok (.aload_n 0, 1) := dk_42 (dk_at dksX9_isOver_0 0 rfl rfl)
theorem dX9_isOver_1 : decode cX9_isOver 1 = .ok (.getfield 23, 3) := dk_180 0 23 (dk_at dksX9_isOver_0 1 rfl rfl)
theorem dX9_isOver_4 : decode cX9_isOver 4 = .ok (.iload_n 1, 1) := dk_27 (dk_at dksX9_isOver_0 4 rfl rfl)
theorem dX9_isOver_5 : decode cX9_isOver 5 = .ok (.ishr, 1) := dk_122 (dk_at dksX9_isOver_0 5 rfl rfl)
theorem dX9_isOver_6 : decode cX9_isOver 6 = .ok (.iconst 1, 1) := dk_4 (dk_at dksX9_isOver_0 6 rfl rfl)
theorem dX9_isOver_7 : decode cX9_isOver 7 = .ok (.iand, 1) := dk_126 (dk_at dksX9_isOver_0 7 rfl rfl)
theorem dX9_isOver_8 : decode cX9_isOver 8 = .ok (.iconst 1, 1) := dk_4 (dk_at dksX9_isOver_0 8 rfl rfl)
theorem dX9_isOver_9 : decode cX9_isOver 9 = .ok (.if_icmp .ne 7, 3) := dk_160 0 7 (dk_at dksX9_isOver_0 9 rfl rfl)
theorem dX9_isOver_12 : decode cX9_isOver 12 = .ok (.iconst 1, 1) := dk_4 (dk_at dksX9_isOver_0 12 rfl rfl)
theorem dX9_isOver_13 : decode cX9_isOver 13 = .ok (.goto 4, 3) := dk_167 0 4 (dk_at dksX9_isOver_0 13 rfl rfl)
theorem dX9_isOver_16 : decode cX9_isOver 16 = .ok (.iconst 0, 1) := dk_3 (dk_at dksX9_isOver_0 16 rfl rfl)
theorem dX9_isOver_17 : decode cX9_isOver 17 = .ok (.ireturn, 1) := dk_172 (dk_at dksX9_isOver_0 17 rfl rfl)
abbrev cX9_below : ByteArray := prog_13_method_6_code
def yX9_below : MethodName := ⟨RX9, "below", "(I)I"⟩
def dkwX9_below_0 : List UInt8 := [17, 108, 72, 42, 180, 0, 9, 27, 46, 17, 108, 72, 184, 0, 26, 108, 172]
abbrev dktX9_below_0 : List UInt8 := dkwX9_below_0 ++ []
theorem dksX9_below_0 : cX9_below.data.toList.drop 0 = dktX9_below_0 := by decide +kernel
theorem dX9_below_0 : decode cX9_below 0 = .ok (.sipush 27720, 3) := dk_17 108 72 (dk_at dksX9_below_0 0 rfl rfl)
theorem dX9_below_3 : decode cX9_below 3 = .ok (.aload_n 0, 1) := dk_42 (dk_at dksX9_below_0 3 rfl rfl)
theorem dX9_below_4 : decode cX9_below 4 = .ok (.getfield 9, 3) := dk_180 0 9 (dk_at dksX9_below_0 4 rfl rfl)
theorem dX9_below_7 : decode cX9_below 7 = .ok (.iload_n 1, 1) := dk_27 (dk_at dksX9_below_0 7 rfl rfl)
theorem dX9_below_8 : decode cX9_below 8 = .ok (.iaload, 1) := dk_46 (dk_at dksX9_below_0 8 rfl rfl)
theorem dX9_below_9 : decode cX9_below 9 = .ok (.sipush 27720, 3) := dk_17 108 72 (dk_at dksX9_below_0 9 rfl rfl)
theorem dX9_below_12 : decode cX9_below 12 = .ok (.invokestatic 26, 3) := dk_184 0 26 (dk_at dksX9_below_0 12 rfl rfl)
theorem dX9_below_15 : decode cX9_below 15 = .ok (.idiv, 1) := dk_108 (dk_at dksX9_below_0 15 rfl rfl)
theorem dX9_below_16 : decode cX9_below 16 = .ok (.ireturn, 1) := dk_172 (dk_at dksX9_below_0 16 rfl rfl)
abbrev cX9_above : ByteArray := prog_13_method_5_code
def yX9_above : MethodName := ⟨RX9, "above", "(I)I"⟩
def dkwX9_above_0 : List UInt8 := [42, 180, 0, 9, 27, 46, 42, 180, 0, 9, 27, 46, 17, 108, 72, 184, 0, 26, 108, 172]
abbrev dktX9_above_0 : List UInt8 := dkwX9_above_0 ++ []
theorem dksX9_above_0 : cX9_above.data.toList.drop 0 = dktX9_above_0 := by decide +kernel
theorem dX9_above_0 : decode cX9_above 0 = .ok (.aload_n 0, 1) := dk_42 (dk_at dksX9_above_0 0 rfl rfl)
theorem dX9_above_1 : decode cX9_above 1 = .ok (.getfield 9, 3) := dk_180 0 9 (dk_at dksX9_above_0 1 rfl rfl)
theorem dX9_above_4 : decode cX9_above 4 = .ok (.iload_n 1, 1) := dk_27 (dk_at dksX9_above_0 4 rfl rfl)
theorem dX9_above_5 : decode cX9_above 5 = .ok (.iaload, 1) := dk_46 (dk_at dksX9_above_0 5 rfl rfl)
theorem dX9_above_6 : decode cX9_above 6 = .ok (.aload_n 0, 1) := dk_42 (dk_at dksX9_above_0 6 rfl rfl)
theorem dX9_above_7 : decode cX9_above 7 = .ok (.getfield 9, 3) := dk_180 0 9 (dk_at dksX9_above_0 7 rfl rfl)
theorem dX9_above_10 : decode cX9_above 10 = .ok (.iload_n 1, 1) := dk_27 (dk_at dksX9_above_0 10 rfl rfl)
theorem dX9_above_11 : decode cX9_above 11 = .ok (.iaload, 1) := dk_46 (dk_at dksX9_above_0 11 rfl rfl)
theorem dX9_above_12 : decode cX9_above 12 = .ok (.sipush 27720, 3) := dk_17 108 72 (dk_at dksX9_above_0 12 rfl rfl)
theorem dX9_above_15 : decode cX9_above 15 = .ok (.invokestatic 26, 3) := dk_184 0 26 (dk_at dksX9_above_0 15 rfl rfl)
theorem dX9_above_18 : decode cX9_above 18 = .ok (.idiv, 1) := dk_108 (dk_at dksX9_above_0 18 rfl rfl)
theorem dX9_above_19 : decode cX9_above 19 = .ok (.ireturn, 1) := dk_172 (dk_at dksX9_above_0 19 rfl rfl)
theorem q157 : (Jvm.Cond.initialized "HeirCases$Rule") ∈ lw_all := lw_g (lw_at lw_m1 32 rfl) rfl
theorem q1071 : (Jvm.Cond.selects "HeirCases$Rule" ({ cls := "java/lang/Object", name := "getClass", desc := "()Ljava/lang/Class;" } : Jvm.MethodName) ({ cls := "java/lang/Object", name := "getClass", desc := "()Ljava/lang/Class;" } : Jvm.MethodName)) ∈ lw_all := lw_g (lw_at lw_m4 226 rfl) rfl
theorem q1096 : (Jvm.Cond.instantiable "HeirCases$Rule" (4 : Nat)) ∈ lw_all := lw_g (lw_at lw_m5 11 rfl) rfl
theorem q1098 : (Jvm.Cond.instanceMethod ({ cls := "HeirCases$Rule", name := "<init>", desc := "(LHeirCases$Guard;I)V" } : Jvm.MethodName)) ∈ lw_all := lw_g (lw_at lw_m5 13 rfl) rfl
theorem q1099 : (Jvm.Cond.code ({ cls := "HeirCases$Rule", name := "<init>", desc := "(LHeirCases$Guard;I)V" } : Jvm.MethodName) prog_13_method_1_code (3 : Nat) (Option.none : Option Jvm.ClassFile.FieldType)) ∈ lw_all := lw_g (lw_at lw_m5 14 rfl) rfl
theorem q1100 : (Jvm.Cond.methodLink "HeirCases$Rule" (3 : Nat) ({ cls := "java/lang/Object", name := "<init>", desc := "()V" } : Jvm.MethodName)) ∈ lw_all := lw_g (lw_at lw_m5 15 rfl) rfl
theorem q1101 : (Jvm.Cond.fieldLink "HeirCases$Rule" (15 : Nat) "HeirCases$Rule" "guard" "LHeirCases$Guard;") ∈ lw_all := lw_g (lw_at lw_m5 16 rfl) rfl
theorem q1104 : (Jvm.Cond.fieldLink "HeirCases$Rule" (19 : Nat) "HeirCases$Rule" "factors" "I") ∈ lw_all := lw_g (lw_at lw_m5 19 rfl) rfl
theorem q1106 : (Jvm.Cond.fieldLink "HeirCases$Rule" (9 : Nat) "HeirCases$Rule" "shares" "[I") ∈ lw_all := lw_g (lw_at lw_m5 21 rfl) rfl
theorem q1109 : (Jvm.Cond.fieldLink "HeirCases$Rule" (23 : Nat) "HeirCases$Rule" "over" "I") ∈ lw_all := lw_g (lw_at lw_m5 24 rfl) rfl
theorem q1113 : (Jvm.Cond.laysFinal "HeirCases$Rule" "HeirCases$Rule" "guard" "LHeirCases$Guard;") ∈ lw_all := lw_g (lw_at lw_m5 28 rfl) rfl
theorem q1114 : (Jvm.Cond.soleField "HeirCases$Rule" "guard") ∈ lw_all := lw_g (lw_at lw_m5 29 rfl) rfl
theorem q1115 : (Jvm.Cond.laysFinal "HeirCases$Rule" "HeirCases$Rule" "factors" "I") ∈ lw_all := lw_g (lw_at lw_m5 30 rfl) rfl
theorem q1116 : (Jvm.Cond.soleField "HeirCases$Rule" "factors") ∈ lw_all := lw_g (lw_at lw_m5 31 rfl) rfl
theorem q1117 : (Jvm.Cond.laysFinal "HeirCases$Rule" "HeirCases$Rule" "shares" "[I") ∈ lw_all := lw_g (lw_at lw_m5 32 rfl) rfl
theorem q1118 : (Jvm.Cond.soleField "HeirCases$Rule" "shares") ∈ lw_all := lw_g (lw_at lw_m5 33 rfl) rfl
theorem q1119 : (Jvm.Cond.lays "HeirCases$Rule" "HeirCases$Rule" "over" "I") ∈ lw_all := lw_g (lw_at lw_m5 34 rfl) rfl
theorem q1120 : (Jvm.Cond.soleField "HeirCases$Rule" "over") ∈ lw_all := lw_g (lw_at lw_m5 35 rfl) rfl
theorem q1121 : (Jvm.Cond.superclass "HeirCases$Rule" "java/lang/Object") ∈ lw_all := lw_g (lw_at lw_m5 36 rfl) rfl
theorem q1141 : (Jvm.Cond.instanceMethod ({ cls := "HeirCases$Rule", name := "sharesTogether", desc := "()I" } : Jvm.MethodName)) ∈ lw_all := lw_g (lw_at lw_m5 56 rfl) rfl
theorem q1142 : (Jvm.Cond.selects "HeirCases$Rule" ({ cls := "HeirCases$Rule", name := "sharesTogether", desc := "()I" } : Jvm.MethodName) ({ cls := "HeirCases$Rule", name := "sharesTogether", desc := "()I" } : Jvm.MethodName)) ∈ lw_all := lw_g (lw_at lw_m5 57 rfl) rfl
theorem q1143 : (Jvm.Cond.code ({ cls := "HeirCases$Rule", name := "sharesTogether", desc := "()I" } : Jvm.MethodName) prog_13_method_2_code (3 : Nat) (Option.some Jvm.ClassFile.FieldType.int)) ∈ lw_all := lw_g (lw_at lw_m5 58 rfl) rfl
theorem q1328 : (Jvm.Cond.instanceMethod ({ cls := "HeirCases$Rule", name := "givesLike", desc := "(LHeirCases$Rule;)Z" } : Jvm.MethodName)) ∈ lw_all := lw_g (lw_at lw_m6 3 rfl) rfl
theorem q1329 : (Jvm.Cond.selects "HeirCases$Rule" ({ cls := "HeirCases$Rule", name := "givesLike", desc := "(LHeirCases$Rule;)Z" } : Jvm.MethodName) ({ cls := "HeirCases$Rule", name := "givesLike", desc := "(LHeirCases$Rule;)Z" } : Jvm.MethodName)) ∈ lw_all := lw_g (lw_at lw_m6 4 rfl) rfl
theorem q1330 : (Jvm.Cond.code ({ cls := "HeirCases$Rule", name := "givesLike", desc := "(LHeirCases$Rule;)Z" } : Jvm.MethodName) prog_13_method_3_code (4 : Nat) (Option.some Jvm.ClassFile.FieldType.boolean)) ∈ lw_all := lw_g (lw_at lw_m6 5 rfl) rfl
theorem q1367 : (Jvm.Cond.instanceMethod ({ cls := "HeirCases$Rule", name := "duplicate", desc := "()LHeirCases$Rule;" } : Jvm.MethodName)) ∈ lw_all := lw_g (lw_at lw_m6 42 rfl) rfl
theorem q1368 : (Jvm.Cond.selects "HeirCases$Rule" ({ cls := "HeirCases$Rule", name := "duplicate", desc := "()LHeirCases$Rule;" } : Jvm.MethodName) ({ cls := "HeirCases$Rule", name := "duplicate", desc := "()LHeirCases$Rule;" } : Jvm.MethodName)) ∈ lw_all := lw_g (lw_at lw_m6 43 rfl) rfl
theorem q1369 : (Jvm.Cond.code ({ cls := "HeirCases$Rule", name := "duplicate", desc := "()LHeirCases$Rule;" } : Jvm.MethodName) prog_13_method_7_code (2 : Nat) (Option.some (Jvm.ClassFile.FieldType.object "HeirCases$Rule"))) ∈ lw_all := lw_g (lw_at lw_m6 44 rfl) rfl
theorem q1370 : (Jvm.Cond.classLink "HeirCases$Rule" (10 : Nat) "HeirCases$Rule") ∈ lw_all := lw_g (lw_at lw_m6 45 rfl) rfl
theorem q1371 : (Jvm.Cond.methodLink "HeirCases$Rule" (30 : Nat) ({ cls := "HeirCases$Rule", name := "<init>", desc := "(LHeirCases$Guard;I)V" } : Jvm.MethodName)) ∈ lw_all := lw_g (lw_at lw_m6 46 rfl) rfl
theorem q1372 : (Jvm.Cond.methodLink "HeirCases$Rule" (33 : Nat) ({ cls := "java/lang/System", name := "arraycopy", desc := "(Ljava/lang/Object;ILjava/lang/Object;II)V" } : Jvm.MethodName)) ∈ lw_all := lw_g (lw_at lw_m6 47 rfl) rfl
theorem q1605 : (Jvm.Cond.instanceMethod ({ cls := "HeirCases$Rule", name := "isOver", desc := "(I)Z" } : Jvm.MethodName)) ∈ lw_all := lw_g (lw_at lw_m7 40 rfl) rfl
theorem q1606 : (Jvm.Cond.selects "HeirCases$Rule" ({ cls := "HeirCases$Rule", name := "isOver", desc := "(I)Z" } : Jvm.MethodName) ({ cls := "HeirCases$Rule", name := "isOver", desc := "(I)Z" } : Jvm.MethodName)) ∈ lw_all := lw_g (lw_at lw_m7 41 rfl) rfl
theorem q1607 : (Jvm.Cond.code ({ cls := "HeirCases$Rule", name := "isOver", desc := "(I)Z" } : Jvm.MethodName) prog_13_method_4_code (2 : Nat) (Option.some Jvm.ClassFile.FieldType.boolean)) ∈ lw_all := lw_g (lw_at lw_m7 42 rfl) rfl
theorem q1613 : (Jvm.Cond.instanceMethod ({ cls := "HeirCases$Rule", name := "below", desc := "(I)I" } : Jvm.MethodName)) ∈ lw_all := lw_g (lw_at lw_m7 48 rfl) rfl
theorem q1614 : (Jvm.Cond.selects "HeirCases$Rule" ({ cls := "HeirCases$Rule", name := "below", desc := "(I)I" } : Jvm.MethodName) ({ cls := "HeirCases$Rule", name := "below", desc := "(I)I" } : Jvm.MethodName)) ∈ lw_all := lw_g (lw_at lw_m7 49 rfl) rfl
theorem q1615 : (Jvm.Cond.code ({ cls := "HeirCases$Rule", name := "below", desc := "(I)I" } : Jvm.MethodName) prog_13_method_6_code (2 : Nat) (Option.some Jvm.ClassFile.FieldType.int)) ∈ lw_all := lw_g (lw_at lw_m7 50 rfl) rfl
theorem q1616 : (Jvm.Cond.methodLinkNest "HeirCases$Rule" (26 : Nat) ({ cls := "HeirCases", name := "divisor", desc := "(II)I" } : Jvm.MethodName) "HeirCases") ∈ lw_tbl := lw_at lw_m7 51 rfl
theorem q1620 : (Jvm.Cond.instanceMethod ({ cls := "HeirCases$Rule", name := "above", desc := "(I)I" } : Jvm.MethodName)) ∈ lw_all := lw_g (lw_at lw_m7 55 rfl) rfl
theorem q1621 : (Jvm.Cond.selects "HeirCases$Rule" ({ cls := "HeirCases$Rule", name := "above", desc := "(I)I" } : Jvm.MethodName) ({ cls := "HeirCases$Rule", name := "above", desc := "(I)I" } : Jvm.MethodName)) ∈ lw_all := lw_g (lw_at lw_m7 56 rfl) rfl
theorem q1622 : (Jvm.Cond.code ({ cls := "HeirCases$Rule", name := "above", desc := "(I)I" } : Jvm.MethodName) prog_13_method_5_code (2 : Nat) (Option.some Jvm.ClassFile.FieldType.int)) ∈ lw_all := lw_g (lw_at lw_m7 57 rfl) rfl
theorem q2729 : (Jvm.Cond.castable "HeirCases$Rule" "java/lang/Object") ∈ lw_tbl := lw_at lw_m11 204 rfl
theorem in_X9 : ∀ w ∈ wsX90, w ∈ lw_all := lw_in wsX90 [1113, 1115, 1117, 1119] (by decide +kernel) (by decide +kernel)
/-! HeirCases$Finding -/
set_option maxRecDepth 100000
def RX11 : String := "HeirCases$Finding"
def TX11 : u_T := fun k => match k with
  | 0 => ("HeirCases$Finding", "row", "[I", true)
  | 1 => ("HeirCases$Finding", "applying", "I", false)
  | 2 => ("HeirCases$Finding", "unbeaten", "I", false)
  | 3 => ("HeirCases$Finding", "verdict", "I", false)
  | _ => ("HeirCases$Finding", "settledBy", "I", false)
def tyX11 : Nat → FieldType := fun k => match k with
  | 0 => .array .int
  | 1 => .int
  | 2 => .int
  | 3 => .int
  | _ => .int
abbrev wsX110 : List Cond := u_ws RX11 TX11 5
theorem nmX11 : ∀ a, a < 5 → ∀ b, b < 5 → a ≠ b → (TX11 a).2.1 ≠ (TX11 b).2.1 := by decide +kernel
theorem tyX11_ok : ∀ k, k < 5 → parseFieldDescriptor (TX11 k).2.2.1 = some (tyX11 k) := by decide +kernel
abbrev cX11_init : ByteArray := prog_8_method_1_code
def yX11_init : MethodName := ⟨RX11, "<init>", "([I)V"⟩
def dkwX11_init_0 : List UInt8 := [42, 183, 0, 3, 42, 2, 181, 0, 9, 42, 43, 181, 0, 15, 177]
abbrev dktX11_init_0 : List UInt8 := dkwX11_init_0 ++ []
theorem dksX11_init_0 : cX11_init.data.toList.drop 0 = dktX11_init_0 := by decide +kernel
theorem dX11_init_0 : decode cX11_init 0 = .ok (.aload_n 0, 1) := dk_42 (dk_at dksX11_init_0 0 rfl rfl)
theorem dX11_init_1 : decode cX11_init 1 = .ok (.invokespecial 3, 3) := dk_183 0 3 (dk_at dksX11_init_0 1 rfl rfl)
theorem dX11_init_4 : decode cX11_init 4 = .ok (.aload_n 0, 1) := dk_42 (dk_at dksX11_init_0 4 rfl rfl)
theorem dX11_init_5 : decode cX11_init 5 = .ok (.iconst (-1), 1) := dk_2 (dk_at dksX11_init_0 5 rfl rfl)
theorem dX11_init_6 : decode cX11_init 6 = .ok (.putfield 9, 3) := dk_181 0 9 (dk_at dksX11_init_0 6 rfl rfl)
theorem dX11_init_9 : decode cX11_init 9 = .ok (.aload_n 0, 1) := dk_42 (dk_at dksX11_init_0 9 rfl rfl)
theorem dX11_init_10 : decode cX11_init 10 = .ok (.aload_n 1, 1) := dk_43 (dk_at dksX11_init_0 10 rfl rfl)
theorem dX11_init_11 : decode cX11_init 11 = .ok (.putfield 15, 3) := dk_181 0 15 (dk_at dksX11_init_0 11 rfl rfl)
theorem dX11_init_14 : decode cX11_init 14 = .ok (.return_, 1) := dk_177 (dk_at dksX11_init_0 14 rfl rfl)
theorem q163 : (Jvm.Cond.initialized "HeirCases$Finding") ∈ lw_all := lw_g (lw_at lw_m1 38 rfl) rfl
theorem q1068 : (Jvm.Cond.selects "HeirCases$Finding" ({ cls := "java/lang/Object", name := "getClass", desc := "()Ljava/lang/Class;" } : Jvm.MethodName) ({ cls := "java/lang/Object", name := "getClass", desc := "()Ljava/lang/Class;" } : Jvm.MethodName)) ∈ lw_all := lw_g (lw_at lw_m4 223 rfl) rfl
theorem q1230 : (Jvm.Cond.instantiable "HeirCases$Finding" (5 : Nat)) ∈ lw_all := lw_g (lw_at lw_m5 145 rfl) rfl
theorem q1236 : (Jvm.Cond.instanceMethod ({ cls := "HeirCases$Finding", name := "<init>", desc := "([I)V" } : Jvm.MethodName)) ∈ lw_all := lw_g (lw_at lw_m5 151 rfl) rfl
theorem q1237 : (Jvm.Cond.code ({ cls := "HeirCases$Finding", name := "<init>", desc := "([I)V" } : Jvm.MethodName) prog_8_method_1_code (2 : Nat) (Option.none : Option Jvm.ClassFile.FieldType)) ∈ lw_all := lw_g (lw_at lw_m5 152 rfl) rfl
theorem q1238 : (Jvm.Cond.methodLink "HeirCases$Finding" (3 : Nat) ({ cls := "java/lang/Object", name := "<init>", desc := "()V" } : Jvm.MethodName)) ∈ lw_all := lw_g (lw_at lw_m5 153 rfl) rfl
theorem q1239 : (Jvm.Cond.fieldLink "HeirCases$Finding" (15 : Nat) "HeirCases$Finding" "row" "[I") ∈ lw_all := lw_g (lw_at lw_m5 154 rfl) rfl
theorem q1248 : (Jvm.Cond.fieldLink "HeirCases$Finding" (9 : Nat) "HeirCases$Finding" "settledBy" "I") ∈ lw_all := lw_g (lw_at lw_m5 163 rfl) rfl
theorem q1251 : (Jvm.Cond.laysFinal "HeirCases$Finding" "HeirCases$Finding" "row" "[I") ∈ lw_all := lw_g (lw_at lw_m5 166 rfl) rfl
theorem q1252 : (Jvm.Cond.soleField "HeirCases$Finding" "row") ∈ lw_all := lw_g (lw_at lw_m5 167 rfl) rfl
theorem q1253 : (Jvm.Cond.lays "HeirCases$Finding" "HeirCases$Finding" "applying" "I") ∈ lw_all := lw_g (lw_at lw_m5 168 rfl) rfl
theorem q1254 : (Jvm.Cond.soleField "HeirCases$Finding" "applying") ∈ lw_all := lw_g (lw_at lw_m5 169 rfl) rfl
theorem q1255 : (Jvm.Cond.lays "HeirCases$Finding" "HeirCases$Finding" "unbeaten" "I") ∈ lw_all := lw_g (lw_at lw_m5 170 rfl) rfl
theorem q1256 : (Jvm.Cond.soleField "HeirCases$Finding" "unbeaten") ∈ lw_all := lw_g (lw_at lw_m5 171 rfl) rfl
theorem q1257 : (Jvm.Cond.lays "HeirCases$Finding" "HeirCases$Finding" "verdict" "I") ∈ lw_all := lw_g (lw_at lw_m5 172 rfl) rfl
theorem q1258 : (Jvm.Cond.soleField "HeirCases$Finding" "verdict") ∈ lw_all := lw_g (lw_at lw_m5 173 rfl) rfl
theorem q1259 : (Jvm.Cond.lays "HeirCases$Finding" "HeirCases$Finding" "settledBy" "I") ∈ lw_all := lw_g (lw_at lw_m5 174 rfl) rfl
theorem q1260 : (Jvm.Cond.soleField "HeirCases$Finding" "settledBy") ∈ lw_all := lw_g (lw_at lw_m5 175 rfl) rfl
theorem q1261 : (Jvm.Cond.superclass "HeirCases$Finding" "java/lang/Object") ∈ lw_all := lw_g (lw_at lw_m5 176 rfl) rfl
theorem q2714 : (Jvm.Cond.castable "HeirCases$Finding" "java/lang/Object") ∈ lw_tbl := lw_at lw_m11 189 rfl
theorem in_X11 : ∀ w ∈ wsX110, w ∈ lw_all := lw_in wsX110 [1251, 1253, 1255, 1257, 1259] (by decide +kernel) (by decide +kernel)
/-! HeirCases$Guard -/
set_option maxRecDepth 100000
def RX12 : String := "HeirCases$Guard"
abbrev cX12_writeInside : ByteArray := prog_9_method_4_code
def yX12_writeInside : MethodName := ⟨RX12, "writeInside", "(LHeirCases$Guard;ILjava/lang/StringBuilder;)V"⟩
def dkwX12_writeInside_2 : List UInt8 := [167, 0, 5, 18, 9, 182, 0, 11, 87, 177]
abbrev dktX12_writeInside_2 : List UInt8 := dkwX12_writeInside_2 ++ []
def dkwX12_writeInside_1 : List UInt8 := [167, 0, 5, 18, 9, 182, 0, 11, 87, 42, 44, 185, 0, 17, 2, 0, 44, 29, 153, 0, 8, 18, 21]
abbrev dktX12_writeInside_1 : List UInt8 := dkwX12_writeInside_1 ++ dktX12_writeInside_2
def dkwX12_writeInside_0 : List UInt8 := [42, 185, 0, 1, 1, 0, 27, 162, 0, 7, 4, 167, 0, 4, 3, 62, 44, 29, 153, 0, 8, 18, 7]
abbrev dktX12_writeInside_0 : List UInt8 := dkwX12_writeInside_0 ++ dktX12_writeInside_1
theorem dksX12_writeInside_0 : cX12_writeInside.data.toList.drop 0 = dktX12_writeInside_0 := by decide +kernel
theorem dksX12_writeInside_1 : cX12_writeInside.data.toList.drop 23 = dktX12_writeInside_1 := dk_seg dksX12_writeInside_0 23 rfl rfl
theorem dksX12_writeInside_2 : cX12_writeInside.data.toList.drop 46 = dktX12_writeInside_2 := dk_seg dksX12_writeInside_1 23 rfl rfl
theorem dX12_writeInside_0 : decode cX12_writeInside 0 = .ok (.aload_n 0, 1) := dk_42 (dk_at dksX12_writeInside_0 0 rfl rfl)
theorem dX12_writeInside_1 : decode cX12_writeInside 1 = .ok (.invokeinterface 1 1, 5) := by decide +kernel
theorem dX12_writeInside_6 : decode cX12_writeInside 6 = .ok (.iload_n 1, 1) := dk_27 (dk_at dksX12_writeInside_0 6 rfl rfl)
theorem dX12_writeInside_7 : decode cX12_writeInside 7 = .ok (.if_icmp .ge 7, 3) := dk_162 0 7 (dk_at dksX12_writeInside_0 7 rfl rfl)
theorem dX12_writeInside_10 : decode cX12_writeInside 10 = .ok (.iconst 1, 1) := dk_4 (dk_at dksX12_writeInside_0 10 rfl rfl)
theorem dX12_writeInside_11 : decode cX12_writeInside 11 = .ok (.goto 4, 3) := dk_167 0 4 (dk_at dksX12_writeInside_0 11 rfl rfl)
theorem dX12_writeInside_14 : decode cX12_writeInside 14 = .ok (.iconst 0, 1) := dk_3 (dk_at dksX12_writeInside_0 14 rfl rfl)
theorem dX12_writeInside_15 : decode cX12_writeInside 15 = .ok (.istore_n 3, 1) := dk_62 (dk_at dksX12_writeInside_0 15 rfl rfl)
theorem dX12_writeInside_16 : decode cX12_writeInside 16 = .ok (.aload_n 2, 1) := dk_44 (dk_at dksX12_writeInside_0 16 rfl rfl)
theorem dX12_writeInside_17 : decode cX12_writeInside 17 = .ok (.iload_n 3, 1) := dk_29 (dk_at dksX12_writeInside_0 17 rfl rfl)
theorem dX12_writeInside_18 : decode cX12_writeInside 18 = .ok (.ifCond .eq 8, 3) := dk_153 0 8 (dk_at dksX12_writeInside_0 18 rfl rfl)
theorem dX12_writeInside_21 : decode cX12_writeInside 21 = .ok (.ldc 7, 2) := dk_18 7 (dk_at dksX12_writeInside_0 21 rfl rfl)
theorem dX12_writeInside_23 : decode cX12_writeInside 23 = .ok (.goto 5, 3) := dk_167 0 5 (dk_at dksX12_writeInside_1 0 rfl rfl)
theorem dX12_writeInside_26 : decode cX12_writeInside 26 = .ok (.ldc 9, 2) := dk_18 9 (dk_at dksX12_writeInside_1 3 rfl rfl)
theorem dX12_writeInside_28 : decode cX12_writeInside 28 = .ok (.invokevirtual 11, 3) := dk_182 0 11 (dk_at dksX12_writeInside_1 5 rfl rfl)
theorem dX12_writeInside_31 : decode cX12_writeInside 31 = .ok (.pop, 1) := dk_87 (dk_at dksX12_writeInside_1 8 rfl rfl)
theorem dX12_writeInside_32 : decode cX12_writeInside 32 = .ok (.aload_n 0, 1) := dk_42 (dk_at dksX12_writeInside_1 9 rfl rfl)
theorem dX12_writeInside_33 : decode cX12_writeInside 33 = .ok (.aload_n 2, 1) := dk_44 (dk_at dksX12_writeInside_1 10 rfl rfl)
theorem dX12_writeInside_34 : decode cX12_writeInside 34 = .ok (.invokeinterface 17 2, 5) := by decide +kernel
theorem dX12_writeInside_39 : decode cX12_writeInside 39 = .ok (.aload_n 2, 1) := dk_44 (dk_at dksX12_writeInside_1 16 rfl rfl)
theorem dX12_writeInside_40 : decode cX12_writeInside 40 = .ok (.iload_n 3, 1) := dk_29 (dk_at dksX12_writeInside_1 17 rfl rfl)
theorem dX12_writeInside_41 : decode cX12_writeInside 41 = .ok (.ifCond .eq 8, 3) := dk_153 0 8 (dk_at dksX12_writeInside_1 18 rfl rfl)
theorem dX12_writeInside_44 : decode cX12_writeInside 44 = .ok (.ldc 21, 2) := dk_18 21 (dk_at dksX12_writeInside_1 21 rfl rfl)
theorem dX12_writeInside_46 : decode cX12_writeInside 46 = .ok (.goto 5, 3) := dk_167 0 5 (dk_at dksX12_writeInside_2 0 rfl rfl)
theorem dX12_writeInside_49 : decode cX12_writeInside 49 = .ok (.ldc 9, 2) := dk_18 9 (dk_at dksX12_writeInside_2 3 rfl rfl)
theorem dX12_writeInside_51 : decode cX12_writeInside 51 = .ok (.invokevirtual 11, 3) := dk_182 0 11 (dk_at dksX12_writeInside_2 5 rfl rfl)
theorem dX12_writeInside_54 : decode cX12_writeInside 54 = .ok (.pop, 1) := dk_87 (dk_at dksX12_writeInside_2 8 rfl rfl)
theorem dX12_writeInside_55 : decode cX12_writeInside 55 = .ok (.return_, 1) := dk_177 (dk_at dksX12_writeInside_2 9 rfl rfl)
abbrev cX12_tightness : ByteArray := prog_9_method_3_code
def yX12_tightness : MethodName := ⟨RX12, "tightness", "()I"⟩
theorem dX12_tightness_0 : decode cX12_tightness 0 = .ok (.iconst 2, 1) := by decide +kernel
theorem dX12_tightness_1 : decode cX12_tightness 1 = .ok (.ireturn, 1) := by decide +kernel
theorem q166 : (Jvm.Cond.initialized "HeirCases$Guard") ∈ lw_all := lw_g (lw_at lw_m1 41 rfl) rfl
theorem q1278 : (Jvm.Cond.interfaceMethod "HeirCases$Guard" "HeirCases$Guard" "holds" "([I)Z") ∈ lw_tbl := lw_at lw_m5 193 rfl
theorem q1279 : (Jvm.Cond.declares ({ cls := "HeirCases$Guard", name := "holds", desc := "([I)Z" } : Jvm.MethodName)) ∈ lw_tbl := lw_at lw_m5 194 rfl
theorem q1882 : (Jvm.Cond.interfaceMethod "HeirCases$Guard" "HeirCases$Guard" "write" "(Ljava/lang/StringBuilder;)V") ∈ lw_tbl := lw_at lw_m8 77 rfl
theorem q1883 : (Jvm.Cond.declares ({ cls := "HeirCases$Guard", name := "write", desc := "(Ljava/lang/StringBuilder;)V" } : Jvm.MethodName)) ∈ lw_tbl := lw_at lw_m8 78 rfl
theorem q1899 : (Jvm.Cond.static ({ cls := "HeirCases$Guard", name := "writeInside", desc := "(LHeirCases$Guard;ILjava/lang/StringBuilder;)V" } : Jvm.MethodName)) ∈ lw_all := lw_g (lw_at lw_m8 94 rfl) rfl
theorem q1900 : (Jvm.Cond.code ({ cls := "HeirCases$Guard", name := "writeInside", desc := "(LHeirCases$Guard;ILjava/lang/StringBuilder;)V" } : Jvm.MethodName) prog_9_method_4_code (4 : Nat) (Option.none : Option Jvm.ClassFile.FieldType)) ∈ lw_all := lw_g (lw_at lw_m8 95 rfl) rfl
theorem q1901 : (Jvm.Cond.interfaceEntry "HeirCases$Guard" (1 : Nat)) ∈ lw_tbl := lw_at lw_m8 96 rfl
theorem q1902 : (Jvm.Cond.methodLink "HeirCases$Guard" (1 : Nat) ({ cls := "HeirCases$Guard", name := "tightness", desc := "()I" } : Jvm.MethodName)) ∈ lw_all := lw_g (lw_at lw_m8 97 rfl) rfl
theorem q1903 : (Jvm.Cond.interfaceMethod "HeirCases$Guard" "HeirCases$Guard" "tightness" "()I") ∈ lw_tbl := lw_at lw_m8 98 rfl
theorem q1904 : (Jvm.Cond.declares ({ cls := "HeirCases$Guard", name := "tightness", desc := "()I" } : Jvm.MethodName)) ∈ lw_tbl := lw_at lw_m8 99 rfl
theorem q1906 : (Jvm.Cond.instanceMethod ({ cls := "HeirCases$Guard", name := "tightness", desc := "()I" } : Jvm.MethodName)) ∈ lw_all := lw_g (lw_at lw_m8 101 rfl) rfl
theorem q1907 : (Jvm.Cond.publicMethod ({ cls := "HeirCases$Guard", name := "tightness", desc := "()I" } : Jvm.MethodName)) ∈ lw_tbl := lw_at lw_m8 102 rfl
theorem q1908 : (Jvm.Cond.code ({ cls := "HeirCases$Guard", name := "tightness", desc := "()I" } : Jvm.MethodName) prog_9_method_3_code (1 : Nat) (Option.some Jvm.ClassFile.FieldType.int)) ∈ lw_all := lw_g (lw_at lw_m8 103 rfl) rfl
theorem q1916 : (Jvm.Cond.stringRef "HeirCases$Guard" (7 : Nat) "( ") ∈ lw_tbl := lw_at lw_m8 111 rfl
theorem q1917 : (Jvm.Cond.stringRef "HeirCases$Guard" (9 : Nat) "") ∈ lw_tbl := lw_at lw_m8 112 rfl
theorem q1918 : (Jvm.Cond.methodLink "HeirCases$Guard" (11 : Nat) ({ cls := "java/lang/StringBuilder", name := "append", desc := "(Ljava/lang/String;)Ljava/lang/StringBuilder;" } : Jvm.MethodName)) ∈ lw_all := lw_g (lw_at lw_m8 113 rfl) rfl
theorem q1919 : (Jvm.Cond.interfaceEntry "HeirCases$Guard" (17 : Nat)) ∈ lw_tbl := lw_at lw_m8 114 rfl
theorem q1920 : (Jvm.Cond.methodLink "HeirCases$Guard" (17 : Nat) ({ cls := "HeirCases$Guard", name := "write", desc := "(Ljava/lang/StringBuilder;)V" } : Jvm.MethodName)) ∈ lw_all := lw_g (lw_at lw_m8 115 rfl) rfl
theorem q1941 : (Jvm.Cond.stringRef "HeirCases$Guard" (21 : Nat) " )") ∈ lw_tbl := lw_at lw_m8 136 rfl
theorem q1302 : (Jvm.Cond.interfaceMethod "HeirCases$Comparing" "HeirCases$Comparing" "is" "(II)Z") ∈ lw_tbl := lw_at lw_m5 217 rfl
set_option maxRecDepth 100000
theorem q1303 : (Jvm.Cond.declares ({ cls := "HeirCases$Comparing", name := "is", desc := "(II)Z" } : Jvm.MethodName)) ∈ lw_tbl := lw_at lw_m5 218 rfl
theorem q1376 : (Jvm.Cond.interfaceMethod "HeirCases$Deed" "HeirCases$Deed" "in" "(LHeirCases$Will;)V") ∈ lw_tbl := lw_at lw_m6 51 rfl
set_option maxRecDepth 100000
theorem q1377 : (Jvm.Cond.declares ({ cls := "HeirCases$Deed", name := "in", desc := "(LHeirCases$Will;)V" } : Jvm.MethodName)) ∈ lw_tbl := lw_at lw_m6 52 rfl
theorem q1404 : (Jvm.Cond.interfaceMethod "HeirCases$OfCase" "HeirCases$OfCase" "of" "(I)I") ∈ lw_tbl := lw_at lw_m6 79 rfl
set_option maxRecDepth 100000
theorem q1405 : (Jvm.Cond.declares ({ cls := "HeirCases$OfCase", name := "of", desc := "(I)I" } : Jvm.MethodName)) ∈ lw_tbl := lw_at lw_m6 80 rfl
theorem q138 : (Jvm.Cond.initialized "HeirCases$Token") ∈ lw_all := lw_g (lw_at lw_m1 13 rfl) rfl
set_option maxRecDepth 100000
theorem q356 : (Jvm.Cond.laysStatic "HeirCases$Token" "END" "LHeirCases$Token;") ∈ lw_tbl := lw_at lw_m1 231 rfl
theorem q683 : (Jvm.Cond.laysStatic "HeirCases$Token" "WORD" "LHeirCases$Token;") ∈ lw_tbl := lw_at lw_m3 78 rfl
theorem q685 : (Jvm.Cond.laysStatic "HeirCases$Token" "INVALID" "LHeirCases$Token;") ∈ lw_tbl := lw_at lw_m3 80 rfl
theorem q687 : (Jvm.Cond.laysStatic "HeirCases$Token" "NUMBER" "LHeirCases$Token;") ∈ lw_tbl := lw_at lw_m3 82 rfl
theorem q735 : (Jvm.Cond.laysStatic "HeirCases$Token" "SIGN" "LHeirCases$Token;") ∈ lw_tbl := lw_at lw_m3 130 rfl
theorem q1072 : (Jvm.Cond.selects "HeirCases$Token" ({ cls := "java/lang/Object", name := "getClass", desc := "()Ljava/lang/Class;" } : Jvm.MethodName) ({ cls := "java/lang/Object", name := "getClass", desc := "()Ljava/lang/Class;" } : Jvm.MethodName)) ∈ lw_all := lw_g (lw_at lw_m4 227 rfl) rfl
theorem q2719 : (Jvm.Cond.castable "HeirCases$Token" "java/lang/Object") ∈ lw_tbl := lw_at lw_m11 194 rfl
theorem q476 : (Jvm.Cond.sameMethod "[B" "java/lang/Object" "clone" "()Ljava/lang/Object;") ∈ lw_all := lw_g (lw_at lw_m2 111 rfl) rfl
set_option maxRecDepth 100000
theorem q479 : (Jvm.Cond.selects "[B" ({ cls := "[B", name := "clone", desc := "()Ljava/lang/Object;" } : Jvm.MethodName) ({ cls := "java/lang/Object", name := "clone", desc := "()Ljava/lang/Object;" } : Jvm.MethodName)) ∈ lw_all := lw_g (lw_at lw_m2 114 rfl) rfl
theorem q480 : (Jvm.Cond.castable "[B" "java/lang/Cloneable") ∈ lw_tbl := lw_at lw_m2 115 rfl
theorem q2742 : (Jvm.Cond.castable "[B" "java/lang/Object") ∈ lw_tbl := lw_at lw_m11 217 rfl
theorem q2745 : (Jvm.Cond.castable "[C" "java/lang/Object") ∈ lw_tbl := lw_at lw_m11 220 rfl
set_option maxRecDepth 100000
theorem q2743 : (Jvm.Cond.castable "[I" "java/lang/Object") ∈ lw_tbl := lw_at lw_m11 218 rfl
set_option maxRecDepth 100000
theorem q2746 : (Jvm.Cond.castable "[J" "java/lang/Object") ∈ lw_tbl := lw_at lw_m11 221 rfl
set_option maxRecDepth 100000
theorem q2744 : (Jvm.Cond.castable "[LHeirCases$Finding;" "java/lang/Object") ∈ lw_tbl := lw_at lw_m11 219 rfl
set_option maxRecDepth 100000
theorem q2741 : (Jvm.Cond.castable "[LHeirCases$Will;" "java/lang/Object") ∈ lw_tbl := lw_at lw_m11 216 rfl
set_option maxRecDepth 100000
theorem q2737 : (Jvm.Cond.sameMethod "[Ljava/lang/Object;" "java/lang/Object" "getClass" "()Ljava/lang/Class;") ∈ lw_all := lw_g (lw_at lw_m11 212 rfl) rfl
set_option maxRecDepth 100000
theorem q2738 : (Jvm.Cond.selects "[Ljava/lang/Object;" ({ cls := "java/lang/Object", name := "getClass", desc := "()Ljava/lang/Class;" } : Jvm.MethodName) ({ cls := "java/lang/Object", name := "getClass", desc := "()Ljava/lang/Class;" } : Jvm.MethodName)) ∈ lw_all := lw_g (lw_at lw_m11 213 rfl) rfl
theorem q2740 : (Jvm.Cond.castable "[Ljava/lang/Object;" "java/lang/Object") ∈ lw_tbl := lw_at lw_m11 215 rfl
theorem q299 : (Jvm.Cond.interfaceMethod "java/lang/CharSequence" "java/lang/CharSequence" "charAt" "(I)C") ∈ lw_tbl := lw_at lw_m1 174 rfl
set_option maxRecDepth 100000
theorem q300 : (Jvm.Cond.declares ({ cls := "java/lang/CharSequence", name := "charAt", desc := "(I)C" } : Jvm.MethodName)) ∈ lw_tbl := lw_at lw_m1 175 rfl
theorem q363 : (Jvm.Cond.interfaceMethod "java/lang/CharSequence" "java/lang/CharSequence" "subSequence" "(II)Ljava/lang/CharSequence;") ∈ lw_tbl := lw_at lw_m1 238 rfl
theorem q364 : (Jvm.Cond.declares ({ cls := "java/lang/CharSequence", name := "subSequence", desc := "(II)Ljava/lang/CharSequence;" } : Jvm.MethodName)) ∈ lw_tbl := lw_at lw_m1 239 rfl
theorem q672 : (Jvm.Cond.interfaceMethod "java/lang/CharSequence" "java/lang/CharSequence" "toString" "()Ljava/lang/String;") ∈ lw_tbl := lw_at lw_m3 67 rfl
theorem q673 : (Jvm.Cond.declares ({ cls := "java/lang/CharSequence", name := "toString", desc := "()Ljava/lang/String;" } : Jvm.MethodName)) ∈ lw_tbl := lw_at lw_m3 68 rfl
theorem q137 : (Jvm.Cond.initialized "java/lang/Enum") ∈ lw_all := lw_g (lw_at lw_m1 12 rfl) rfl
set_option maxRecDepth 100000
theorem q144 : (Jvm.Cond.initialized "java/lang/Number") ∈ lw_all := lw_g (lw_at lw_m1 19 rfl) rfl
set_option maxRecDepth 100000
theorem q147 : (Jvm.Cond.initialized "java/lang/System") ∈ lw_all := lw_g (lw_at lw_m1 22 rfl) rfl
set_option maxRecDepth 100000
theorem q484 : (Jvm.Cond.static ({ cls := "java/lang/System", name := "arraycopy", desc := "(Ljava/lang/Object;ILjava/lang/Object;II)V" } : Jvm.MethodName)) ∈ lw_all := lw_g (lw_at lw_m2 119 rfl) rfl
theorem q485 : (Jvm.Cond.native ({ cls := "java/lang/System", name := "arraycopy", desc := "(Ljava/lang/Object;ILjava/lang/Object;II)V" } : Jvm.MethodName)) ∈ lw_all := lw_g (lw_at lw_m2 120 rfl) rfl
theorem q905 : (Jvm.Cond.interfaceMethod "jdk/internal/access/JavaLangAccess" "jdk/internal/access/JavaLangAccess" "getUTF16Char" "([BI)C") ∈ lw_tbl := lw_at lw_m4 60 rfl
set_option maxRecDepth 100000
theorem q906 : (Jvm.Cond.declares ({ cls := "jdk/internal/access/JavaLangAccess", name := "getUTF16Char", desc := "([BI)C" } : Jvm.MethodName)) ∈ lw_tbl := lw_at lw_m4 61 rfl
theorem q185 : (Jvm.Cond.arrayOver (Jvm.ClassFile.FieldType.object "java/lang/Object")) ∈ lw_tbl := lw_at lw_m1 60 rfl
set_option maxRecDepth 100000
theorem q197 : (Jvm.Cond.arrayOver (Jvm.ClassFile.FieldType.object "HeirCases$Will")) ∈ lw_tbl := lw_at lw_m1 72 rfl
theorem q230 : (Jvm.Cond.arrayClass Jvm.ClassFile.FieldType.byte) ∈ lw_all := lw_g (lw_at lw_m1 105 rfl) rfl
theorem q831 : (Jvm.Cond.arrayClass Jvm.ClassFile.FieldType.int) ∈ lw_all := lw_g (lw_at lw_m3 226 rfl) rfl
theorem q837 : (Jvm.Cond.arrayOver (Jvm.ClassFile.FieldType.object "HeirCases$Finding")) ∈ lw_tbl := lw_at lw_m3 232 rfl
theorem q2297 : (Jvm.Cond.arrayClass Jvm.ClassFile.FieldType.char) ∈ lw_all := lw_g (lw_at lw_m10 12 rfl) rfl
theorem q2691 : (Jvm.Cond.arrayClass Jvm.ClassFile.FieldType.long) ∈ lw_all := lw_g (lw_at lw_m11 166 rfl) rfl
theorem q2747 : (Jvm.Cond.arrayClass Jvm.ClassFile.FieldType.short) ∈ lw_all := lw_g (lw_at lw_m11 222 rfl) rfl
