/-! HeirCasesModel -/
set_option maxRecDepth 100000
def RX10 : String := "HeirCasesModel"
def TX10 : u_T := fun k => match k with
  | 0 => ("HeirCasesModel", "w", "[I", true)
  | 1 => ("HeirCasesModel", "before", "[I", true)
  | 2 => ("HeirCasesModel", "aside", "[I", true)
  | 3 => ("HeirCasesModel", "past", "[I", true)
  | 4 => ("HeirCasesModel", "kept", "[I", true)
  | 5 => ("HeirCasesModel", "pastMany", "I", false)
  | 6 => ("HeirCasesModel", "keptBits", "I", false)
  | 7 => ("HeirCasesModel", "buffer", "[I", true)
  | 8 => ("HeirCasesModel", "text", "[I", true)
  | 9 => ("HeirCasesModel", "typed", "I", false)
  | 10 => ("HeirCasesModel", "textLength", "I", false)
  | 11 => ("HeirCasesModel", "report", "[C", true)
  | 12 => ("HeirCasesModel", "reportLength", "I", false)
  | 13 => ("HeirCasesModel", "thrown", "I", false)
  | 14 => ("HeirCasesModel", "stack", "[I", true)
  | 15 => ("HeirCasesModel", "apply", "[I", true)
  | 16 => ("HeirCasesModel", "kind", "I", false)
  | 17 => ("HeirCasesModel", "offset", "I", false)
  | 18 => ("HeirCasesModel", "tokenEnd", "I", false)
  | 19 => ("HeirCasesModel", "value", "I", false)
  | 20 => ("HeirCasesModel", "fault", "I", false)
  | 21 => ("HeirCasesModel", "told", "I", false)
  | 22 => ("HeirCasesModel", "factors", "I", false)
  | 23 => ("HeirCasesModel", "nots", "I", false)
  | 24 => ("HeirCasesModel", "depth", "I", false)
  | 25 => ("HeirCasesModel", "room", "I", false)
  | _ => ("HeirCasesModel", "part", "I", false)
def tyX10 : Nat → FieldType := fun k => match k with
  | 0 => .array .int
  | 1 => .array .int
  | 2 => .array .int
  | 3 => .array .int
  | 4 => .array .int
  | 5 => .int
  | 6 => .int
  | 7 => .array .int
  | 8 => .array .int
  | 9 => .int
  | 10 => .int
  | 11 => .array .char
  | 12 => .int
  | 13 => .int
  | 14 => .array .int
  | 15 => .array .int
  | 16 => .int
  | 17 => .int
  | 18 => .int
  | 19 => .int
  | 20 => .int
  | 21 => .int
  | 22 => .int
  | 23 => .int
  | 24 => .int
  | 25 => .int
  | _ => .int
abbrev wsX100 : List Cond := u_ws RX10 TX10 27
set_option maxRecDepth 100000 in
theorem nmX10 : ∀ a, a < 27 → ∀ b, b < 27 → a ≠ b → (TX10 a).2.1 ≠ (TX10 b).2.1 := by decide +kernel
set_option maxRecDepth 100000 in
theorem tyX10_ok : ∀ k, k < 27 → parseFieldDescriptor (TX10 k).2.2.1 = some (tyX10 k) := by decide +kernel
abbrev cX10_init : ByteArray := prog_17_method_1_code
def yX10_init : MethodName := ⟨RX10, "<init>", "()V"⟩
def dkwX10_init_4 : List UInt8 := [181, 0, 38, 42, 3, 182, 0, 41, 42, 3, 181, 0, 45, 177]
abbrev dktX10_init_4 : List UInt8 := dkwX10_init_4 ++ []
def dkwX10_init_3 : List UInt8 := [17, 2, 88, 188, 5, 181, 0, 31, 42, 16, 32, 188, 10, 181, 0, 35, 42, 17, 1, 0, 188, 10]
abbrev dktX10_init_3 : List UInt8 := dkwX10_init_3 ++ dktX10_init_4
def dkwX10_init_2 : List UInt8 := [181, 0, 22, 42, 17, 2, 188, 188, 10, 181, 0, 25, 42, 17, 2, 188, 188, 10, 181, 0, 28, 42]
abbrev dktX10_init_2 : List UInt8 := dkwX10_init_2 ++ dktX10_init_3
def dkwX10_init_1 : List UInt8 := [17, 1, 102, 188, 10, 181, 0, 16, 42, 17, 11, 48, 188, 10, 181, 0, 19, 42, 17, 2, 204, 188, 10]
abbrev dktX10_init_1 : List UInt8 := dkwX10_init_1 ++ dktX10_init_2
def dkwX10_init_0 : List UInt8 := [42, 183, 0, 1, 42, 17, 1, 102, 188, 10, 181, 0, 7, 42, 17, 1, 102, 188, 10, 181, 0, 13, 42]
abbrev dktX10_init_0 : List UInt8 := dkwX10_init_0 ++ dktX10_init_1
theorem dksX10_init_0 : cX10_init.data.toList.drop 0 = dktX10_init_0 := by decide +kernel
theorem dksX10_init_1 : cX10_init.data.toList.drop 23 = dktX10_init_1 := dk_seg dksX10_init_0 23 rfl rfl
theorem dksX10_init_2 : cX10_init.data.toList.drop 46 = dktX10_init_2 := dk_seg dksX10_init_1 23 rfl rfl
theorem dksX10_init_3 : cX10_init.data.toList.drop 68 = dktX10_init_3 := dk_seg dksX10_init_2 22 rfl rfl
theorem dksX10_init_4 : cX10_init.data.toList.drop 90 = dktX10_init_4 := dk_seg dksX10_init_3 22 rfl rfl
theorem dX10_init_0 : decode cX10_init 0 = .ok (.aload_n 0, 1) := dk_42 (dk_at dksX10_init_0 0 rfl rfl)
theorem dX10_init_1 : decode cX10_init 1 = .ok (.invokespecial 1, 3) := dk_183 0 1 (dk_at dksX10_init_0 1 rfl rfl)
theorem dX10_init_4 : decode cX10_init 4 = .ok (.aload_n 0, 1) := dk_42 (dk_at dksX10_init_0 4 rfl rfl)
theorem dX10_init_5 : decode cX10_init 5 = .ok (.sipush 358, 3) := dk_17 1 102 (dk_at dksX10_init_0 5 rfl rfl)
theorem dX10_init_8 : decode cX10_init 8 = .ok (.newarray .int, 2) := dk_188_10 (dk_at dksX10_init_0 8 rfl rfl)
theorem dX10_init_10 : decode cX10_init 10 = .ok (.putfield 7, 3) := dk_181 0 7 (dk_at dksX10_init_0 10 rfl rfl)
theorem dX10_init_13 : decode cX10_init 13 = .ok (.aload_n 0, 1) := dk_42 (dk_at dksX10_init_0 13 rfl rfl)
theorem dX10_init_14 : decode cX10_init 14 = .ok (.sipush 358, 3) := dk_17 1 102 (dk_at dksX10_init_0 14 rfl rfl)
theorem dX10_init_17 : decode cX10_init 17 = .ok (.newarray .int, 2) := dk_188_10 (dk_at dksX10_init_0 17 rfl rfl)
theorem dX10_init_19 : decode cX10_init 19 = .ok (.putfield 13, 3) := dk_181 0 13 (dk_at dksX10_init_0 19 rfl rfl)
theorem dX10_init_22 : decode cX10_init 22 = .ok (.aload_n 0, 1) := dk_42 (dk_at dksX10_init_0 22 rfl rfl)
theorem dX10_init_23 : decode cX10_init 23 = .ok (.sipush 358, 3) := dk_17 1 102 (dk_at dksX10_init_1 0 rfl rfl)
theorem dX10_init_26 : decode cX10_init 26 = .ok (.newarray .int, 2) := dk_188_10 (dk_at dksX10_init_1 3 rfl rfl)
theorem dX10_init_28 : decode cX10_init 28 = .ok (.putfield 16, 3) := dk_181 0 16 (dk_at dksX10_init_1 5 rfl rfl)
theorem dX10_init_31 : decode cX10_init 31 = .ok (.aload_n 0, 1) := dk_42 (dk_at dksX10_init_1 8 rfl rfl)
theorem dX10_init_32 : decode cX10_init 32 = .ok (.sipush 2864, 3) := dk_17 11 48 (dk_at dksX10_init_1 9 rfl rfl)
theorem dX10_init_35 : decode cX10_init 35 = .ok (.newarray .int, 2) := dk_188_10 (dk_at dksX10_init_1 12 rfl rfl)
theorem dX10_init_37 : decode cX10_init 37 = .ok (.putfield 19, 3) := dk_181 0 19 (dk_at dksX10_init_1 14 rfl rfl)
theorem dX10_init_40 : decode cX10_init 40 = .ok (.aload_n 0, 1) := dk_42 (dk_at dksX10_init_1 17 rfl rfl)
theorem dX10_init_41 : decode cX10_init 41 = .ok (.sipush 716, 3) := dk_17 2 204 (dk_at dksX10_init_1 18 rfl rfl)
theorem dX10_init_44 : decode cX10_init 44 = .ok (.newarray .int, 2) := dk_188_10 (dk_at dksX10_init_1 21 rfl rfl)
theorem dX10_init_46 : decode cX10_init 46 = .ok (.putfield 22, 3) := dk_181 0 22 (dk_at dksX10_init_2 0 rfl rfl)
theorem dX10_init_49 : decode cX10_init 49 = .ok (.aload_n 0, 1) := dk_42 (dk_at dksX10_init_2 3 rfl rfl)
theorem dX10_init_50 : decode cX10_init 50 = .ok (.sipush 700, 3) := dk_17 2 188 (dk_at dksX10_init_2 4 rfl rfl)
theorem dX10_init_53 : decode cX10_init 53 = .ok (.newarray .int, 2) := dk_188_10 (dk_at dksX10_init_2 7 rfl rfl)
theorem dX10_init_55 : decode cX10_init 55 = .ok (.putfield 25, 3) := dk_181 0 25 (dk_at dksX10_init_2 9 rfl rfl)
theorem dX10_init_58 : decode cX10_init 58 = .ok (.aload_n 0, 1) := dk_42 (dk_at dksX10_init_2 12 rfl rfl)
theorem dX10_init_59 : decode cX10_init 59 = .ok (.sipush 700, 3) := dk_17 2 188 (dk_at dksX10_init_2 13 rfl rfl)
theorem dX10_init_62 : decode cX10_init 62 = .ok (.newarray .int, 2) := dk_188_10 (dk_at dksX10_init_2 16 rfl rfl)
theorem dX10_init_64 : decode cX10_init 64 = .ok (.putfield 28, 3) := dk_181 0 28 (dk_at dksX10_init_2 18 rfl rfl)
theorem dX10_init_67 : decode cX10_init 67 = .ok (.aload_n 0, 1) := dk_42 (dk_at dksX10_init_2 21 rfl rfl)
theorem dX10_init_68 : decode cX10_init 68 = .ok (.sipush 600, 3) := dk_17 2 88 (dk_at dksX10_init_3 0 rfl rfl)
theorem dX10_init_71 : decode cX10_init 71 = .ok (.newarray .char, 2) := dk_188_5 (dk_at dksX10_init_3 3 rfl rfl)
theorem dX10_init_73 : decode cX10_init 73 = .ok (.putfield 31, 3) := dk_181 0 31 (dk_at dksX10_init_3 5 rfl rfl)
theorem dX10_init_76 : decode cX10_init 76 = .ok (.aload_n 0, 1) := dk_42 (dk_at dksX10_init_3 8 rfl rfl)
theorem dX10_init_77 : decode cX10_init 77 = .ok (.bipush 32, 2) := dk_16 32 (dk_at dksX10_init_3 9 rfl rfl)
theorem dX10_init_79 : decode cX10_init 79 = .ok (.newarray .int, 2) := dk_188_10 (dk_at dksX10_init_3 11 rfl rfl)
theorem dX10_init_81 : decode cX10_init 81 = .ok (.putfield 35, 3) := dk_181 0 35 (dk_at dksX10_init_3 13 rfl rfl)
theorem dX10_init_84 : decode cX10_init 84 = .ok (.aload_n 0, 1) := dk_42 (dk_at dksX10_init_3 16 rfl rfl)
theorem dX10_init_85 : decode cX10_init 85 = .ok (.sipush 256, 3) := dk_17 1 0 (dk_at dksX10_init_3 17 rfl rfl)
theorem dX10_init_88 : decode cX10_init 88 = .ok (.newarray .int, 2) := dk_188_10 (dk_at dksX10_init_3 20 rfl rfl)
theorem dX10_init_90 : decode cX10_init 90 = .ok (.putfield 38, 3) := dk_181 0 38 (dk_at dksX10_init_4 0 rfl rfl)
theorem dX10_init_93 : decode cX10_init 93 = .ok (.aload_n 0, 1) := dk_42 (dk_at dksX10_init_4 3 rfl rfl)
theorem dX10_init_94 : decode cX10_init 94 = .ok (.iconst 0, 1) := dk_3 (dk_at dksX10_init_4 4 rfl rfl)
theorem dX10_init_95 : decode cX10_init 95 = .ok (.invokevirtual 41, 3) := dk_182 0 41 (dk_at dksX10_init_4 5 rfl rfl)
theorem dX10_init_98 : decode cX10_init 98 = .ok (.aload_n 0, 1) := dk_42 (dk_at dksX10_init_4 8 rfl rfl)
theorem dX10_init_99 : decode cX10_init 99 = .ok (.iconst 0, 1) := dk_3 (dk_at dksX10_init_4 9 rfl rfl)
theorem dX10_init_100 : decode cX10_init 100 = .ok (.putfield 45, 3) := dk_181 0 45 (dk_at dksX10_init_4 10 rfl rfl)
theorem dX10_init_103 : decode cX10_init 103 = .ok (.return_, 1) := dk_177 (dk_at dksX10_init_4 13 rfl rfl)
abbrev cX10_lay : ByteArray := prog_17_method_37_code
def yX10_lay : MethodName := ⟨RX10, "lay", "(I)V"⟩
def dkwX10_lay_3 : List UInt8 := [42, 18, 132, 182, 0, 124, 42, 182, 0, 134, 87, 177]
abbrev dktX10_lay_3 : List UInt8 := dkwX10_lay_3 ++ []
def dkwX10_lay_2 : List UInt8 := [42, 18, 122, 182, 0, 124, 167, 0, 24, 42, 18, 128, 182, 0, 124, 42, 18, 130, 182, 0, 124, 167, 0, 9]
abbrev dktX10_lay_2 : List UInt8 := dkwX10_lay_2 ++ dktX10_lay_3
def dkwX10_lay_1 : List UInt8 := [171, 0, 0, 0, 0, 50, 0, 0, 0, 2, 0, 0, 0, 0, 0, 0, 0, 26, 0, 0, 0, 1, 0, 0, 0, 35]
abbrev dktX10_lay_1 : List UInt8 := dkwX10_lay_1 ++ dktX10_lay_2
def dkwX10_lay_0 : List UInt8 := [42, 3, 181, 0, 115, 27]
abbrev dktX10_lay_0 : List UInt8 := dkwX10_lay_0 ++ dktX10_lay_1
theorem dksX10_lay_0 : cX10_lay.data.toList.drop 0 = dktX10_lay_0 := by decide +kernel
theorem dksX10_lay_1 : cX10_lay.data.toList.drop 6 = dktX10_lay_1 := dk_seg dksX10_lay_0 6 rfl rfl
theorem dksX10_lay_2 : cX10_lay.data.toList.drop 32 = dktX10_lay_2 := dk_seg dksX10_lay_1 26 rfl rfl
theorem dksX10_lay_3 : cX10_lay.data.toList.drop 56 = dktX10_lay_3 := dk_seg dksX10_lay_2 24 rfl rfl
theorem dX10_lay_0 : decode cX10_lay 0 = .ok (.aload_n 0, 1) := dk_42 (dk_at dksX10_lay_0 0 rfl rfl)
theorem dX10_lay_1 : decode cX10_lay 1 = .ok (.iconst 0, 1) := dk_3 (dk_at dksX10_lay_0 1 rfl rfl)
theorem dX10_lay_2 : decode cX10_lay 2 = .ok (.putfield 115, 3) := dk_181 0 115 (dk_at dksX10_lay_0 2 rfl rfl)
theorem dX10_lay_5 : decode cX10_lay 5 = .ok (.iload_n 1, 1) := dk_27 (dk_at dksX10_lay_0 5 rfl rfl)
theorem dX10_lay_6 : decode cX10_lay 6 = .ok (.lookupswitch 50 #[(0, 26), (1, 35)], 26) := by decide +kernel
theorem dX10_lay_32 : decode cX10_lay 32 = .ok (.aload_n 0, 1) := dk_42 (dk_at dksX10_lay_2 0 rfl rfl)
theorem dX10_lay_33 : decode cX10_lay 33 = .ok (.ldc 122, 2) := dk_18 122 (dk_at dksX10_lay_2 1 rfl rfl)
theorem dX10_lay_35 : decode cX10_lay 35 = .ok (.invokevirtual 124, 3) := dk_182 0 124 (dk_at dksX10_lay_2 3 rfl rfl)
theorem dX10_lay_38 : decode cX10_lay 38 = .ok (.goto 24, 3) := dk_167 0 24 (dk_at dksX10_lay_2 6 rfl rfl)
theorem dX10_lay_41 : decode cX10_lay 41 = .ok (.aload_n 0, 1) := dk_42 (dk_at dksX10_lay_2 9 rfl rfl)
theorem dX10_lay_42 : decode cX10_lay 42 = .ok (.ldc 128, 2) := dk_18 128 (dk_at dksX10_lay_2 10 rfl rfl)
theorem dX10_lay_44 : decode cX10_lay 44 = .ok (.invokevirtual 124, 3) := dk_182 0 124 (dk_at dksX10_lay_2 12 rfl rfl)
theorem dX10_lay_47 : decode cX10_lay 47 = .ok (.aload_n 0, 1) := dk_42 (dk_at dksX10_lay_2 15 rfl rfl)
theorem dX10_lay_48 : decode cX10_lay 48 = .ok (.ldc 130, 2) := dk_18 130 (dk_at dksX10_lay_2 16 rfl rfl)
theorem dX10_lay_50 : decode cX10_lay 50 = .ok (.invokevirtual 124, 3) := dk_182 0 124 (dk_at dksX10_lay_2 18 rfl rfl)
theorem dX10_lay_53 : decode cX10_lay 53 = .ok (.goto 9, 3) := dk_167 0 9 (dk_at dksX10_lay_2 21 rfl rfl)
theorem dX10_lay_56 : decode cX10_lay 56 = .ok (.aload_n 0, 1) := dk_42 (dk_at dksX10_lay_3 0 rfl rfl)
theorem dX10_lay_57 : decode cX10_lay 57 = .ok (.ldc 132, 2) := dk_18 132 (dk_at dksX10_lay_3 1 rfl rfl)
theorem dX10_lay_59 : decode cX10_lay 59 = .ok (.invokevirtual 124, 3) := dk_182 0 124 (dk_at dksX10_lay_3 3 rfl rfl)
theorem dX10_lay_62 : decode cX10_lay 62 = .ok (.aload_n 0, 1) := dk_42 (dk_at dksX10_lay_3 6 rfl rfl)
theorem dX10_lay_63 : decode cX10_lay 63 = .ok (.invokevirtual 134, 3) := dk_182 0 134 (dk_at dksX10_lay_3 7 rfl rfl)
theorem dX10_lay_66 : decode cX10_lay 66 = .ok (.pop, 1) := dk_87 (dk_at dksX10_lay_3 10 rfl rfl)
theorem dX10_lay_67 : decode cX10_lay 67 = .ok (.return_, 1) := dk_177 (dk_at dksX10_lay_3 11 rfl rfl)
abbrev cX10_tell : ByteArray := prog_17_method_36_code
def yX10_tell : MethodName := ⟨RX10, "tell", "(Ljava/lang/String;)V"⟩
def dkwX10_tell_1 : List UInt8 := [42, 89, 180, 0, 115, 4, 96, 181, 0, 115, 132, 2, 1, 167, 255, 221, 177]
abbrev dktX10_tell_1 : List UInt8 := dkwX10_tell_1 ++ []
def dkwX10_tell_0 : List UInt8 := [3, 61, 28, 43, 182, 0, 110, 162, 0, 33, 42, 180, 0, 28, 42, 180, 0, 115, 43, 28, 182, 0, 118, 79]
abbrev dktX10_tell_0 : List UInt8 := dkwX10_tell_0 ++ dktX10_tell_1
theorem dksX10_tell_0 : cX10_tell.data.toList.drop 0 = dktX10_tell_0 := by decide +kernel
theorem dksX10_tell_1 : cX10_tell.data.toList.drop 24 = dktX10_tell_1 := dk_seg dksX10_tell_0 24 rfl rfl
theorem dX10_tell_0 : decode cX10_tell 0 = .ok (.iconst 0, 1) := dk_3 (dk_at dksX10_tell_0 0 rfl rfl)
theorem dX10_tell_1 : decode cX10_tell 1 = .ok (.istore_n 2, 1) := dk_61 (dk_at dksX10_tell_0 1 rfl rfl)
theorem dX10_tell_2 : decode cX10_tell 2 = .ok (.iload_n 2, 1) := dk_28 (dk_at dksX10_tell_0 2 rfl rfl)
theorem dX10_tell_3 : decode cX10_tell 3 = .ok (.aload_n 1, 1) := dk_43 (dk_at dksX10_tell_0 3 rfl rfl)
theorem dX10_tell_4 : decode cX10_tell 4 = .ok (.invokevirtual 110, 3) := dk_182 0 110 (dk_at dksX10_tell_0 4 rfl rfl)
theorem dX10_tell_7 : decode cX10_tell 7 = .ok (.if_icmp .ge 33, 3) := dk_162 0 33 (dk_at dksX10_tell_0 7 rfl rfl)
theorem dX10_tell_10 : decode cX10_tell 10 = .ok (.aload_n 0, 1) := dk_42 (dk_at dksX10_tell_0 10 rfl rfl)
theorem dX10_tell_11 : decode cX10_tell 11 = .ok (.getfield 28, 3) := dk_180 0 28 (dk_at dksX10_tell_0 11 rfl rfl)
theorem dX10_tell_14 : decode cX10_tell 14 = .ok (.aload_n 0, 1) := dk_42 (dk_at dksX10_tell_0 14 rfl rfl)
theorem dX10_tell_15 : decode cX10_tell 15 = .ok (.getfield 115, 3) := dk_180 0 115 (dk_at dksX10_tell_0 15 rfl rfl)
theorem dX10_tell_18 : decode cX10_tell 18 = .ok (.aload_n 1, 1) := dk_43 (dk_at dksX10_tell_0 18 rfl rfl)
theorem dX10_tell_19 : decode cX10_tell 19 = .ok (.iload_n 2, 1) := dk_28 (dk_at dksX10_tell_0 19 rfl rfl)
theorem dX10_tell_20 : decode cX10_tell 20 = .ok (.invokevirtual 118, 3) := dk_182 0 118 (dk_at dksX10_tell_0 20 rfl rfl)
theorem dX10_tell_23 : decode cX10_tell 23 = .ok (.iastore, 1) := dk_79 (dk_at dksX10_tell_0 23 rfl rfl)
theorem dX10_tell_24 : decode cX10_tell 24 = .ok (.aload_n 0, 1) := dk_42 (dk_at dksX10_tell_1 0 rfl rfl)
theorem dX10_tell_25 : decode cX10_tell 25 = .ok (.dup, 1) := dk_89 (dk_at dksX10_tell_1 1 rfl rfl)
theorem dX10_tell_26 : decode cX10_tell 26 = .ok (.getfield 115, 3) := dk_180 0 115 (dk_at dksX10_tell_1 2 rfl rfl)
theorem dX10_tell_29 : decode cX10_tell 29 = .ok (.iconst 1, 1) := dk_4 (dk_at dksX10_tell_1 5 rfl rfl)
theorem dX10_tell_30 : decode cX10_tell 30 = .ok (.iadd, 1) := dk_96 (dk_at dksX10_tell_1 6 rfl rfl)
theorem dX10_tell_31 : decode cX10_tell 31 = .ok (.putfield 115, 3) := dk_181 0 115 (dk_at dksX10_tell_1 7 rfl rfl)
theorem dX10_tell_34 : decode cX10_tell 34 = .ok (.iinc 2 1, 3) := dk_132 2 1 (dk_at dksX10_tell_1 10 rfl rfl)
theorem dX10_tell_37 : decode cX10_tell 37 = .ok (.goto (-35), 3) := dk_167 255 221 (dk_at dksX10_tell_1 13 rfl rfl)
theorem dX10_tell_40 : decode cX10_tell 40 = .ok (.return_, 1) := dk_177 (dk_at dksX10_tell_1 16 rfl rfl)
abbrev cX10_parseAll : ByteArray := prog_17_method_59_code
def yX10_parseAll : MethodName := ⟨RX10, "parseAll", "()Z"⟩
def dkwX10_parseAll_5 : List UInt8 := [167, 255, 234, 3, 172, 42, 3, 181, 1, 12, 42, 3, 181, 1, 15, 4, 172]
abbrev dktX10_parseAll_5 : List UInt8 := dkwX10_parseAll_5 ++ []
def dkwX10_parseAll_4 : List UInt8 := [3, 60, 27, 17, 1, 102, 162, 0, 21, 42, 180, 0, 7, 27, 42, 180, 0, 13, 27, 46, 79, 132, 1, 1]
abbrev dktX10_parseAll_4 : List UInt8 := dkwX10_parseAll_4 ++ dktX10_parseAll_5
def dkwX10_parseAll_3 : List UInt8 := [167, 255, 233, 42, 3, 181, 0, 153, 42, 3, 181, 0, 138, 42, 182, 0, 164, 42, 182, 1, 9, 154, 0, 32]
abbrev dktX10_parseAll_3 : List UInt8 := dkwX10_parseAll_3 ++ dktX10_parseAll_4
def dkwX10_parseAll_2 : List UInt8 := [27, 7, 162, 0, 24, 42, 180, 0, 7, 16, 9, 5, 27, 104, 96, 4, 96, 16, 10, 79, 132, 1, 1]
abbrev dktX10_parseAll_2 : List UInt8 := dkwX10_parseAll_2 ++ dktX10_parseAll_3
def dkwX10_parseAll_1 : List UInt8 := [180, 0, 7, 27, 3, 79, 132, 1, 1, 167, 255, 227, 42, 180, 0, 7, 16, 7, 17, 3, 232, 79, 3, 60]
abbrev dktX10_parseAll_1 : List UInt8 := dkwX10_parseAll_1 ++ dktX10_parseAll_2
def dkwX10_parseAll_0 : List UInt8 := [3, 60, 27, 17, 1, 102, 162, 0, 28, 42, 180, 0, 13, 27, 42, 180, 0, 7, 27, 46, 79, 42]
abbrev dktX10_parseAll_0 : List UInt8 := dkwX10_parseAll_0 ++ dktX10_parseAll_1
theorem dksX10_parseAll_0 : cX10_parseAll.data.toList.drop 0 = dktX10_parseAll_0 := by decide +kernel
theorem dksX10_parseAll_1 : cX10_parseAll.data.toList.drop 22 = dktX10_parseAll_1 := dk_seg dksX10_parseAll_0 22 rfl rfl
theorem dksX10_parseAll_2 : cX10_parseAll.data.toList.drop 46 = dktX10_parseAll_2 := dk_seg dksX10_parseAll_1 24 rfl rfl
theorem dksX10_parseAll_3 : cX10_parseAll.data.toList.drop 69 = dktX10_parseAll_3 := dk_seg dksX10_parseAll_2 23 rfl rfl
theorem dksX10_parseAll_4 : cX10_parseAll.data.toList.drop 93 = dktX10_parseAll_4 := dk_seg dksX10_parseAll_3 24 rfl rfl
theorem dksX10_parseAll_5 : cX10_parseAll.data.toList.drop 117 = dktX10_parseAll_5 := dk_seg dksX10_parseAll_4 24 rfl rfl
theorem dX10_parseAll_0 : decode cX10_parseAll 0 = .ok (.iconst 0, 1) := dk_3 (dk_at dksX10_parseAll_0 0 rfl rfl)
theorem dX10_parseAll_1 : decode cX10_parseAll 1 = .ok (.istore_n 1, 1) := dk_60 (dk_at dksX10_parseAll_0 1 rfl rfl)
theorem dX10_parseAll_2 : decode cX10_parseAll 2 = .ok (.iload_n 1, 1) := dk_27 (dk_at dksX10_parseAll_0 2 rfl rfl)
theorem dX10_parseAll_3 : decode cX10_parseAll 3 = .ok (.sipush 358, 3) := dk_17 1 102 (dk_at dksX10_parseAll_0 3 rfl rfl)
theorem dX10_parseAll_6 : decode cX10_parseAll 6 = .ok (.if_icmp .ge 28, 3) := dk_162 0 28 (dk_at dksX10_parseAll_0 6 rfl rfl)
theorem dX10_parseAll_9 : decode cX10_parseAll 9 = .ok (.aload_n 0, 1) := dk_42 (dk_at dksX10_parseAll_0 9 rfl rfl)
theorem dX10_parseAll_10 : decode cX10_parseAll 10 = .ok (.getfield 13, 3) := dk_180 0 13 (dk_at dksX10_parseAll_0 10 rfl rfl)
theorem dX10_parseAll_13 : decode cX10_parseAll 13 = .ok (.iload_n 1, 1) := dk_27 (dk_at dksX10_parseAll_0 13 rfl rfl)
theorem dX10_parseAll_14 : decode cX10_parseAll 14 = .ok (.aload_n 0, 1) := dk_42 (dk_at dksX10_parseAll_0 14 rfl rfl)
theorem dX10_parseAll_15 : decode cX10_parseAll 15 = .ok (.getfield 7, 3) := dk_180 0 7 (dk_at dksX10_parseAll_0 15 rfl rfl)
theorem dX10_parseAll_18 : decode cX10_parseAll 18 = .ok (.iload_n 1, 1) := dk_27 (dk_at dksX10_parseAll_0 18 rfl rfl)
theorem dX10_parseAll_19 : decode cX10_parseAll 19 = .ok (.iaload, 1) := dk_46 (dk_at dksX10_parseAll_0 19 rfl rfl)
theorem dX10_parseAll_20 : decode cX10_parseAll 20 = .ok (.iastore, 1) := dk_79 (dk_at dksX10_parseAll_0 20 rfl rfl)
theorem dX10_parseAll_21 : decode cX10_parseAll 21 = .ok (.aload_n 0, 1) := dk_42 (dk_at dksX10_parseAll_0 21 rfl rfl)
theorem dX10_parseAll_22 : decode cX10_parseAll 22 = .ok (.getfield 7, 3) := dk_180 0 7 (dk_at dksX10_parseAll_1 0 rfl rfl)
theorem dX10_parseAll_25 : decode cX10_parseAll 25 = .ok (.iload_n 1, 1) := dk_27 (dk_at dksX10_parseAll_1 3 rfl rfl)
theorem dX10_parseAll_26 : decode cX10_parseAll 26 = .ok (.iconst 0, 1) := dk_3 (dk_at dksX10_parseAll_1 4 rfl rfl)
theorem dX10_parseAll_27 : decode cX10_parseAll 27 = .ok (.iastore, 1) := dk_79 (dk_at dksX10_parseAll_1 5 rfl rfl)
theorem dX10_parseAll_28 : decode cX10_parseAll 28 = .ok (.iinc 1 1, 3) := dk_132 1 1 (dk_at dksX10_parseAll_1 6 rfl rfl)
theorem dX10_parseAll_31 : decode cX10_parseAll 31 = .ok (.goto (-29), 3) := dk_167 255 227 (dk_at dksX10_parseAll_1 9 rfl rfl)
theorem dX10_parseAll_34 : decode cX10_parseAll 34 = .ok (.aload_n 0, 1) := dk_42 (dk_at dksX10_parseAll_1 12 rfl rfl)
theorem dX10_parseAll_35 : decode cX10_parseAll 35 = .ok (.getfield 7, 3) := dk_180 0 7 (dk_at dksX10_parseAll_1 13 rfl rfl)
theorem dX10_parseAll_38 : decode cX10_parseAll 38 = .ok (.bipush 7, 2) := dk_16 7 (dk_at dksX10_parseAll_1 16 rfl rfl)
theorem dX10_parseAll_40 : decode cX10_parseAll 40 = .ok (.sipush 1000, 3) := dk_17 3 232 (dk_at dksX10_parseAll_1 18 rfl rfl)
theorem dX10_parseAll_43 : decode cX10_parseAll 43 = .ok (.iastore, 1) := dk_79 (dk_at dksX10_parseAll_1 21 rfl rfl)
theorem dX10_parseAll_44 : decode cX10_parseAll 44 = .ok (.iconst 0, 1) := dk_3 (dk_at dksX10_parseAll_1 22 rfl rfl)
theorem dX10_parseAll_45 : decode cX10_parseAll 45 = .ok (.istore_n 1, 1) := dk_60 (dk_at dksX10_parseAll_1 23 rfl rfl)
theorem dX10_parseAll_46 : decode cX10_parseAll 46 = .ok (.iload_n 1, 1) := dk_27 (dk_at dksX10_parseAll_2 0 rfl rfl)
theorem dX10_parseAll_47 : decode cX10_parseAll 47 = .ok (.iconst 4, 1) := dk_7 (dk_at dksX10_parseAll_2 1 rfl rfl)
theorem dX10_parseAll_48 : decode cX10_parseAll 48 = .ok (.if_icmp .ge 24, 3) := dk_162 0 24 (dk_at dksX10_parseAll_2 2 rfl rfl)
theorem dX10_parseAll_51 : decode cX10_parseAll 51 = .ok (.aload_n 0, 1) := dk_42 (dk_at dksX10_parseAll_2 5 rfl rfl)
theorem dX10_parseAll_52 : decode cX10_parseAll 52 = .ok (.getfield 7, 3) := dk_180 0 7 (dk_at dksX10_parseAll_2 6 rfl rfl)
theorem dX10_parseAll_55 : decode cX10_parseAll 55 = .ok (.bipush 9, 2) := dk_16 9 (dk_at dksX10_parseAll_2 9 rfl rfl)
theorem dX10_parseAll_57 : decode cX10_parseAll 57 = .ok (.iconst 2, 1) := dk_5 (dk_at dksX10_parseAll_2 11 rfl rfl)
theorem dX10_parseAll_58 : decode cX10_parseAll 58 = .ok (.iload_n 1, 1) := dk_27 (dk_at dksX10_parseAll_2 12 rfl rfl)
theorem dX10_parseAll_59 : decode cX10_parseAll 59 = .ok (.imul, 1) := dk_104 (dk_at dksX10_parseAll_2 13 rfl rfl)
theorem dX10_parseAll_60 : decode cX10_parseAll 60 = .ok (.iadd, 1) := dk_96 (dk_at dksX10_parseAll_2 14 rfl rfl)
theorem dX10_parseAll_61 : decode cX10_parseAll 61 = .ok (.iconst 1, 1) := dk_4 (dk_at dksX10_parseAll_2 15 rfl rfl)
theorem dX10_parseAll_62 : decode cX10_parseAll 62 = .ok (.iadd, 1) := dk_96 (dk_at dksX10_parseAll_2 16 rfl rfl)
theorem dX10_parseAll_63 : decode cX10_parseAll 63 = .ok (.bipush 10, 2) := dk_16 10 (dk_at dksX10_parseAll_2 17 rfl rfl)
theorem dX10_parseAll_65 : decode cX10_parseAll 65 = .ok (.iastore, 1) := dk_79 (dk_at dksX10_parseAll_2 19 rfl rfl)
theorem dX10_parseAll_66 : decode cX10_parseAll 66 = .ok (.iinc 1 1, 3) := dk_132 1 1 (dk_at dksX10_parseAll_2 20 rfl rfl)
theorem dX10_parseAll_69 : decode cX10_parseAll 69 = .ok (.goto (-23), 3) := dk_167 255 233 (dk_at dksX10_parseAll_3 0 rfl rfl)
theorem dX10_parseAll_72 : decode cX10_parseAll 72 = .ok (.aload_n 0, 1) := dk_42 (dk_at dksX10_parseAll_3 3 rfl rfl)
theorem dX10_parseAll_73 : decode cX10_parseAll 73 = .ok (.iconst 0, 1) := dk_3 (dk_at dksX10_parseAll_3 4 rfl rfl)
theorem dX10_parseAll_74 : decode cX10_parseAll 74 = .ok (.putfield 153, 3) := dk_181 0 153 (dk_at dksX10_parseAll_3 5 rfl rfl)
theorem dX10_parseAll_77 : decode cX10_parseAll 77 = .ok (.aload_n 0, 1) := dk_42 (dk_at dksX10_parseAll_3 8 rfl rfl)
theorem dX10_parseAll_78 : decode cX10_parseAll 78 = .ok (.iconst 0, 1) := dk_3 (dk_at dksX10_parseAll_3 9 rfl rfl)
theorem dX10_parseAll_79 : decode cX10_parseAll 79 = .ok (.putfield 138, 3) := dk_181 0 138 (dk_at dksX10_parseAll_3 10 rfl rfl)
theorem dX10_parseAll_82 : decode cX10_parseAll 82 = .ok (.aload_n 0, 1) := dk_42 (dk_at dksX10_parseAll_3 13 rfl rfl)
theorem dX10_parseAll_83 : decode cX10_parseAll 83 = .ok (.invokevirtual 164, 3) := dk_182 0 164 (dk_at dksX10_parseAll_3 14 rfl rfl)
theorem dX10_parseAll_86 : decode cX10_parseAll 86 = .ok (.aload_n 0, 1) := dk_42 (dk_at dksX10_parseAll_3 17 rfl rfl)
theorem dX10_parseAll_87 : decode cX10_parseAll 87 = .ok (.invokevirtual 265, 3) := dk_182 1 9 (dk_at dksX10_parseAll_3 18 rfl rfl)
theorem dX10_parseAll_90 : decode cX10_parseAll 90 = .ok (.ifCond .ne 32, 3) := dk_154 0 32 (dk_at dksX10_parseAll_3 21 rfl rfl)
theorem dX10_parseAll_93 : decode cX10_parseAll 93 = .ok (.iconst 0, 1) := dk_3 (dk_at dksX10_parseAll_4 0 rfl rfl)
theorem dX10_parseAll_94 : decode cX10_parseAll 94 = .ok (.istore_n 1, 1) := dk_60 (dk_at dksX10_parseAll_4 1 rfl rfl)
theorem dX10_parseAll_95 : decode cX10_parseAll 95 = .ok (.iload_n 1, 1) := dk_27 (dk_at dksX10_parseAll_4 2 rfl rfl)
theorem dX10_parseAll_96 : decode cX10_parseAll 96 = .ok (.sipush 358, 3) := dk_17 1 102 (dk_at dksX10_parseAll_4 3 rfl rfl)
theorem dX10_parseAll_99 : decode cX10_parseAll 99 = .ok (.if_icmp .ge 21, 3) := dk_162 0 21 (dk_at dksX10_parseAll_4 6 rfl rfl)
theorem dX10_parseAll_102 : decode cX10_parseAll 102 = .ok (.aload_n 0, 1) := dk_42 (dk_at dksX10_parseAll_4 9 rfl rfl)
theorem dX10_parseAll_103 : decode cX10_parseAll 103 = .ok (.getfield 7, 3) := dk_180 0 7 (dk_at dksX10_parseAll_4 10 rfl rfl)
theorem dX10_parseAll_106 : decode cX10_parseAll 106 = .ok (.iload_n 1, 1) := dk_27 (dk_at dksX10_parseAll_4 13 rfl rfl)
theorem dX10_parseAll_107 : decode cX10_parseAll 107 = .ok (.aload_n 0, 1) := dk_42 (dk_at dksX10_parseAll_4 14 rfl rfl)
theorem dX10_parseAll_108 : decode cX10_parseAll 108 = .ok (.getfield 13, 3) := dk_180 0 13 (dk_at dksX10_parseAll_4 15 rfl rfl)
theorem dX10_parseAll_111 : decode cX10_parseAll 111 = .ok (.iload_n 1, 1) := dk_27 (dk_at dksX10_parseAll_4 18 rfl rfl)
theorem dX10_parseAll_112 : decode cX10_parseAll 112 = .ok (.iaload, 1) := dk_46 (dk_at dksX10_parseAll_4 19 rfl rfl)
theorem dX10_parseAll_113 : decode cX10_parseAll 113 = .ok (.iastore, 1) := dk_79 (dk_at dksX10_parseAll_4 20 rfl rfl)
theorem dX10_parseAll_114 : decode cX10_parseAll 114 = .ok (.iinc 1 1, 3) := dk_132 1 1 (dk_at dksX10_parseAll_4 21 rfl rfl)
theorem dX10_parseAll_117 : decode cX10_parseAll 117 = .ok (.goto (-22), 3) := dk_167 255 234 (dk_at dksX10_parseAll_5 0 rfl rfl)
theorem dX10_parseAll_120 : decode cX10_parseAll 120 = .ok (.iconst 0, 1) := dk_3 (dk_at dksX10_parseAll_5 3 rfl rfl)
theorem dX10_parseAll_121 : decode cX10_parseAll 121 = .ok (.ireturn, 1) := dk_172 (dk_at dksX10_parseAll_5 4 rfl rfl)
theorem dX10_parseAll_122 : decode cX10_parseAll 122 = .ok (.aload_n 0, 1) := dk_42 (dk_at dksX10_parseAll_5 5 rfl rfl)
theorem dX10_parseAll_123 : decode cX10_parseAll 123 = .ok (.iconst 0, 1) := dk_3 (dk_at dksX10_parseAll_5 6 rfl rfl)
theorem dX10_parseAll_124 : decode cX10_parseAll 124 = .ok (.putfield 268, 3) := dk_181 1 12 (dk_at dksX10_parseAll_5 7 rfl rfl)
theorem dX10_parseAll_127 : decode cX10_parseAll 127 = .ok (.aload_n 0, 1) := dk_42 (dk_at dksX10_parseAll_5 10 rfl rfl)
theorem dX10_parseAll_128 : decode cX10_parseAll 128 = .ok (.iconst 0, 1) := dk_3 (dk_at dksX10_parseAll_5 11 rfl rfl)
theorem dX10_parseAll_129 : decode cX10_parseAll 129 = .ok (.putfield 271, 3) := dk_181 1 15 (dk_at dksX10_parseAll_5 12 rfl rfl)
theorem dX10_parseAll_132 : decode cX10_parseAll 132 = .ok (.iconst 1, 1) := dk_4 (dk_at dksX10_parseAll_5 15 rfl rfl)
theorem dX10_parseAll_133 : decode cX10_parseAll 133 = .ok (.ireturn, 1) := dk_172 (dk_at dksX10_parseAll_5 16 rfl rfl)
abbrev cX10_next : ByteArray := prog_17_method_39_code
def yX10_next : MethodName := ⟨RX10, "next", "()V"⟩
def dkwX10_next_10 : List UInt8 := [100, 181, 0, 150, 132, 1, 1, 167, 255, 216, 177]
abbrev dktX10_next_10 : List UInt8 := dkwX10_next_10 ++ []
def dkwX10_next_9 : List UInt8 := [180, 0, 144, 5, 160, 0, 30, 42, 16, 10, 42, 180, 0, 150, 104, 42, 180, 0, 28, 27, 46, 96, 16, 48]
abbrev dktX10_next_9 : List UInt8 := dkwX10_next_9 ++ dktX10_next_10
def dkwX10_next_8 : List UInt8 := [42, 6, 181, 0, 144, 42, 3, 181, 0, 150, 42, 180, 0, 141, 60, 27, 42, 180, 0, 138, 162, 0, 38, 42]
abbrev dktX10_next_8 : List UInt8 := dkwX10_next_8 ++ dktX10_next_9
def dkwX10_next_7 : List UInt8 := [167, 255, 200, 42, 180, 0, 144, 5, 160, 0, 21, 42, 180, 0, 138, 42, 180, 0, 141, 100, 7, 164, 0, 8]
abbrev dktX10_next_7 : List UInt8 := dkwX10_next_7 ++ dktX10_next_8
def dkwX10_next_6 : List UInt8 := [180, 0, 138, 46, 184, 0, 147, 42, 180, 0, 144, 160, 0, 16, 42, 89, 180, 0, 138, 4, 96, 181, 0, 138]
abbrev dktX10_next_6 : List UInt8 := dkwX10_next_6 ++ dktX10_next_7
def dkwX10_next_5 : List UInt8 := [42, 180, 0, 144, 5, 160, 0, 46, 42, 180, 0, 138, 42, 180, 0, 115, 162, 0, 35, 42, 180, 0, 28, 42]
abbrev dktX10_next_5 : List UInt8 := dkwX10_next_5 ++ dktX10_next_6
def dkwX10_next_4 : List UInt8 := [184, 0, 147, 181, 0, 144, 42, 89, 180, 0, 138, 4, 96, 181, 0, 138, 42, 180, 0, 144, 4, 159, 0, 11]
abbrev dktX10_next_4 : List UInt8 := dkwX10_next_4 ++ dktX10_next_5
def dkwX10_next_3 : List UInt8 := [42, 180, 0, 115, 160, 0, 9, 42, 3, 181, 0, 144, 177, 42, 42, 180, 0, 28, 42, 180, 0, 141, 46]
abbrev dktX10_next_3 : List UInt8 := dkwX10_next_3 ++ dktX10_next_4
def dkwX10_next_2 : List UInt8 := [89, 180, 0, 141, 4, 96, 181, 0, 141, 167, 255, 207, 42, 42, 180, 0, 141, 181, 0, 138, 42, 180, 0, 141]
abbrev dktX10_next_2 : List UInt8 := dkwX10_next_2 ++ dktX10_next_3
def dkwX10_next_1 : List UInt8 := [180, 0, 141, 46, 16, 32, 159, 0, 17, 42, 180, 0, 28, 42, 180, 0, 141, 46, 16, 10, 160, 0, 16, 42]
abbrev dktX10_next_1 : List UInt8 := dkwX10_next_1 ++ dktX10_next_2
def dkwX10_next_0 : List UInt8 := [42, 42, 180, 0, 138, 181, 0, 141, 42, 180, 0, 141, 42, 180, 0, 115, 162, 0, 44, 42, 180, 0, 28, 42]
abbrev dktX10_next_0 : List UInt8 := dkwX10_next_0 ++ dktX10_next_1
theorem dksX10_next_0 : cX10_next.data.toList.drop 0 = dktX10_next_0 := by decide +kernel
theorem dksX10_next_1 : cX10_next.data.toList.drop 24 = dktX10_next_1 := dk_seg dksX10_next_0 24 rfl rfl
theorem dksX10_next_2 : cX10_next.data.toList.drop 48 = dktX10_next_2 := dk_seg dksX10_next_1 24 rfl rfl
theorem dksX10_next_3 : cX10_next.data.toList.drop 72 = dktX10_next_3 := dk_seg dksX10_next_2 24 rfl rfl
theorem dksX10_next_4 : cX10_next.data.toList.drop 95 = dktX10_next_4 := dk_seg dksX10_next_3 23 rfl rfl
theorem dksX10_next_5 : cX10_next.data.toList.drop 119 = dktX10_next_5 := dk_seg dksX10_next_4 24 rfl rfl
theorem dksX10_next_6 : cX10_next.data.toList.drop 143 = dktX10_next_6 := dk_seg dksX10_next_5 24 rfl rfl
theorem dksX10_next_7 : cX10_next.data.toList.drop 167 = dktX10_next_7 := dk_seg dksX10_next_6 24 rfl rfl
theorem dksX10_next_8 : cX10_next.data.toList.drop 191 = dktX10_next_8 := dk_seg dksX10_next_7 24 rfl rfl
theorem dksX10_next_9 : cX10_next.data.toList.drop 215 = dktX10_next_9 := dk_seg dksX10_next_8 24 rfl rfl
theorem dksX10_next_10 : cX10_next.data.toList.drop 239 = dktX10_next_10 := dk_seg dksX10_next_9 24 rfl rfl
theorem dX10_next_0 : decode cX10_next 0 = .ok (.aload_n 0, 1) := dk_42 (dk_at dksX10_next_0 0 rfl rfl)
theorem dX10_next_1 : decode cX10_next 1 = .ok (.aload_n 0, 1) := dk_42 (dk_at dksX10_next_0 1 rfl rfl)
theorem dX10_next_2 : decode cX10_next 2 = .ok (.getfield 138, 3) := dk_180 0 138 (dk_at dksX10_next_0 2 rfl rfl)
theorem dX10_next_5 : decode cX10_next 5 = .ok (.putfield 141, 3) := dk_181 0 141 (dk_at dksX10_next_0 5 rfl rfl)
theorem dX10_next_8 : decode cX10_next 8 = .ok (.aload_n 0, 1) := dk_42 (dk_at dksX10_next_0 8 rfl rfl)
theorem dX10_next_9 : decode cX10_next 9 = .ok (.getfield 141, 3) := dk_180 0 141 (dk_at dksX10_next_0 9 rfl rfl)
theorem dX10_next_12 : decode cX10_next 12 = .ok (.aload_n 0, 1) := dk_42 (dk_at dksX10_next_0 12 rfl rfl)
theorem dX10_next_13 : decode cX10_next 13 = .ok (.getfield 115, 3) := dk_180 0 115 (dk_at dksX10_next_0 13 rfl rfl)
theorem dX10_next_16 : decode cX10_next 16 = .ok (.if_icmp .ge 44, 3) := dk_162 0 44 (dk_at dksX10_next_0 16 rfl rfl)
theorem dX10_next_19 : decode cX10_next 19 = .ok (.aload_n 0, 1) := dk_42 (dk_at dksX10_next_0 19 rfl rfl)
theorem dX10_next_20 : decode cX10_next 20 = .ok (.getfield 28, 3) := dk_180 0 28 (dk_at dksX10_next_0 20 rfl rfl)
theorem dX10_next_23 : decode cX10_next 23 = .ok (.aload_n 0, 1) := dk_42 (dk_at dksX10_next_0 23 rfl rfl)
theorem dX10_next_24 : decode cX10_next 24 = .ok (.getfield 141, 3) := dk_180 0 141 (dk_at dksX10_next_1 0 rfl rfl)
theorem dX10_next_27 : decode cX10_next 27 = .ok (.iaload, 1) := dk_46 (dk_at dksX10_next_1 3 rfl rfl)
theorem dX10_next_28 : decode cX10_next 28 = .ok (.bipush 32, 2) := dk_16 32 (dk_at dksX10_next_1 4 rfl rfl)
theorem dX10_next_30 : decode cX10_next 30 = .ok (.if_icmp .eq 17, 3) := dk_159 0 17 (dk_at dksX10_next_1 6 rfl rfl)
theorem dX10_next_33 : decode cX10_next 33 = .ok (.aload_n 0, 1) := dk_42 (dk_at dksX10_next_1 9 rfl rfl)
theorem dX10_next_34 : decode cX10_next 34 = .ok (.getfield 28, 3) := dk_180 0 28 (dk_at dksX10_next_1 10 rfl rfl)
theorem dX10_next_37 : decode cX10_next 37 = .ok (.aload_n 0, 1) := dk_42 (dk_at dksX10_next_1 13 rfl rfl)
theorem dX10_next_38 : decode cX10_next 38 = .ok (.getfield 141, 3) := dk_180 0 141 (dk_at dksX10_next_1 14 rfl rfl)
theorem dX10_next_41 : decode cX10_next 41 = .ok (.iaload, 1) := dk_46 (dk_at dksX10_next_1 17 rfl rfl)
theorem dX10_next_42 : decode cX10_next 42 = .ok (.bipush 10, 2) := dk_16 10 (dk_at dksX10_next_1 18 rfl rfl)
theorem dX10_next_44 : decode cX10_next 44 = .ok (.if_icmp .ne 16, 3) := dk_160 0 16 (dk_at dksX10_next_1 20 rfl rfl)
theorem dX10_next_47 : decode cX10_next 47 = .ok (.aload_n 0, 1) := dk_42 (dk_at dksX10_next_1 23 rfl rfl)
theorem dX10_next_48 : decode cX10_next 48 = .ok (.dup, 1) := dk_89 (dk_at dksX10_next_2 0 rfl rfl)
theorem dX10_next_49 : decode cX10_next 49 = .ok (.getfield 141, 3) := dk_180 0 141 (dk_at dksX10_next_2 1 rfl rfl)
theorem dX10_next_52 : decode cX10_next 52 = .ok (.iconst 1, 1) := dk_4 (dk_at dksX10_next_2 4 rfl rfl)
theorem dX10_next_53 : decode cX10_next 53 = .ok (.iadd, 1) := dk_96 (dk_at dksX10_next_2 5 rfl rfl)
theorem dX10_next_54 : decode cX10_next 54 = .ok (.putfield 141, 3) := dk_181 0 141 (dk_at dksX10_next_2 6 rfl rfl)
theorem dX10_next_57 : decode cX10_next 57 = .ok (.goto (-49), 3) := dk_167 255 207 (dk_at dksX10_next_2 9 rfl rfl)
theorem dX10_next_60 : decode cX10_next 60 = .ok (.aload_n 0, 1) := dk_42 (dk_at dksX10_next_2 12 rfl rfl)
theorem dX10_next_61 : decode cX10_next 61 = .ok (.aload_n 0, 1) := dk_42 (dk_at dksX10_next_2 13 rfl rfl)
theorem dX10_next_62 : decode cX10_next 62 = .ok (.getfield 141, 3) := dk_180 0 141 (dk_at dksX10_next_2 14 rfl rfl)
theorem dX10_next_65 : decode cX10_next 65 = .ok (.putfield 138, 3) := dk_181 0 138 (dk_at dksX10_next_2 17 rfl rfl)
theorem dX10_next_68 : decode cX10_next 68 = .ok (.aload_n 0, 1) := dk_42 (dk_at dksX10_next_2 20 rfl rfl)
theorem dX10_next_69 : decode cX10_next 69 = .ok (.getfield 141, 3) := dk_180 0 141 (dk_at dksX10_next_2 21 rfl rfl)
theorem dX10_next_72 : decode cX10_next 72 = .ok (.aload_n 0, 1) := dk_42 (dk_at dksX10_next_3 0 rfl rfl)
theorem dX10_next_73 : decode cX10_next 73 = .ok (.getfield 115, 3) := dk_180 0 115 (dk_at dksX10_next_3 1 rfl rfl)
theorem dX10_next_76 : decode cX10_next 76 = .ok (.if_icmp .ne 9, 3) := dk_160 0 9 (dk_at dksX10_next_3 4 rfl rfl)
theorem dX10_next_79 : decode cX10_next 79 = .ok (.aload_n 0, 1) := dk_42 (dk_at dksX10_next_3 7 rfl rfl)
theorem dX10_next_80 : decode cX10_next 80 = .ok (.iconst 0, 1) := dk_3 (dk_at dksX10_next_3 8 rfl rfl)
theorem dX10_next_81 : decode cX10_next 81 = .ok (.putfield 144, 3) := dk_181 0 144 (dk_at dksX10_next_3 9 rfl rfl)
theorem dX10_next_84 : decode cX10_next 84 = .ok (.return_, 1) := dk_177 (dk_at dksX10_next_3 12 rfl rfl)
theorem dX10_next_85 : decode cX10_next 85 = .ok (.aload_n 0, 1) := dk_42 (dk_at dksX10_next_3 13 rfl rfl)
theorem dX10_next_86 : decode cX10_next 86 = .ok (.aload_n 0, 1) := dk_42 (dk_at dksX10_next_3 14 rfl rfl)
theorem dX10_next_87 : decode cX10_next 87 = .ok (.getfield 28, 3) := dk_180 0 28 (dk_at dksX10_next_3 15 rfl rfl)
theorem dX10_next_90 : decode cX10_next 90 = .ok (.aload_n 0, 1) := dk_42 (dk_at dksX10_next_3 18 rfl rfl)
theorem dX10_next_91 : decode cX10_next 91 = .ok (.getfield 141, 3) := dk_180 0 141 (dk_at dksX10_next_3 19 rfl rfl)
theorem dX10_next_94 : decode cX10_next 94 = .ok (.iaload, 1) := dk_46 (dk_at dksX10_next_3 22 rfl rfl)
theorem dX10_next_95 : decode cX10_next 95 = .ok (.invokestatic 147, 3) := dk_184 0 147 (dk_at dksX10_next_4 0 rfl rfl)
theorem dX10_next_98 : decode cX10_next 98 = .ok (.putfield 144, 3) := dk_181 0 144 (dk_at dksX10_next_4 3 rfl rfl)
theorem dX10_next_101 : decode cX10_next 101 = .ok (.aload_n 0, 1) := dk_42 (dk_at dksX10_next_4 6 rfl rfl)
theorem dX10_next_102 : decode cX10_next 102 = .ok (.dup, 1) := dk_89 (dk_at dksX10_next_4 7 rfl rfl)
theorem dX10_next_103 : decode cX10_next 103 = .ok (.getfield 138, 3) := dk_180 0 138 (dk_at dksX10_next_4 8 rfl rfl)
theorem dX10_next_106 : decode cX10_next 106 = .ok (.iconst 1, 1) := dk_4 (dk_at dksX10_next_4 11 rfl rfl)
theorem dX10_next_107 : decode cX10_next 107 = .ok (.iadd, 1) := dk_96 (dk_at dksX10_next_4 12 rfl rfl)
theorem dX10_next_108 : decode cX10_next 108 = .ok (.putfield 138, 3) := dk_181 0 138 (dk_at dksX10_next_4 13 rfl rfl)
theorem dX10_next_111 : decode cX10_next 111 = .ok (.aload_n 0, 1) := dk_42 (dk_at dksX10_next_4 16 rfl rfl)
theorem dX10_next_112 : decode cX10_next 112 = .ok (.getfield 144, 3) := dk_180 0 144 (dk_at dksX10_next_4 17 rfl rfl)
theorem dX10_next_115 : decode cX10_next 115 = .ok (.iconst 1, 1) := dk_4 (dk_at dksX10_next_4 20 rfl rfl)
theorem dX10_next_116 : decode cX10_next 116 = .ok (.if_icmp .eq 11, 3) := dk_159 0 11 (dk_at dksX10_next_4 21 rfl rfl)
theorem dX10_next_119 : decode cX10_next 119 = .ok (.aload_n 0, 1) := dk_42 (dk_at dksX10_next_5 0 rfl rfl)
theorem dX10_next_120 : decode cX10_next 120 = .ok (.getfield 144, 3) := dk_180 0 144 (dk_at dksX10_next_5 1 rfl rfl)
theorem dX10_next_123 : decode cX10_next 123 = .ok (.iconst 2, 1) := dk_5 (dk_at dksX10_next_5 4 rfl rfl)
theorem dX10_next_124 : decode cX10_next 124 = .ok (.if_icmp .ne 46, 3) := dk_160 0 46 (dk_at dksX10_next_5 5 rfl rfl)
theorem dX10_next_127 : decode cX10_next 127 = .ok (.aload_n 0, 1) := dk_42 (dk_at dksX10_next_5 8 rfl rfl)
theorem dX10_next_128 : decode cX10_next 128 = .ok (.getfield 138, 3) := dk_180 0 138 (dk_at dksX10_next_5 9 rfl rfl)
theorem dX10_next_131 : decode cX10_next 131 = .ok (.aload_n 0, 1) := dk_42 (dk_at dksX10_next_5 12 rfl rfl)
theorem dX10_next_132 : decode cX10_next 132 = .ok (.getfield 115, 3) := dk_180 0 115 (dk_at dksX10_next_5 13 rfl rfl)
theorem dX10_next_135 : decode cX10_next 135 = .ok (.if_icmp .ge 35, 3) := dk_162 0 35 (dk_at dksX10_next_5 16 rfl rfl)
theorem dX10_next_138 : decode cX10_next 138 = .ok (.aload_n 0, 1) := dk_42 (dk_at dksX10_next_5 19 rfl rfl)
theorem dX10_next_139 : decode cX10_next 139 = .ok (.getfield 28, 3) := dk_180 0 28 (dk_at dksX10_next_5 20 rfl rfl)
theorem dX10_next_142 : decode cX10_next 142 = .ok (.aload_n 0, 1) := dk_42 (dk_at dksX10_next_5 23 rfl rfl)
theorem dX10_next_143 : decode cX10_next 143 = .ok (.getfield 138, 3) := dk_180 0 138 (dk_at dksX10_next_6 0 rfl rfl)
theorem dX10_next_146 : decode cX10_next 146 = .ok (.iaload, 1) := dk_46 (dk_at dksX10_next_6 3 rfl rfl)
theorem dX10_next_147 : decode cX10_next 147 = .ok (.invokestatic 147, 3) := dk_184 0 147 (dk_at dksX10_next_6 4 rfl rfl)
theorem dX10_next_150 : decode cX10_next 150 = .ok (.aload_n 0, 1) := dk_42 (dk_at dksX10_next_6 7 rfl rfl)
theorem dX10_next_151 : decode cX10_next 151 = .ok (.getfield 144, 3) := dk_180 0 144 (dk_at dksX10_next_6 8 rfl rfl)
theorem dX10_next_154 : decode cX10_next 154 = .ok (.if_icmp .ne 16, 3) := dk_160 0 16 (dk_at dksX10_next_6 11 rfl rfl)
theorem dX10_next_157 : decode cX10_next 157 = .ok (.aload_n 0, 1) := dk_42 (dk_at dksX10_next_6 14 rfl rfl)
theorem dX10_next_158 : decode cX10_next 158 = .ok (.dup, 1) := dk_89 (dk_at dksX10_next_6 15 rfl rfl)
theorem dX10_next_159 : decode cX10_next 159 = .ok (.getfield 138, 3) := dk_180 0 138 (dk_at dksX10_next_6 16 rfl rfl)
theorem dX10_next_162 : decode cX10_next 162 = .ok (.iconst 1, 1) := dk_4 (dk_at dksX10_next_6 19 rfl rfl)
theorem dX10_next_163 : decode cX10_next 163 = .ok (.iadd, 1) := dk_96 (dk_at dksX10_next_6 20 rfl rfl)
theorem dX10_next_164 : decode cX10_next 164 = .ok (.putfield 138, 3) := dk_181 0 138 (dk_at dksX10_next_6 21 rfl rfl)
theorem dX10_next_167 : decode cX10_next 167 = .ok (.goto (-56), 3) := dk_167 255 200 (dk_at dksX10_next_7 0 rfl rfl)
theorem dX10_next_170 : decode cX10_next 170 = .ok (.aload_n 0, 1) := dk_42 (dk_at dksX10_next_7 3 rfl rfl)
theorem dX10_next_171 : decode cX10_next 171 = .ok (.getfield 144, 3) := dk_180 0 144 (dk_at dksX10_next_7 4 rfl rfl)
theorem dX10_next_174 : decode cX10_next 174 = .ok (.iconst 2, 1) := dk_5 (dk_at dksX10_next_7 7 rfl rfl)
theorem dX10_next_175 : decode cX10_next 175 = .ok (.if_icmp .ne 21, 3) := dk_160 0 21 (dk_at dksX10_next_7 8 rfl rfl)
theorem dX10_next_178 : decode cX10_next 178 = .ok (.aload_n 0, 1) := dk_42 (dk_at dksX10_next_7 11 rfl rfl)
theorem dX10_next_179 : decode cX10_next 179 = .ok (.getfield 138, 3) := dk_180 0 138 (dk_at dksX10_next_7 12 rfl rfl)
theorem dX10_next_182 : decode cX10_next 182 = .ok (.aload_n 0, 1) := dk_42 (dk_at dksX10_next_7 15 rfl rfl)
theorem dX10_next_183 : decode cX10_next 183 = .ok (.getfield 141, 3) := dk_180 0 141 (dk_at dksX10_next_7 16 rfl rfl)
theorem dX10_next_186 : decode cX10_next 186 = .ok (.isub, 1) := dk_100 (dk_at dksX10_next_7 19 rfl rfl)
theorem dX10_next_187 : decode cX10_next 187 = .ok (.iconst 4, 1) := dk_7 (dk_at dksX10_next_7 20 rfl rfl)
theorem dX10_next_188 : decode cX10_next 188 = .ok (.if_icmp .le 8, 3) := dk_164 0 8 (dk_at dksX10_next_7 21 rfl rfl)
theorem dX10_next_191 : decode cX10_next 191 = .ok (.aload_n 0, 1) := dk_42 (dk_at dksX10_next_8 0 rfl rfl)
theorem dX10_next_192 : decode cX10_next 192 = .ok (.iconst 3, 1) := dk_6 (dk_at dksX10_next_8 1 rfl rfl)
theorem dX10_next_193 : decode cX10_next 193 = .ok (.putfield 144, 3) := dk_181 0 144 (dk_at dksX10_next_8 2 rfl rfl)
theorem dX10_next_196 : decode cX10_next 196 = .ok (.aload_n 0, 1) := dk_42 (dk_at dksX10_next_8 5 rfl rfl)
theorem dX10_next_197 : decode cX10_next 197 = .ok (.iconst 0, 1) := dk_3 (dk_at dksX10_next_8 6 rfl rfl)
theorem dX10_next_198 : decode cX10_next 198 = .ok (.putfield 150, 3) := dk_181 0 150 (dk_at dksX10_next_8 7 rfl rfl)
theorem dX10_next_201 : decode cX10_next 201 = .ok (.aload_n 0, 1) := dk_42 (dk_at dksX10_next_8 10 rfl rfl)
theorem dX10_next_202 : decode cX10_next 202 = .ok (.getfield 141, 3) := dk_180 0 141 (dk_at dksX10_next_8 11 rfl rfl)
theorem dX10_next_205 : decode cX10_next 205 = .ok (.istore_n 1, 1) := dk_60 (dk_at dksX10_next_8 14 rfl rfl)
theorem dX10_next_206 : decode cX10_next 206 = .ok (.iload_n 1, 1) := dk_27 (dk_at dksX10_next_8 15 rfl rfl)
theorem dX10_next_207 : decode cX10_next 207 = .ok (.aload_n 0, 1) := dk_42 (dk_at dksX10_next_8 16 rfl rfl)
theorem dX10_next_208 : decode cX10_next 208 = .ok (.getfield 138, 3) := dk_180 0 138 (dk_at dksX10_next_8 17 rfl rfl)
theorem dX10_next_211 : decode cX10_next 211 = .ok (.if_icmp .ge 38, 3) := dk_162 0 38 (dk_at dksX10_next_8 20 rfl rfl)
theorem dX10_next_214 : decode cX10_next 214 = .ok (.aload_n 0, 1) := dk_42 (dk_at dksX10_next_8 23 rfl rfl)
theorem dX10_next_215 : decode cX10_next 215 = .ok (.getfield 144, 3) := dk_180 0 144 (dk_at dksX10_next_9 0 rfl rfl)
theorem dX10_next_218 : decode cX10_next 218 = .ok (.iconst 2, 1) := dk_5 (dk_at dksX10_next_9 3 rfl rfl)
theorem dX10_next_219 : decode cX10_next 219 = .ok (.if_icmp .ne 30, 3) := dk_160 0 30 (dk_at dksX10_next_9 4 rfl rfl)
theorem dX10_next_222 : decode cX10_next 222 = .ok (.aload_n 0, 1) := dk_42 (dk_at dksX10_next_9 7 rfl rfl)
theorem dX10_next_223 : decode cX10_next 223 = .ok (.bipush 10, 2) := dk_16 10 (dk_at dksX10_next_9 8 rfl rfl)
theorem dX10_next_225 : decode cX10_next 225 = .ok (.aload_n 0, 1) := dk_42 (dk_at dksX10_next_9 10 rfl rfl)
theorem dX10_next_226 : decode cX10_next 226 = .ok (.getfield 150, 3) := dk_180 0 150 (dk_at dksX10_next_9 11 rfl rfl)
theorem dX10_next_229 : decode cX10_next 229 = .ok (.imul, 1) := dk_104 (dk_at dksX10_next_9 14 rfl rfl)
theorem dX10_next_230 : decode cX10_next 230 = .ok (.aload_n 0, 1) := dk_42 (dk_at dksX10_next_9 15 rfl rfl)
theorem dX10_next_231 : decode cX10_next 231 = .ok (.getfield 28, 3) := dk_180 0 28 (dk_at dksX10_next_9 16 rfl rfl)
theorem dX10_next_234 : decode cX10_next 234 = .ok (.iload_n 1, 1) := dk_27 (dk_at dksX10_next_9 19 rfl rfl)
theorem dX10_next_235 : decode cX10_next 235 = .ok (.iaload, 1) := dk_46 (dk_at dksX10_next_9 20 rfl rfl)
theorem dX10_next_236 : decode cX10_next 236 = .ok (.iadd, 1) := dk_96 (dk_at dksX10_next_9 21 rfl rfl)
theorem dX10_next_237 : decode cX10_next 237 = .ok (.bipush 48, 2) := dk_16 48 (dk_at dksX10_next_9 22 rfl rfl)
theorem dX10_next_239 : decode cX10_next 239 = .ok (.isub, 1) := dk_100 (dk_at dksX10_next_10 0 rfl rfl)
theorem dX10_next_240 : decode cX10_next 240 = .ok (.putfield 150, 3) := dk_181 0 150 (dk_at dksX10_next_10 1 rfl rfl)
theorem dX10_next_243 : decode cX10_next 243 = .ok (.iinc 1 1, 3) := dk_132 1 1 (dk_at dksX10_next_10 4 rfl rfl)
theorem dX10_next_246 : decode cX10_next 246 = .ok (.goto (-40), 3) := dk_167 255 216 (dk_at dksX10_next_10 7 rfl rfl)
theorem dX10_next_249 : decode cX10_next 249 = .ok (.return_, 1) := dk_177 (dk_at dksX10_next_10 10 rfl rfl)
abbrev cX10_sortOf : ByteArray := prog_17_method_38_code
def yX10_sortOf : MethodName := ⟨RX10, "sortOf", "(I)I"⟩
def dkwX10_sortOf_3 : List UInt8 := [16, 62, 160, 0, 7, 26, 167, 0, 4, 6, 172]
abbrev dktX10_sortOf_3 : List UInt8 := dkwX10_sortOf_3 ++ []
def dkwX10_sortOf_2 : List UInt8 := [16, 40, 159, 0, 27, 26, 16, 41, 159, 0, 21, 26, 16, 61, 159, 0, 15, 26, 16, 60, 159, 0, 9, 26]
abbrev dktX10_sortOf_2 : List UInt8 := dkwX10_sortOf_2 ++ dktX10_sortOf_3
def dkwX10_sortOf_1 : List UInt8 := [163, 0, 5, 5, 172, 26, 16, 59, 159, 0, 45, 26, 16, 44, 159, 0, 39, 26, 16, 47, 159, 0, 33, 26]
abbrev dktX10_sortOf_1 : List UInt8 := dkwX10_sortOf_1 ++ dktX10_sortOf_2
def dkwX10_sortOf_0 : List UInt8 := [26, 16, 97, 161, 0, 11, 26, 16, 122, 163, 0, 5, 4, 172, 26, 16, 48, 161, 0, 11, 26, 16, 57]
abbrev dktX10_sortOf_0 : List UInt8 := dkwX10_sortOf_0 ++ dktX10_sortOf_1
theorem dksX10_sortOf_0 : cX10_sortOf.data.toList.drop 0 = dktX10_sortOf_0 := by decide +kernel
theorem dksX10_sortOf_1 : cX10_sortOf.data.toList.drop 23 = dktX10_sortOf_1 := dk_seg dksX10_sortOf_0 23 rfl rfl
theorem dksX10_sortOf_2 : cX10_sortOf.data.toList.drop 47 = dktX10_sortOf_2 := dk_seg dksX10_sortOf_1 24 rfl rfl
theorem dksX10_sortOf_3 : cX10_sortOf.data.toList.drop 71 = dktX10_sortOf_3 := dk_seg dksX10_sortOf_2 24 rfl rfl
theorem dX10_sortOf_0 : decode cX10_sortOf 0 = .ok (.iload_n 0, 1) := dk_26 (dk_at dksX10_sortOf_0 0 rfl rfl)
theorem dX10_sortOf_1 : decode cX10_sortOf 1 = .ok (.bipush 97, 2) := dk_16 97 (dk_at dksX10_sortOf_0 1 rfl rfl)
theorem dX10_sortOf_3 : decode cX10_sortOf 3 = .ok (.if_icmp .lt 11, 3) := dk_161 0 11 (dk_at dksX10_sortOf_0 3 rfl rfl)
theorem dX10_sortOf_6 : decode cX10_sortOf 6 = .ok (.iload_n 0, 1) := dk_26 (dk_at dksX10_sortOf_0 6 rfl rfl)
theorem dX10_sortOf_7 : decode cX10_sortOf 7 = .ok (.bipush 122, 2) := dk_16 122 (dk_at dksX10_sortOf_0 7 rfl rfl)
theorem dX10_sortOf_9 : decode cX10_sortOf 9 = .ok (.if_icmp .gt 5, 3) := dk_163 0 5 (dk_at dksX10_sortOf_0 9 rfl rfl)
theorem dX10_sortOf_12 : decode cX10_sortOf 12 = .ok (.iconst 1, 1) := dk_4 (dk_at dksX10_sortOf_0 12 rfl rfl)
theorem dX10_sortOf_13 : decode cX10_sortOf 13 = .ok (.ireturn, 1) := dk_172 (dk_at dksX10_sortOf_0 13 rfl rfl)
theorem dX10_sortOf_14 : decode cX10_sortOf 14 = .ok (.iload_n 0, 1) := dk_26 (dk_at dksX10_sortOf_0 14 rfl rfl)
theorem dX10_sortOf_15 : decode cX10_sortOf 15 = .ok (.bipush 48, 2) := dk_16 48 (dk_at dksX10_sortOf_0 15 rfl rfl)
theorem dX10_sortOf_17 : decode cX10_sortOf 17 = .ok (.if_icmp .lt 11, 3) := dk_161 0 11 (dk_at dksX10_sortOf_0 17 rfl rfl)
theorem dX10_sortOf_20 : decode cX10_sortOf 20 = .ok (.iload_n 0, 1) := dk_26 (dk_at dksX10_sortOf_0 20 rfl rfl)
theorem dX10_sortOf_21 : decode cX10_sortOf 21 = .ok (.bipush 57, 2) := dk_16 57 (dk_at dksX10_sortOf_0 21 rfl rfl)
theorem dX10_sortOf_23 : decode cX10_sortOf 23 = .ok (.if_icmp .gt 5, 3) := dk_163 0 5 (dk_at dksX10_sortOf_1 0 rfl rfl)
theorem dX10_sortOf_26 : decode cX10_sortOf 26 = .ok (.iconst 2, 1) := dk_5 (dk_at dksX10_sortOf_1 3 rfl rfl)
theorem dX10_sortOf_27 : decode cX10_sortOf 27 = .ok (.ireturn, 1) := dk_172 (dk_at dksX10_sortOf_1 4 rfl rfl)
theorem dX10_sortOf_28 : decode cX10_sortOf 28 = .ok (.iload_n 0, 1) := dk_26 (dk_at dksX10_sortOf_1 5 rfl rfl)
theorem dX10_sortOf_29 : decode cX10_sortOf 29 = .ok (.bipush 59, 2) := dk_16 59 (dk_at dksX10_sortOf_1 6 rfl rfl)
theorem dX10_sortOf_31 : decode cX10_sortOf 31 = .ok (.if_icmp .eq 45, 3) := dk_159 0 45 (dk_at dksX10_sortOf_1 8 rfl rfl)
theorem dX10_sortOf_34 : decode cX10_sortOf 34 = .ok (.iload_n 0, 1) := dk_26 (dk_at dksX10_sortOf_1 11 rfl rfl)
theorem dX10_sortOf_35 : decode cX10_sortOf 35 = .ok (.bipush 44, 2) := dk_16 44 (dk_at dksX10_sortOf_1 12 rfl rfl)
theorem dX10_sortOf_37 : decode cX10_sortOf 37 = .ok (.if_icmp .eq 39, 3) := dk_159 0 39 (dk_at dksX10_sortOf_1 14 rfl rfl)
theorem dX10_sortOf_40 : decode cX10_sortOf 40 = .ok (.iload_n 0, 1) := dk_26 (dk_at dksX10_sortOf_1 17 rfl rfl)
theorem dX10_sortOf_41 : decode cX10_sortOf 41 = .ok (.bipush 47, 2) := dk_16 47 (dk_at dksX10_sortOf_1 18 rfl rfl)
theorem dX10_sortOf_43 : decode cX10_sortOf 43 = .ok (.if_icmp .eq 33, 3) := dk_159 0 33 (dk_at dksX10_sortOf_1 20 rfl rfl)
theorem dX10_sortOf_46 : decode cX10_sortOf 46 = .ok (.iload_n 0, 1) := dk_26 (dk_at dksX10_sortOf_1 23 rfl rfl)
theorem dX10_sortOf_47 : decode cX10_sortOf 47 = .ok (.bipush 40, 2) := dk_16 40 (dk_at dksX10_sortOf_2 0 rfl rfl)
theorem dX10_sortOf_49 : decode cX10_sortOf 49 = .ok (.if_icmp .eq 27, 3) := dk_159 0 27 (dk_at dksX10_sortOf_2 2 rfl rfl)
theorem dX10_sortOf_52 : decode cX10_sortOf 52 = .ok (.iload_n 0, 1) := dk_26 (dk_at dksX10_sortOf_2 5 rfl rfl)
theorem dX10_sortOf_53 : decode cX10_sortOf 53 = .ok (.bipush 41, 2) := dk_16 41 (dk_at dksX10_sortOf_2 6 rfl rfl)
theorem dX10_sortOf_55 : decode cX10_sortOf 55 = .ok (.if_icmp .eq 21, 3) := dk_159 0 21 (dk_at dksX10_sortOf_2 8 rfl rfl)
theorem dX10_sortOf_58 : decode cX10_sortOf 58 = .ok (.iload_n 0, 1) := dk_26 (dk_at dksX10_sortOf_2 11 rfl rfl)
theorem dX10_sortOf_59 : decode cX10_sortOf 59 = .ok (.bipush 61, 2) := dk_16 61 (dk_at dksX10_sortOf_2 12 rfl rfl)
theorem dX10_sortOf_61 : decode cX10_sortOf 61 = .ok (.if_icmp .eq 15, 3) := dk_159 0 15 (dk_at dksX10_sortOf_2 14 rfl rfl)
theorem dX10_sortOf_64 : decode cX10_sortOf 64 = .ok (.iload_n 0, 1) := dk_26 (dk_at dksX10_sortOf_2 17 rfl rfl)
theorem dX10_sortOf_65 : decode cX10_sortOf 65 = .ok (.bipush 60, 2) := dk_16 60 (dk_at dksX10_sortOf_2 18 rfl rfl)
theorem dX10_sortOf_67 : decode cX10_sortOf 67 = .ok (.if_icmp .eq 9, 3) := dk_159 0 9 (dk_at dksX10_sortOf_2 20 rfl rfl)
theorem dX10_sortOf_70 : decode cX10_sortOf 70 = .ok (.iload_n 0, 1) := dk_26 (dk_at dksX10_sortOf_2 23 rfl rfl)
theorem dX10_sortOf_71 : decode cX10_sortOf 71 = .ok (.bipush 62, 2) := dk_16 62 (dk_at dksX10_sortOf_3 0 rfl rfl)
theorem dX10_sortOf_73 : decode cX10_sortOf 73 = .ok (.if_icmp .ne 7, 3) := dk_160 0 7 (dk_at dksX10_sortOf_3 2 rfl rfl)
theorem dX10_sortOf_76 : decode cX10_sortOf 76 = .ok (.iload_n 0, 1) := dk_26 (dk_at dksX10_sortOf_3 5 rfl rfl)
theorem dX10_sortOf_77 : decode cX10_sortOf 77 = .ok (.goto 4, 3) := dk_167 0 4 (dk_at dksX10_sortOf_3 6 rfl rfl)
theorem dX10_sortOf_80 : decode cX10_sortOf 80 = .ok (.iconst 3, 1) := dk_6 (dk_at dksX10_sortOf_3 9 rfl rfl)
theorem dX10_sortOf_81 : decode cX10_sortOf 81 = .ok (.ireturn, 1) := dk_172 (dk_at dksX10_sortOf_3 10 rfl rfl)
abbrev cX10_reads : ByteArray := prog_17_method_58_code
def yX10_reads : MethodName := ⟨RX10, "reads", "()Z"⟩
def dkwX10_reads_1 : List UInt8 := [16, 59, 182, 0, 202, 154, 255, 236, 3, 172, 4, 172]
abbrev dktX10_reads_1 : List UInt8 := dkwX10_reads_1 ++ []
def dkwX10_reads_0 : List UInt8 := [42, 182, 1, 3, 154, 0, 5, 3, 172, 42, 180, 0, 144, 153, 0, 21, 42, 182, 1, 6, 153, 0, 12, 42]
abbrev dktX10_reads_0 : List UInt8 := dkwX10_reads_0 ++ dktX10_reads_1
theorem dksX10_reads_0 : cX10_reads.data.toList.drop 0 = dktX10_reads_0 := by decide +kernel
theorem dksX10_reads_1 : cX10_reads.data.toList.drop 24 = dktX10_reads_1 := dk_seg dksX10_reads_0 24 rfl rfl
theorem dX10_reads_0 : decode cX10_reads 0 = .ok (.aload_n 0, 1) := dk_42 (dk_at dksX10_reads_0 0 rfl rfl)
theorem dX10_reads_1 : decode cX10_reads 1 = .ok (.invokevirtual 259, 3) := dk_182 1 3 (dk_at dksX10_reads_0 1 rfl rfl)
theorem dX10_reads_4 : decode cX10_reads 4 = .ok (.ifCond .ne 5, 3) := dk_154 0 5 (dk_at dksX10_reads_0 4 rfl rfl)
theorem dX10_reads_7 : decode cX10_reads 7 = .ok (.iconst 0, 1) := dk_3 (dk_at dksX10_reads_0 7 rfl rfl)
theorem dX10_reads_8 : decode cX10_reads 8 = .ok (.ireturn, 1) := dk_172 (dk_at dksX10_reads_0 8 rfl rfl)
theorem dX10_reads_9 : decode cX10_reads 9 = .ok (.aload_n 0, 1) := dk_42 (dk_at dksX10_reads_0 9 rfl rfl)
theorem dX10_reads_10 : decode cX10_reads 10 = .ok (.getfield 144, 3) := dk_180 0 144 (dk_at dksX10_reads_0 10 rfl rfl)
theorem dX10_reads_13 : decode cX10_reads 13 = .ok (.ifCond .eq 21, 3) := dk_153 0 21 (dk_at dksX10_reads_0 13 rfl rfl)
theorem dX10_reads_16 : decode cX10_reads 16 = .ok (.aload_n 0, 1) := dk_42 (dk_at dksX10_reads_0 16 rfl rfl)
theorem dX10_reads_17 : decode cX10_reads 17 = .ok (.invokevirtual 262, 3) := dk_182 1 6 (dk_at dksX10_reads_0 17 rfl rfl)
theorem dX10_reads_20 : decode cX10_reads 20 = .ok (.ifCond .eq 12, 3) := dk_153 0 12 (dk_at dksX10_reads_0 20 rfl rfl)
theorem dX10_reads_23 : decode cX10_reads 23 = .ok (.aload_n 0, 1) := dk_42 (dk_at dksX10_reads_0 23 rfl rfl)
theorem dX10_reads_24 : decode cX10_reads 24 = .ok (.bipush 59, 2) := dk_16 59 (dk_at dksX10_reads_1 0 rfl rfl)
theorem dX10_reads_26 : decode cX10_reads 26 = .ok (.invokevirtual 202, 3) := dk_182 0 202 (dk_at dksX10_reads_1 2 rfl rfl)
theorem dX10_reads_29 : decode cX10_reads 29 = .ok (.ifCond .ne (-20), 3) := dk_154 255 236 (dk_at dksX10_reads_1 5 rfl rfl)
theorem dX10_reads_32 : decode cX10_reads 32 = .ok (.iconst 0, 1) := dk_3 (dk_at dksX10_reads_1 8 rfl rfl)
theorem dX10_reads_33 : decode cX10_reads 33 = .ok (.ireturn, 1) := dk_172 (dk_at dksX10_reads_1 9 rfl rfl)
theorem dX10_reads_34 : decode cX10_reads 34 = .ok (.iconst 1, 1) := dk_4 (dk_at dksX10_reads_1 10 rfl rfl)
theorem dX10_reads_35 : decode cX10_reads 35 = .ok (.ireturn, 1) := dk_172 (dk_at dksX10_reads_1 11 rfl rfl)
abbrev cX10_readsFacts : ByteArray := prog_17_method_57_code
def yX10_readsFacts : MethodName := ⟨RX10, "readsFacts", "()Z"⟩
def dkwX10_readsFacts_7 : List UInt8 := [180, 0, 7, 16, 6, 42, 180, 0, 167, 79, 42, 16, 59, 182, 0, 202, 172]
abbrev dktX10_readsFacts_7 : List UInt8 := dkwX10_readsFacts_7 ++ []
def dkwX10_readsFacts_6 : List UInt8 := [153, 0, 19, 42, 3, 42, 180, 0, 7, 8, 46, 4, 100, 182, 0, 182, 154, 0, 5, 3, 172, 42]
abbrev dktX10_readsFacts_6 : List UInt8 := dkwX10_readsFacts_6 ++ dktX10_readsFacts_7
def dkwX10_readsFacts_5 : List UInt8 := [154, 0, 5, 3, 172, 42, 180, 0, 7, 8, 42, 180, 0, 167, 79, 42, 19, 1, 1, 182, 0, 228]
abbrev dktX10_readsFacts_5 : List UInt8 := dkwX10_readsFacts_5 ++ dktX10_readsFacts_6
def dkwX10_readsFacts_4 : List UInt8 := [16, 59, 182, 0, 202, 153, 0, 21, 42, 18, 255, 182, 0, 228, 153, 0, 12, 42, 4, 7, 182, 0, 182]
abbrev dktX10_readsFacts_4 : List UInt8 := dkwX10_readsFacts_4 ++ dktX10_readsFacts_5
def dkwX10_readsFacts_3 : List UInt8 := [96, 79, 42, 182, 0, 164, 42, 180, 0, 144, 5, 160, 0, 7, 4, 167, 0, 4, 3, 60, 167, 255, 180, 42]
abbrev dktX10_readsFacts_3 : List UInt8 := dkwX10_readsFacts_3 ++ dktX10_readsFacts_4
def dkwX10_readsFacts_2 : List UInt8 := [180, 0, 7, 4, 42, 180, 0, 7, 3, 46, 96, 42, 180, 0, 167, 79, 42, 180, 0, 7, 3, 92, 46, 4]
abbrev dktX10_readsFacts_2 : List UInt8 := dkwX10_readsFacts_2 ++ dktX10_readsFacts_3
def dkwX10_readsFacts_1 : List UInt8 := [154, 0, 5, 3, 172, 42, 180, 0, 7, 3, 46, 7, 160, 0, 9, 42, 7, 182, 0, 160, 172, 42]
abbrev dktX10_readsFacts_1 : List UInt8 := dkwX10_readsFacts_1 ++ dktX10_readsFacts_2
def dkwX10_readsFacts_0 : List UInt8 := [42, 18, 253, 182, 0, 228, 154, 0, 5, 3, 172, 4, 60, 27, 153, 0, 78, 42, 5, 7, 182, 0, 170]
abbrev dktX10_readsFacts_0 : List UInt8 := dkwX10_readsFacts_0 ++ dktX10_readsFacts_1
theorem dksX10_readsFacts_0 : cX10_readsFacts.data.toList.drop 0 = dktX10_readsFacts_0 := by decide +kernel
theorem dksX10_readsFacts_1 : cX10_readsFacts.data.toList.drop 23 = dktX10_readsFacts_1 := dk_seg dksX10_readsFacts_0 23 rfl rfl
theorem dksX10_readsFacts_2 : cX10_readsFacts.data.toList.drop 45 = dktX10_readsFacts_2 := dk_seg dksX10_readsFacts_1 22 rfl rfl
theorem dksX10_readsFacts_3 : cX10_readsFacts.data.toList.drop 69 = dktX10_readsFacts_3 := dk_seg dksX10_readsFacts_2 24 rfl rfl
theorem dksX10_readsFacts_4 : cX10_readsFacts.data.toList.drop 93 = dktX10_readsFacts_4 := dk_seg dksX10_readsFacts_3 24 rfl rfl
theorem dksX10_readsFacts_5 : cX10_readsFacts.data.toList.drop 116 = dktX10_readsFacts_5 := dk_seg dksX10_readsFacts_4 23 rfl rfl
theorem dksX10_readsFacts_6 : cX10_readsFacts.data.toList.drop 138 = dktX10_readsFacts_6 := dk_seg dksX10_readsFacts_5 22 rfl rfl
theorem dksX10_readsFacts_7 : cX10_readsFacts.data.toList.drop 160 = dktX10_readsFacts_7 := dk_seg dksX10_readsFacts_6 22 rfl rfl
theorem dX10_readsFacts_0 : decode cX10_readsFacts 0 = .ok (.aload_n 0, 1) := dk_42 (dk_at dksX10_readsFacts_0 0 rfl rfl)
theorem dX10_readsFacts_1 : decode cX10_readsFacts 1 = .ok (.ldc 253, 2) := dk_18 253 (dk_at dksX10_readsFacts_0 1 rfl rfl)
theorem dX10_readsFacts_3 : decode cX10_readsFacts 3 = .ok (.invokevirtual 228, 3) := dk_182 0 228 (dk_at dksX10_readsFacts_0 3 rfl rfl)
theorem dX10_readsFacts_6 : decode cX10_readsFacts 6 = .ok (.ifCond .ne 5, 3) := dk_154 0 5 (dk_at dksX10_readsFacts_0 6 rfl rfl)
theorem dX10_readsFacts_9 : decode cX10_readsFacts 9 = .ok (.iconst 0, 1) := dk_3 (dk_at dksX10_readsFacts_0 9 rfl rfl)
theorem dX10_readsFacts_10 : decode cX10_readsFacts 10 = .ok (.ireturn, 1) := dk_172 (dk_at dksX10_readsFacts_0 10 rfl rfl)
theorem dX10_readsFacts_11 : decode cX10_readsFacts 11 = .ok (.iconst 1, 1) := dk_4 (dk_at dksX10_readsFacts_0 11 rfl rfl)
theorem dX10_readsFacts_12 : decode cX10_readsFacts 12 = .ok (.istore_n 1, 1) := dk_60 (dk_at dksX10_readsFacts_0 12 rfl rfl)
theorem dX10_readsFacts_13 : decode cX10_readsFacts 13 = .ok (.iload_n 1, 1) := dk_27 (dk_at dksX10_readsFacts_0 13 rfl rfl)
theorem dX10_readsFacts_14 : decode cX10_readsFacts 14 = .ok (.ifCond .eq 78, 3) := dk_153 0 78 (dk_at dksX10_readsFacts_0 14 rfl rfl)
theorem dX10_readsFacts_17 : decode cX10_readsFacts 17 = .ok (.aload_n 0, 1) := dk_42 (dk_at dksX10_readsFacts_0 17 rfl rfl)
theorem dX10_readsFacts_18 : decode cX10_readsFacts 18 = .ok (.iconst 2, 1) := dk_5 (dk_at dksX10_readsFacts_0 18 rfl rfl)
theorem dX10_readsFacts_19 : decode cX10_readsFacts 19 = .ok (.iconst 4, 1) := dk_7 (dk_at dksX10_readsFacts_0 19 rfl rfl)
theorem dX10_readsFacts_20 : decode cX10_readsFacts 20 = .ok (.invokevirtual 170, 3) := dk_182 0 170 (dk_at dksX10_readsFacts_0 20 rfl rfl)
theorem dX10_readsFacts_23 : decode cX10_readsFacts 23 = .ok (.ifCond .ne 5, 3) := dk_154 0 5 (dk_at dksX10_readsFacts_1 0 rfl rfl)
theorem dX10_readsFacts_26 : decode cX10_readsFacts 26 = .ok (.iconst 0, 1) := dk_3 (dk_at dksX10_readsFacts_1 3 rfl rfl)
theorem dX10_readsFacts_27 : decode cX10_readsFacts 27 = .ok (.ireturn, 1) := dk_172 (dk_at dksX10_readsFacts_1 4 rfl rfl)
theorem dX10_readsFacts_28 : decode cX10_readsFacts 28 = .ok (.aload_n 0, 1) := dk_42 (dk_at dksX10_readsFacts_1 5 rfl rfl)
theorem dX10_readsFacts_29 : decode cX10_readsFacts 29 = .ok (.getfield 7, 3) := dk_180 0 7 (dk_at dksX10_readsFacts_1 6 rfl rfl)
theorem dX10_readsFacts_32 : decode cX10_readsFacts 32 = .ok (.iconst 0, 1) := dk_3 (dk_at dksX10_readsFacts_1 9 rfl rfl)
theorem dX10_readsFacts_33 : decode cX10_readsFacts 33 = .ok (.iaload, 1) := dk_46 (dk_at dksX10_readsFacts_1 10 rfl rfl)
theorem dX10_readsFacts_34 : decode cX10_readsFacts 34 = .ok (.iconst 4, 1) := dk_7 (dk_at dksX10_readsFacts_1 11 rfl rfl)
theorem dX10_readsFacts_35 : decode cX10_readsFacts 35 = .ok (.if_icmp .ne 9, 3) := dk_160 0 9 (dk_at dksX10_readsFacts_1 12 rfl rfl)
theorem dX10_readsFacts_38 : decode cX10_readsFacts 38 = .ok (.aload_n 0, 1) := dk_42 (dk_at dksX10_readsFacts_1 15 rfl rfl)
theorem dX10_readsFacts_39 : decode cX10_readsFacts 39 = .ok (.iconst 4, 1) := dk_7 (dk_at dksX10_readsFacts_1 16 rfl rfl)
theorem dX10_readsFacts_40 : decode cX10_readsFacts 40 = .ok (.invokevirtual 160, 3) := dk_182 0 160 (dk_at dksX10_readsFacts_1 17 rfl rfl)
theorem dX10_readsFacts_43 : decode cX10_readsFacts 43 = .ok (.ireturn, 1) := dk_172 (dk_at dksX10_readsFacts_1 20 rfl rfl)
theorem dX10_readsFacts_44 : decode cX10_readsFacts 44 = .ok (.aload_n 0, 1) := dk_42 (dk_at dksX10_readsFacts_1 21 rfl rfl)
theorem dX10_readsFacts_45 : decode cX10_readsFacts 45 = .ok (.getfield 7, 3) := dk_180 0 7 (dk_at dksX10_readsFacts_2 0 rfl rfl)
theorem dX10_readsFacts_48 : decode cX10_readsFacts 48 = .ok (.iconst 1, 1) := dk_4 (dk_at dksX10_readsFacts_2 3 rfl rfl)
theorem dX10_readsFacts_49 : decode cX10_readsFacts 49 = .ok (.aload_n 0, 1) := dk_42 (dk_at dksX10_readsFacts_2 4 rfl rfl)
theorem dX10_readsFacts_50 : decode cX10_readsFacts 50 = .ok (.getfield 7, 3) := dk_180 0 7 (dk_at dksX10_readsFacts_2 5 rfl rfl)
theorem dX10_readsFacts_53 : decode cX10_readsFacts 53 = .ok (.iconst 0, 1) := dk_3 (dk_at dksX10_readsFacts_2 8 rfl rfl)
theorem dX10_readsFacts_54 : decode cX10_readsFacts 54 = .ok (.iaload, 1) := dk_46 (dk_at dksX10_readsFacts_2 9 rfl rfl)
theorem dX10_readsFacts_55 : decode cX10_readsFacts 55 = .ok (.iadd, 1) := dk_96 (dk_at dksX10_readsFacts_2 10 rfl rfl)
theorem dX10_readsFacts_56 : decode cX10_readsFacts 56 = .ok (.aload_n 0, 1) := dk_42 (dk_at dksX10_readsFacts_2 11 rfl rfl)
theorem dX10_readsFacts_57 : decode cX10_readsFacts 57 = .ok (.getfield 167, 3) := dk_180 0 167 (dk_at dksX10_readsFacts_2 12 rfl rfl)
theorem dX10_readsFacts_60 : decode cX10_readsFacts 60 = .ok (.iastore, 1) := dk_79 (dk_at dksX10_readsFacts_2 15 rfl rfl)
theorem dX10_readsFacts_61 : decode cX10_readsFacts 61 = .ok (.aload_n 0, 1) := dk_42 (dk_at dksX10_readsFacts_2 16 rfl rfl)
theorem dX10_readsFacts_62 : decode cX10_readsFacts 62 = .ok (.getfield 7, 3) := dk_180 0 7 (dk_at dksX10_readsFacts_2 17 rfl rfl)
theorem dX10_readsFacts_65 : decode cX10_readsFacts 65 = .ok (.iconst 0, 1) := dk_3 (dk_at dksX10_readsFacts_2 20 rfl rfl)
theorem dX10_readsFacts_66 : decode cX10_readsFacts 66 = .ok (.dup2, 1) := dk_92 (dk_at dksX10_readsFacts_2 21 rfl rfl)
theorem dX10_readsFacts_67 : decode cX10_readsFacts 67 = .ok (.iaload, 1) := dk_46 (dk_at dksX10_readsFacts_2 22 rfl rfl)
theorem dX10_readsFacts_68 : decode cX10_readsFacts 68 = .ok (.iconst 1, 1) := dk_4 (dk_at dksX10_readsFacts_2 23 rfl rfl)
theorem dX10_readsFacts_69 : decode cX10_readsFacts 69 = .ok (.iadd, 1) := dk_96 (dk_at dksX10_readsFacts_3 0 rfl rfl)
theorem dX10_readsFacts_70 : decode cX10_readsFacts 70 = .ok (.iastore, 1) := dk_79 (dk_at dksX10_readsFacts_3 1 rfl rfl)
theorem dX10_readsFacts_71 : decode cX10_readsFacts 71 = .ok (.aload_n 0, 1) := dk_42 (dk_at dksX10_readsFacts_3 2 rfl rfl)
theorem dX10_readsFacts_72 : decode cX10_readsFacts 72 = .ok (.invokevirtual 164, 3) := dk_182 0 164 (dk_at dksX10_readsFacts_3 3 rfl rfl)
theorem dX10_readsFacts_75 : decode cX10_readsFacts 75 = .ok (.aload_n 0, 1) := dk_42 (dk_at dksX10_readsFacts_3 6 rfl rfl)
theorem dX10_readsFacts_76 : decode cX10_readsFacts 76 = .ok (.getfield 144, 3) := dk_180 0 144 (dk_at dksX10_readsFacts_3 7 rfl rfl)
theorem dX10_readsFacts_79 : decode cX10_readsFacts 79 = .ok (.iconst 2, 1) := dk_5 (dk_at dksX10_readsFacts_3 10 rfl rfl)
theorem dX10_readsFacts_80 : decode cX10_readsFacts 80 = .ok (.if_icmp .ne 7, 3) := dk_160 0 7 (dk_at dksX10_readsFacts_3 11 rfl rfl)
theorem dX10_readsFacts_83 : decode cX10_readsFacts 83 = .ok (.iconst 1, 1) := dk_4 (dk_at dksX10_readsFacts_3 14 rfl rfl)
theorem dX10_readsFacts_84 : decode cX10_readsFacts 84 = .ok (.goto 4, 3) := dk_167 0 4 (dk_at dksX10_readsFacts_3 15 rfl rfl)
theorem dX10_readsFacts_87 : decode cX10_readsFacts 87 = .ok (.iconst 0, 1) := dk_3 (dk_at dksX10_readsFacts_3 18 rfl rfl)
theorem dX10_readsFacts_88 : decode cX10_readsFacts 88 = .ok (.istore_n 1, 1) := dk_60 (dk_at dksX10_readsFacts_3 19 rfl rfl)
theorem dX10_readsFacts_89 : decode cX10_readsFacts 89 = .ok (.goto (-76), 3) := dk_167 255 180 (dk_at dksX10_readsFacts_3 20 rfl rfl)
theorem dX10_readsFacts_92 : decode cX10_readsFacts 92 = .ok (.aload_n 0, 1) := dk_42 (dk_at dksX10_readsFacts_3 23 rfl rfl)
theorem dX10_readsFacts_93 : decode cX10_readsFacts 93 = .ok (.bipush 59, 2) := dk_16 59 (dk_at dksX10_readsFacts_4 0 rfl rfl)
theorem dX10_readsFacts_95 : decode cX10_readsFacts 95 = .ok (.invokevirtual 202, 3) := dk_182 0 202 (dk_at dksX10_readsFacts_4 2 rfl rfl)
theorem dX10_readsFacts_98 : decode cX10_readsFacts 98 = .ok (.ifCond .eq 21, 3) := dk_153 0 21 (dk_at dksX10_readsFacts_4 5 rfl rfl)
theorem dX10_readsFacts_101 : decode cX10_readsFacts 101 = .ok (.aload_n 0, 1) := dk_42 (dk_at dksX10_readsFacts_4 8 rfl rfl)
theorem dX10_readsFacts_102 : decode cX10_readsFacts 102 = .ok (.ldc 255, 2) := dk_18 255 (dk_at dksX10_readsFacts_4 9 rfl rfl)
theorem dX10_readsFacts_104 : decode cX10_readsFacts 104 = .ok (.invokevirtual 228, 3) := dk_182 0 228 (dk_at dksX10_readsFacts_4 11 rfl rfl)
theorem dX10_readsFacts_107 : decode cX10_readsFacts 107 = .ok (.ifCond .eq 12, 3) := dk_153 0 12 (dk_at dksX10_readsFacts_4 14 rfl rfl)
theorem dX10_readsFacts_110 : decode cX10_readsFacts 110 = .ok (.aload_n 0, 1) := dk_42 (dk_at dksX10_readsFacts_4 17 rfl rfl)
theorem dX10_readsFacts_111 : decode cX10_readsFacts 111 = .ok (.iconst 1, 1) := dk_4 (dk_at dksX10_readsFacts_4 18 rfl rfl)
theorem dX10_readsFacts_112 : decode cX10_readsFacts 112 = .ok (.iconst 4, 1) := dk_7 (dk_at dksX10_readsFacts_4 19 rfl rfl)
theorem dX10_readsFacts_113 : decode cX10_readsFacts 113 = .ok (.invokevirtual 182, 3) := dk_182 0 182 (dk_at dksX10_readsFacts_4 20 rfl rfl)
theorem dX10_readsFacts_116 : decode cX10_readsFacts 116 = .ok (.ifCond .ne 5, 3) := dk_154 0 5 (dk_at dksX10_readsFacts_5 0 rfl rfl)
theorem dX10_readsFacts_119 : decode cX10_readsFacts 119 = .ok (.iconst 0, 1) := dk_3 (dk_at dksX10_readsFacts_5 3 rfl rfl)
theorem dX10_readsFacts_120 : decode cX10_readsFacts 120 = .ok (.ireturn, 1) := dk_172 (dk_at dksX10_readsFacts_5 4 rfl rfl)
theorem dX10_readsFacts_121 : decode cX10_readsFacts 121 = .ok (.aload_n 0, 1) := dk_42 (dk_at dksX10_readsFacts_5 5 rfl rfl)
theorem dX10_readsFacts_122 : decode cX10_readsFacts 122 = .ok (.getfield 7, 3) := dk_180 0 7 (dk_at dksX10_readsFacts_5 6 rfl rfl)
theorem dX10_readsFacts_125 : decode cX10_readsFacts 125 = .ok (.iconst 5, 1) := dk_8 (dk_at dksX10_readsFacts_5 9 rfl rfl)
theorem dX10_readsFacts_126 : decode cX10_readsFacts 126 = .ok (.aload_n 0, 1) := dk_42 (dk_at dksX10_readsFacts_5 10 rfl rfl)
theorem dX10_readsFacts_127 : decode cX10_readsFacts 127 = .ok (.getfield 167, 3) := dk_180 0 167 (dk_at dksX10_readsFacts_5 11 rfl rfl)
theorem dX10_readsFacts_130 : decode cX10_readsFacts 130 = .ok (.iastore, 1) := dk_79 (dk_at dksX10_readsFacts_5 14 rfl rfl)
theorem dX10_readsFacts_131 : decode cX10_readsFacts 131 = .ok (.aload_n 0, 1) := dk_42 (dk_at dksX10_readsFacts_5 15 rfl rfl)
theorem dX10_readsFacts_132 : decode cX10_readsFacts 132 = .ok (.ldc_w 257, 3) := dk_19 1 1 (dk_at dksX10_readsFacts_5 16 rfl rfl)
theorem dX10_readsFacts_135 : decode cX10_readsFacts 135 = .ok (.invokevirtual 228, 3) := dk_182 0 228 (dk_at dksX10_readsFacts_5 19 rfl rfl)
theorem dX10_readsFacts_138 : decode cX10_readsFacts 138 = .ok (.ifCond .eq 19, 3) := dk_153 0 19 (dk_at dksX10_readsFacts_6 0 rfl rfl)
theorem dX10_readsFacts_141 : decode cX10_readsFacts 141 = .ok (.aload_n 0, 1) := dk_42 (dk_at dksX10_readsFacts_6 3 rfl rfl)
theorem dX10_readsFacts_142 : decode cX10_readsFacts 142 = .ok (.iconst 0, 1) := dk_3 (dk_at dksX10_readsFacts_6 4 rfl rfl)
theorem dX10_readsFacts_143 : decode cX10_readsFacts 143 = .ok (.aload_n 0, 1) := dk_42 (dk_at dksX10_readsFacts_6 5 rfl rfl)
theorem dX10_readsFacts_144 : decode cX10_readsFacts 144 = .ok (.getfield 7, 3) := dk_180 0 7 (dk_at dksX10_readsFacts_6 6 rfl rfl)
theorem dX10_readsFacts_147 : decode cX10_readsFacts 147 = .ok (.iconst 5, 1) := dk_8 (dk_at dksX10_readsFacts_6 9 rfl rfl)
theorem dX10_readsFacts_148 : decode cX10_readsFacts 148 = .ok (.iaload, 1) := dk_46 (dk_at dksX10_readsFacts_6 10 rfl rfl)
theorem dX10_readsFacts_149 : decode cX10_readsFacts 149 = .ok (.iconst 1, 1) := dk_4 (dk_at dksX10_readsFacts_6 11 rfl rfl)
theorem dX10_readsFacts_150 : decode cX10_readsFacts 150 = .ok (.isub, 1) := dk_100 (dk_at dksX10_readsFacts_6 12 rfl rfl)
theorem dX10_readsFacts_151 : decode cX10_readsFacts 151 = .ok (.invokevirtual 182, 3) := dk_182 0 182 (dk_at dksX10_readsFacts_6 13 rfl rfl)
theorem dX10_readsFacts_154 : decode cX10_readsFacts 154 = .ok (.ifCond .ne 5, 3) := dk_154 0 5 (dk_at dksX10_readsFacts_6 16 rfl rfl)
theorem dX10_readsFacts_157 : decode cX10_readsFacts 157 = .ok (.iconst 0, 1) := dk_3 (dk_at dksX10_readsFacts_6 19 rfl rfl)
theorem dX10_readsFacts_158 : decode cX10_readsFacts 158 = .ok (.ireturn, 1) := dk_172 (dk_at dksX10_readsFacts_6 20 rfl rfl)
theorem dX10_readsFacts_159 : decode cX10_readsFacts 159 = .ok (.aload_n 0, 1) := dk_42 (dk_at dksX10_readsFacts_6 21 rfl rfl)
theorem dX10_readsFacts_160 : decode cX10_readsFacts 160 = .ok (.getfield 7, 3) := dk_180 0 7 (dk_at dksX10_readsFacts_7 0 rfl rfl)
theorem dX10_readsFacts_163 : decode cX10_readsFacts 163 = .ok (.bipush 6, 2) := dk_16 6 (dk_at dksX10_readsFacts_7 3 rfl rfl)
theorem dX10_readsFacts_165 : decode cX10_readsFacts 165 = .ok (.aload_n 0, 1) := dk_42 (dk_at dksX10_readsFacts_7 5 rfl rfl)
theorem dX10_readsFacts_166 : decode cX10_readsFacts 166 = .ok (.getfield 167, 3) := dk_180 0 167 (dk_at dksX10_readsFacts_7 6 rfl rfl)
theorem dX10_readsFacts_169 : decode cX10_readsFacts 169 = .ok (.iastore, 1) := dk_79 (dk_at dksX10_readsFacts_7 9 rfl rfl)
theorem dX10_readsFacts_170 : decode cX10_readsFacts 170 = .ok (.aload_n 0, 1) := dk_42 (dk_at dksX10_readsFacts_7 10 rfl rfl)
theorem dX10_readsFacts_171 : decode cX10_readsFacts 171 = .ok (.bipush 59, 2) := dk_16 59 (dk_at dksX10_readsFacts_7 11 rfl rfl)
theorem dX10_readsFacts_173 : decode cX10_readsFacts 173 = .ok (.invokevirtual 202, 3) := dk_182 0 202 (dk_at dksX10_readsFacts_7 13 rfl rfl)
theorem dX10_readsFacts_176 : decode cX10_readsFacts 176 = .ok (.ireturn, 1) := dk_172 (dk_at dksX10_readsFacts_7 16 rfl rfl)
abbrev cX10_word : ByteArray := prog_17_method_42_code
def yX10_word : MethodName := ⟨RX10, "word", "(Ljava/lang/String;)Z"⟩
def dkwX10_word_0 : List UInt8 := [42, 43, 182, 0, 156, 154, 0, 9, 42, 4, 182, 0, 160, 172, 42, 182, 0, 164, 4, 172]
abbrev dktX10_word_0 : List UInt8 := dkwX10_word_0 ++ []
theorem dksX10_word_0 : cX10_word.data.toList.drop 0 = dktX10_word_0 := by decide +kernel
theorem dX10_word_0 : decode cX10_word 0 = .ok (.aload_n 0, 1) := dk_42 (dk_at dksX10_word_0 0 rfl rfl)
theorem dX10_word_1 : decode cX10_word 1 = .ok (.aload_n 1, 1) := dk_43 (dk_at dksX10_word_0 1 rfl rfl)
theorem dX10_word_2 : decode cX10_word 2 = .ok (.invokevirtual 156, 3) := dk_182 0 156 (dk_at dksX10_word_0 2 rfl rfl)
theorem dX10_word_5 : decode cX10_word 5 = .ok (.ifCond .ne 9, 3) := dk_154 0 9 (dk_at dksX10_word_0 5 rfl rfl)
theorem dX10_word_8 : decode cX10_word 8 = .ok (.aload_n 0, 1) := dk_42 (dk_at dksX10_word_0 8 rfl rfl)
theorem dX10_word_9 : decode cX10_word 9 = .ok (.iconst 1, 1) := dk_4 (dk_at dksX10_word_0 9 rfl rfl)
theorem dX10_word_10 : decode cX10_word 10 = .ok (.invokevirtual 160, 3) := dk_182 0 160 (dk_at dksX10_word_0 10 rfl rfl)
theorem dX10_word_13 : decode cX10_word 13 = .ok (.ireturn, 1) := dk_172 (dk_at dksX10_word_0 13 rfl rfl)
theorem dX10_word_14 : decode cX10_word 14 = .ok (.aload_n 0, 1) := dk_42 (dk_at dksX10_word_0 14 rfl rfl)
theorem dX10_word_15 : decode cX10_word 15 = .ok (.invokevirtual 164, 3) := dk_182 0 164 (dk_at dksX10_word_0 15 rfl rfl)
theorem dX10_word_18 : decode cX10_word 18 = .ok (.iconst 1, 1) := dk_4 (dk_at dksX10_word_0 18 rfl rfl)
theorem dX10_word_19 : decode cX10_word 19 = .ok (.ireturn, 1) := dk_172 (dk_at dksX10_word_0 19 rfl rfl)
abbrev cX10_says : ByteArray := prog_17_method_40_code
def yX10_says : MethodName := ⟨RX10, "says", "(Ljava/lang/String;)Z"⟩
def dkwX10_says_2 : List UInt8 := [28, 182, 0, 118, 159, 0, 5, 3, 172, 132, 2, 1, 167, 255, 224, 4, 172]
abbrev dktX10_says_2 : List UInt8 := dkwX10_says_2 ++ []
def dkwX10_says_1 : List UInt8 := [3, 172, 3, 61, 28, 43, 182, 0, 110, 162, 0, 30, 42, 180, 0, 28, 42, 180, 0, 141, 28, 96, 46, 43]
abbrev dktX10_says_1 : List UInt8 := dkwX10_says_1 ++ dktX10_says_2
def dkwX10_says_0 : List UInt8 := [42, 180, 0, 144, 4, 160, 0, 19, 42, 180, 0, 138, 42, 180, 0, 141, 100, 43, 182, 0, 110, 159, 0, 5]
abbrev dktX10_says_0 : List UInt8 := dkwX10_says_0 ++ dktX10_says_1
theorem dksX10_says_0 : cX10_says.data.toList.drop 0 = dktX10_says_0 := by decide +kernel
theorem dksX10_says_1 : cX10_says.data.toList.drop 24 = dktX10_says_1 := dk_seg dksX10_says_0 24 rfl rfl
theorem dksX10_says_2 : cX10_says.data.toList.drop 48 = dktX10_says_2 := dk_seg dksX10_says_1 24 rfl rfl
theorem dX10_says_0 : decode cX10_says 0 = .ok (.aload_n 0, 1) := dk_42 (dk_at dksX10_says_0 0 rfl rfl)
theorem dX10_says_1 : decode cX10_says 1 = .ok (.getfield 144, 3) := dk_180 0 144 (dk_at dksX10_says_0 1 rfl rfl)
theorem dX10_says_4 : decode cX10_says 4 = .ok (.iconst 1, 1) := dk_4 (dk_at dksX10_says_0 4 rfl rfl)
theorem dX10_says_5 : decode cX10_says 5 = .ok (.if_icmp .ne 19, 3) := dk_160 0 19 (dk_at dksX10_says_0 5 rfl rfl)
theorem dX10_says_8 : decode cX10_says 8 = .ok (.aload_n 0, 1) := dk_42 (dk_at dksX10_says_0 8 rfl rfl)
theorem dX10_says_9 : decode cX10_says 9 = .ok (.getfield 138, 3) := dk_180 0 138 (dk_at dksX10_says_0 9 rfl rfl)
theorem dX10_says_12 : decode cX10_says 12 = .ok (.aload_n 0, 1) := dk_42 (dk_at dksX10_says_0 12 rfl rfl)
theorem dX10_says_13 : decode cX10_says 13 = .ok (.getfield 141, 3) := dk_180 0 141 (dk_at dksX10_says_0 13 rfl rfl)
theorem dX10_says_16 : decode cX10_says 16 = .ok (.isub, 1) := dk_100 (dk_at dksX10_says_0 16 rfl rfl)
theorem dX10_says_17 : decode cX10_says 17 = .ok (.aload_n 1, 1) := dk_43 (dk_at dksX10_says_0 17 rfl rfl)
theorem dX10_says_18 : decode cX10_says 18 = .ok (.invokevirtual 110, 3) := dk_182 0 110 (dk_at dksX10_says_0 18 rfl rfl)
theorem dX10_says_21 : decode cX10_says 21 = .ok (.if_icmp .eq 5, 3) := dk_159 0 5 (dk_at dksX10_says_0 21 rfl rfl)
theorem dX10_says_24 : decode cX10_says 24 = .ok (.iconst 0, 1) := dk_3 (dk_at dksX10_says_1 0 rfl rfl)
theorem dX10_says_25 : decode cX10_says 25 = .ok (.ireturn, 1) := dk_172 (dk_at dksX10_says_1 1 rfl rfl)
theorem dX10_says_26 : decode cX10_says 26 = .ok (.iconst 0, 1) := dk_3 (dk_at dksX10_says_1 2 rfl rfl)
theorem dX10_says_27 : decode cX10_says 27 = .ok (.istore_n 2, 1) := dk_61 (dk_at dksX10_says_1 3 rfl rfl)
theorem dX10_says_28 : decode cX10_says 28 = .ok (.iload_n 2, 1) := dk_28 (dk_at dksX10_says_1 4 rfl rfl)
theorem dX10_says_29 : decode cX10_says 29 = .ok (.aload_n 1, 1) := dk_43 (dk_at dksX10_says_1 5 rfl rfl)
theorem dX10_says_30 : decode cX10_says 30 = .ok (.invokevirtual 110, 3) := dk_182 0 110 (dk_at dksX10_says_1 6 rfl rfl)
theorem dX10_says_33 : decode cX10_says 33 = .ok (.if_icmp .ge 30, 3) := dk_162 0 30 (dk_at dksX10_says_1 9 rfl rfl)
theorem dX10_says_36 : decode cX10_says 36 = .ok (.aload_n 0, 1) := dk_42 (dk_at dksX10_says_1 12 rfl rfl)
theorem dX10_says_37 : decode cX10_says 37 = .ok (.getfield 28, 3) := dk_180 0 28 (dk_at dksX10_says_1 13 rfl rfl)
theorem dX10_says_40 : decode cX10_says 40 = .ok (.aload_n 0, 1) := dk_42 (dk_at dksX10_says_1 16 rfl rfl)
theorem dX10_says_41 : decode cX10_says 41 = .ok (.getfield 141, 3) := dk_180 0 141 (dk_at dksX10_says_1 17 rfl rfl)
theorem dX10_says_44 : decode cX10_says 44 = .ok (.iload_n 2, 1) := dk_28 (dk_at dksX10_says_1 20 rfl rfl)
theorem dX10_says_45 : decode cX10_says 45 = .ok (.iadd, 1) := dk_96 (dk_at dksX10_says_1 21 rfl rfl)
theorem dX10_says_46 : decode cX10_says 46 = .ok (.iaload, 1) := dk_46 (dk_at dksX10_says_1 22 rfl rfl)
theorem dX10_says_47 : decode cX10_says 47 = .ok (.aload_n 1, 1) := dk_43 (dk_at dksX10_says_1 23 rfl rfl)
theorem dX10_says_48 : decode cX10_says 48 = .ok (.iload_n 2, 1) := dk_28 (dk_at dksX10_says_2 0 rfl rfl)
theorem dX10_says_49 : decode cX10_says 49 = .ok (.invokevirtual 118, 3) := dk_182 0 118 (dk_at dksX10_says_2 1 rfl rfl)
theorem dX10_says_52 : decode cX10_says 52 = .ok (.if_icmp .eq 5, 3) := dk_159 0 5 (dk_at dksX10_says_2 4 rfl rfl)
theorem dX10_says_55 : decode cX10_says 55 = .ok (.iconst 0, 1) := dk_3 (dk_at dksX10_says_2 7 rfl rfl)
theorem dX10_says_56 : decode cX10_says 56 = .ok (.ireturn, 1) := dk_172 (dk_at dksX10_says_2 8 rfl rfl)
theorem dX10_says_57 : decode cX10_says 57 = .ok (.iinc 2 1, 3) := dk_132 2 1 (dk_at dksX10_says_2 9 rfl rfl)
theorem dX10_says_60 : decode cX10_says 60 = .ok (.goto (-32), 3) := dk_167 255 224 (dk_at dksX10_says_2 12 rfl rfl)
theorem dX10_says_63 : decode cX10_says 63 = .ok (.iconst 1, 1) := dk_4 (dk_at dksX10_says_2 15 rfl rfl)
theorem dX10_says_64 : decode cX10_says 64 = .ok (.ireturn, 1) := dk_172 (dk_at dksX10_says_2 16 rfl rfl)
abbrev cX10_fail : ByteArray := prog_17_method_41_code
def yX10_fail : MethodName := ⟨RX10, "fail", "(I)Z"⟩
def dkwX10_fail_0 : List UInt8 := [42, 180, 0, 153, 154, 0, 16, 42, 16, 8, 42, 180, 0, 141, 104, 27, 96, 181, 0, 153, 3, 172]
abbrev dktX10_fail_0 : List UInt8 := dkwX10_fail_0 ++ []
theorem dksX10_fail_0 : cX10_fail.data.toList.drop 0 = dktX10_fail_0 := by decide +kernel
theorem dX10_fail_0 : decode cX10_fail 0 = .ok (.aload_n 0, 1) := dk_42 (dk_at dksX10_fail_0 0 rfl rfl)
theorem dX10_fail_1 : decode cX10_fail 1 = .ok (.getfield 153, 3) := dk_180 0 153 (dk_at dksX10_fail_0 1 rfl rfl)
theorem dX10_fail_4 : decode cX10_fail 4 = .ok (.ifCond .ne 16, 3) := dk_154 0 16 (dk_at dksX10_fail_0 4 rfl rfl)
theorem dX10_fail_7 : decode cX10_fail 7 = .ok (.aload_n 0, 1) := dk_42 (dk_at dksX10_fail_0 7 rfl rfl)
theorem dX10_fail_8 : decode cX10_fail 8 = .ok (.bipush 8, 2) := dk_16 8 (dk_at dksX10_fail_0 8 rfl rfl)
theorem dX10_fail_10 : decode cX10_fail 10 = .ok (.aload_n 0, 1) := dk_42 (dk_at dksX10_fail_0 10 rfl rfl)
theorem dX10_fail_11 : decode cX10_fail 11 = .ok (.getfield 141, 3) := dk_180 0 141 (dk_at dksX10_fail_0 11 rfl rfl)
theorem dX10_fail_14 : decode cX10_fail 14 = .ok (.imul, 1) := dk_104 (dk_at dksX10_fail_0 14 rfl rfl)
theorem dX10_fail_15 : decode cX10_fail 15 = .ok (.iload_n 1, 1) := dk_27 (dk_at dksX10_fail_0 15 rfl rfl)
theorem dX10_fail_16 : decode cX10_fail 16 = .ok (.iadd, 1) := dk_96 (dk_at dksX10_fail_0 16 rfl rfl)
theorem dX10_fail_17 : decode cX10_fail 17 = .ok (.putfield 153, 3) := dk_181 0 153 (dk_at dksX10_fail_0 17 rfl rfl)
theorem dX10_fail_20 : decode cX10_fail 20 = .ok (.iconst 0, 1) := dk_3 (dk_at dksX10_fail_0 20 rfl rfl)
theorem dX10_fail_21 : decode cX10_fail 21 = .ok (.ireturn, 1) := dk_172 (dk_at dksX10_fail_0 21 rfl rfl)
abbrev cX10_isNumber : ByteArray := prog_17_method_44_code
def yX10_isNumber : MethodName := ⟨RX10, "isNumber", "(II)Z"⟩
def dkwX10_isNumber_1 : List UInt8 := [154, 0, 9, 42, 5, 182, 0, 160, 172, 42, 42, 180, 0, 150, 181, 0, 167, 4, 172]
abbrev dktX10_isNumber_1 : List UInt8 := dkwX10_isNumber_1 ++ []
def dkwX10_isNumber_0 : List UInt8 := [42, 180, 0, 144, 5, 159, 0, 9, 42, 4, 182, 0, 160, 172, 42, 180, 0, 150, 27, 28, 184, 0, 53]
abbrev dktX10_isNumber_0 : List UInt8 := dkwX10_isNumber_0 ++ dktX10_isNumber_1
theorem dksX10_isNumber_0 : cX10_isNumber.data.toList.drop 0 = dktX10_isNumber_0 := by decide +kernel
theorem dksX10_isNumber_1 : cX10_isNumber.data.toList.drop 23 = dktX10_isNumber_1 := dk_seg dksX10_isNumber_0 23 rfl rfl
theorem dX10_isNumber_0 : decode cX10_isNumber 0 = .ok (.aload_n 0, 1) := dk_42 (dk_at dksX10_isNumber_0 0 rfl rfl)
theorem dX10_isNumber_1 : decode cX10_isNumber 1 = .ok (.getfield 144, 3) := dk_180 0 144 (dk_at dksX10_isNumber_0 1 rfl rfl)
theorem dX10_isNumber_4 : decode cX10_isNumber 4 = .ok (.iconst 2, 1) := dk_5 (dk_at dksX10_isNumber_0 4 rfl rfl)
theorem dX10_isNumber_5 : decode cX10_isNumber 5 = .ok (.if_icmp .eq 9, 3) := dk_159 0 9 (dk_at dksX10_isNumber_0 5 rfl rfl)
theorem dX10_isNumber_8 : decode cX10_isNumber 8 = .ok (.aload_n 0, 1) := dk_42 (dk_at dksX10_isNumber_0 8 rfl rfl)
theorem dX10_isNumber_9 : decode cX10_isNumber 9 = .ok (.iconst 1, 1) := dk_4 (dk_at dksX10_isNumber_0 9 rfl rfl)
theorem dX10_isNumber_10 : decode cX10_isNumber 10 = .ok (.invokevirtual 160, 3) := dk_182 0 160 (dk_at dksX10_isNumber_0 10 rfl rfl)
theorem dX10_isNumber_13 : decode cX10_isNumber 13 = .ok (.ireturn, 1) := dk_172 (dk_at dksX10_isNumber_0 13 rfl rfl)
theorem dX10_isNumber_14 : decode cX10_isNumber 14 = .ok (.aload_n 0, 1) := dk_42 (dk_at dksX10_isNumber_0 14 rfl rfl)
theorem dX10_isNumber_15 : decode cX10_isNumber 15 = .ok (.getfield 150, 3) := dk_180 0 150 (dk_at dksX10_isNumber_0 15 rfl rfl)
theorem dX10_isNumber_18 : decode cX10_isNumber 18 = .ok (.iload_n 1, 1) := dk_27 (dk_at dksX10_isNumber_0 18 rfl rfl)
theorem dX10_isNumber_19 : decode cX10_isNumber 19 = .ok (.iload_n 2, 1) := dk_28 (dk_at dksX10_isNumber_0 19 rfl rfl)
theorem dX10_isNumber_20 : decode cX10_isNumber 20 = .ok (.invokestatic 53, 3) := dk_184 0 53 (dk_at dksX10_isNumber_0 20 rfl rfl)
theorem dX10_isNumber_23 : decode cX10_isNumber 23 = .ok (.ifCond .ne 9, 3) := dk_154 0 9 (dk_at dksX10_isNumber_1 0 rfl rfl)
theorem dX10_isNumber_26 : decode cX10_isNumber 26 = .ok (.aload_n 0, 1) := dk_42 (dk_at dksX10_isNumber_1 3 rfl rfl)
theorem dX10_isNumber_27 : decode cX10_isNumber 27 = .ok (.iconst 2, 1) := dk_5 (dk_at dksX10_isNumber_1 4 rfl rfl)
theorem dX10_isNumber_28 : decode cX10_isNumber 28 = .ok (.invokevirtual 160, 3) := dk_182 0 160 (dk_at dksX10_isNumber_1 5 rfl rfl)
theorem dX10_isNumber_31 : decode cX10_isNumber 31 = .ok (.ireturn, 1) := dk_172 (dk_at dksX10_isNumber_1 8 rfl rfl)
theorem dX10_isNumber_32 : decode cX10_isNumber 32 = .ok (.aload_n 0, 1) := dk_42 (dk_at dksX10_isNumber_1 9 rfl rfl)
theorem dX10_isNumber_33 : decode cX10_isNumber 33 = .ok (.aload_n 0, 1) := dk_42 (dk_at dksX10_isNumber_1 10 rfl rfl)
theorem dX10_isNumber_34 : decode cX10_isNumber 34 = .ok (.getfield 150, 3) := dk_180 0 150 (dk_at dksX10_isNumber_1 11 rfl rfl)
theorem dX10_isNumber_37 : decode cX10_isNumber 37 = .ok (.putfield 167, 3) := dk_181 0 167 (dk_at dksX10_isNumber_1 14 rfl rfl)
theorem dX10_isNumber_40 : decode cX10_isNumber 40 = .ok (.iconst 1, 1) := dk_4 (dk_at dksX10_isNumber_1 17 rfl rfl)
theorem dX10_isNumber_41 : decode cX10_isNumber 41 = .ok (.ireturn, 1) := dk_172 (dk_at dksX10_isNumber_1 18 rfl rfl)
abbrev cX10_in : ByteArray := prog_17_method_3_code
def yX10_in : MethodName := ⟨RX10, "in", "(III)Z"⟩
def dkwX10_in_0 : List UInt8 := [26, 27, 161, 0, 12, 26, 28, 163, 0, 7, 4, 167, 0, 4, 3, 172]
abbrev dktX10_in_0 : List UInt8 := dkwX10_in_0 ++ []
theorem dksX10_in_0 : cX10_in.data.toList.drop 0 = dktX10_in_0 := by decide +kernel
theorem dX10_in_0 : decode cX10_in 0 = .ok (.iload_n 0, 1) := dk_26 (dk_at dksX10_in_0 0 rfl rfl)
theorem dX10_in_1 : decode cX10_in 1 = .ok (.iload_n 1, 1) := dk_27 (dk_at dksX10_in_0 1 rfl rfl)
theorem dX10_in_2 : decode cX10_in 2 = .ok (.if_icmp .lt 12, 3) := dk_161 0 12 (dk_at dksX10_in_0 2 rfl rfl)
theorem dX10_in_5 : decode cX10_in 5 = .ok (.iload_n 0, 1) := dk_26 (dk_at dksX10_in_0 5 rfl rfl)
theorem dX10_in_6 : decode cX10_in 6 = .ok (.iload_n 2, 1) := dk_28 (dk_at dksX10_in_0 6 rfl rfl)
theorem dX10_in_7 : decode cX10_in 7 = .ok (.if_icmp .gt 7, 3) := dk_163 0 7 (dk_at dksX10_in_0 7 rfl rfl)
theorem dX10_in_10 : decode cX10_in 10 = .ok (.iconst 1, 1) := dk_4 (dk_at dksX10_in_0 10 rfl rfl)
theorem dX10_in_11 : decode cX10_in 11 = .ok (.goto 4, 3) := dk_167 0 4 (dk_at dksX10_in_0 11 rfl rfl)
theorem dX10_in_14 : decode cX10_in 14 = .ok (.iconst 0, 1) := dk_3 (dk_at dksX10_in_0 14 rfl rfl)
theorem dX10_in_15 : decode cX10_in 15 = .ok (.ireturn, 1) := dk_172 (dk_at dksX10_in_0 15 rfl rfl)
abbrev cX10_sign : ByteArray := prog_17_method_43_code
def yX10_sign : MethodName := ⟨RX10, "sign", "(I)Z"⟩
def dkwX10_sign_0 : List UInt8 := [42, 180, 0, 144, 27, 159, 0, 9, 42, 4, 182, 0, 160, 172, 42, 182, 0, 164, 4, 172]
abbrev dktX10_sign_0 : List UInt8 := dkwX10_sign_0 ++ []
theorem dksX10_sign_0 : cX10_sign.data.toList.drop 0 = dktX10_sign_0 := by decide +kernel
theorem dX10_sign_0 : decode cX10_sign 0 = .ok (.aload_n 0, 1) := dk_42 (dk_at dksX10_sign_0 0 rfl rfl)
theorem dX10_sign_1 : decode cX10_sign 1 = .ok (.getfield 144, 3) := dk_180 0 144 (dk_at dksX10_sign_0 1 rfl rfl)
theorem dX10_sign_4 : decode cX10_sign 4 = .ok (.iload_n 1, 1) := dk_27 (dk_at dksX10_sign_0 4 rfl rfl)
theorem dX10_sign_5 : decode cX10_sign 5 = .ok (.if_icmp .eq 9, 3) := dk_159 0 9 (dk_at dksX10_sign_0 5 rfl rfl)
theorem dX10_sign_8 : decode cX10_sign 8 = .ok (.aload_n 0, 1) := dk_42 (dk_at dksX10_sign_0 8 rfl rfl)
theorem dX10_sign_9 : decode cX10_sign 9 = .ok (.iconst 1, 1) := dk_4 (dk_at dksX10_sign_0 9 rfl rfl)
theorem dX10_sign_10 : decode cX10_sign 10 = .ok (.invokevirtual 160, 3) := dk_182 0 160 (dk_at dksX10_sign_0 10 rfl rfl)
theorem dX10_sign_13 : decode cX10_sign 13 = .ok (.ireturn, 1) := dk_172 (dk_at dksX10_sign_0 13 rfl rfl)
theorem dX10_sign_14 : decode cX10_sign 14 = .ok (.aload_n 0, 1) := dk_42 (dk_at dksX10_sign_0 14 rfl rfl)
theorem dX10_sign_15 : decode cX10_sign 15 = .ok (.invokevirtual 164, 3) := dk_182 0 164 (dk_at dksX10_sign_0 15 rfl rfl)
theorem dX10_sign_18 : decode cX10_sign 18 = .ok (.iconst 1, 1) := dk_4 (dk_at dksX10_sign_0 18 rfl rfl)
theorem dX10_sign_19 : decode cX10_sign 19 = .ok (.ireturn, 1) := dk_172 (dk_at dksX10_sign_0 19 rfl rfl)
abbrev cX10_number : ByteArray := prog_17_method_45_code
def yX10_number : MethodName := ⟨RX10, "number", "(II)Z"⟩
def dkwX10_number_0 : List UInt8 := [42, 27, 28, 182, 0, 170, 154, 0, 5, 3, 172, 42, 182, 0, 164, 4, 172]
abbrev dktX10_number_0 : List UInt8 := dkwX10_number_0 ++ []
theorem dksX10_number_0 : cX10_number.data.toList.drop 0 = dktX10_number_0 := by decide +kernel
theorem dX10_number_0 : decode cX10_number 0 = .ok (.aload_n 0, 1) := dk_42 (dk_at dksX10_number_0 0 rfl rfl)
theorem dX10_number_1 : decode cX10_number 1 = .ok (.iload_n 1, 1) := dk_27 (dk_at dksX10_number_0 1 rfl rfl)
theorem dX10_number_2 : decode cX10_number 2 = .ok (.iload_n 2, 1) := dk_28 (dk_at dksX10_number_0 2 rfl rfl)
theorem dX10_number_3 : decode cX10_number 3 = .ok (.invokevirtual 170, 3) := dk_182 0 170 (dk_at dksX10_number_0 3 rfl rfl)
theorem dX10_number_6 : decode cX10_number 6 = .ok (.ifCond .ne 5, 3) := dk_154 0 5 (dk_at dksX10_number_0 6 rfl rfl)
theorem dX10_number_9 : decode cX10_number 9 = .ok (.iconst 0, 1) := dk_3 (dk_at dksX10_number_0 9 rfl rfl)
theorem dX10_number_10 : decode cX10_number 10 = .ok (.ireturn, 1) := dk_172 (dk_at dksX10_number_0 10 rfl rfl)
theorem dX10_number_11 : decode cX10_number 11 = .ok (.aload_n 0, 1) := dk_42 (dk_at dksX10_number_0 11 rfl rfl)
theorem dX10_number_12 : decode cX10_number 12 = .ok (.invokevirtual 164, 3) := dk_182 0 164 (dk_at dksX10_number_0 12 rfl rfl)
theorem dX10_number_15 : decode cX10_number 15 = .ok (.iconst 1, 1) := dk_4 (dk_at dksX10_number_0 15 rfl rfl)
theorem dX10_number_16 : decode cX10_number 16 = .ok (.ireturn, 1) := dk_172 (dk_at dksX10_number_0 16 rfl rfl)
abbrev cX10_readsLine : ByteArray := prog_17_method_56_code
def yX10_readsLine : MethodName := ⟨RX10, "readsLine", "()Z"⟩
def dkwX10_readsLine_4 : List UInt8 := [16, 7, 42, 180, 0, 167, 79, 4, 172]
abbrev dktX10_readsLine_4 : List UInt8 := dkwX10_readsLine_4 ++ []
def dkwX10_readsLine_3 : List UInt8 := [182, 0, 228, 153, 0, 14, 42, 3, 17, 39, 15, 182, 0, 182, 154, 0, 5, 3, 172, 42, 180, 0, 7]
abbrev dktX10_readsLine_3 : List UInt8 := dkwX10_readsLine_3 ++ dktX10_readsLine_4
def dkwX10_readsLine_2 : List UInt8 := [46, 4, 96, 79, 4, 172, 42, 18, 246, 182, 0, 156, 153, 0, 8, 42, 182, 0, 248, 172, 42, 18, 251]
abbrev dktX10_readsLine_2 : List UInt8 := dkwX10_readsLine_2 ++ dktX10_readsLine_3
def dkwX10_readsLine_1 : List UInt8 := [182, 0, 160, 172, 42, 182, 0, 164, 42, 182, 0, 243, 154, 0, 5, 3, 172, 42, 180, 0, 7, 16, 17, 92]
abbrev dktX10_readsLine_1 : List UInt8 := dkwX10_readsLine_1 ++ dktX10_readsLine_2
def dkwX10_readsLine_0 : List UInt8 := [42, 18, 241, 182, 0, 156, 153, 0, 47, 42, 180, 0, 7, 16, 17, 46, 16, 10, 160, 0, 9, 42, 7]
abbrev dktX10_readsLine_0 : List UInt8 := dkwX10_readsLine_0 ++ dktX10_readsLine_1
theorem dksX10_readsLine_0 : cX10_readsLine.data.toList.drop 0 = dktX10_readsLine_0 := by decide +kernel
theorem dksX10_readsLine_1 : cX10_readsLine.data.toList.drop 23 = dktX10_readsLine_1 := dk_seg dksX10_readsLine_0 23 rfl rfl
theorem dksX10_readsLine_2 : cX10_readsLine.data.toList.drop 47 = dktX10_readsLine_2 := dk_seg dksX10_readsLine_1 24 rfl rfl
theorem dksX10_readsLine_3 : cX10_readsLine.data.toList.drop 70 = dktX10_readsLine_3 := dk_seg dksX10_readsLine_2 23 rfl rfl
theorem dksX10_readsLine_4 : cX10_readsLine.data.toList.drop 93 = dktX10_readsLine_4 := dk_seg dksX10_readsLine_3 23 rfl rfl
theorem dX10_readsLine_0 : decode cX10_readsLine 0 = .ok (.aload_n 0, 1) := dk_42 (dk_at dksX10_readsLine_0 0 rfl rfl)
theorem dX10_readsLine_1 : decode cX10_readsLine 1 = .ok (.ldc 241, 2) := dk_18 241 (dk_at dksX10_readsLine_0 1 rfl rfl)
theorem dX10_readsLine_3 : decode cX10_readsLine 3 = .ok (.invokevirtual 156, 3) := dk_182 0 156 (dk_at dksX10_readsLine_0 3 rfl rfl)
theorem dX10_readsLine_6 : decode cX10_readsLine 6 = .ok (.ifCond .eq 47, 3) := dk_153 0 47 (dk_at dksX10_readsLine_0 6 rfl rfl)
theorem dX10_readsLine_9 : decode cX10_readsLine 9 = .ok (.aload_n 0, 1) := dk_42 (dk_at dksX10_readsLine_0 9 rfl rfl)
theorem dX10_readsLine_10 : decode cX10_readsLine 10 = .ok (.getfield 7, 3) := dk_180 0 7 (dk_at dksX10_readsLine_0 10 rfl rfl)
theorem dX10_readsLine_13 : decode cX10_readsLine 13 = .ok (.bipush 17, 2) := dk_16 17 (dk_at dksX10_readsLine_0 13 rfl rfl)
theorem dX10_readsLine_15 : decode cX10_readsLine 15 = .ok (.iaload, 1) := dk_46 (dk_at dksX10_readsLine_0 15 rfl rfl)
theorem dX10_readsLine_16 : decode cX10_readsLine 16 = .ok (.bipush 10, 2) := dk_16 10 (dk_at dksX10_readsLine_0 16 rfl rfl)
theorem dX10_readsLine_18 : decode cX10_readsLine 18 = .ok (.if_icmp .ne 9, 3) := dk_160 0 9 (dk_at dksX10_readsLine_0 18 rfl rfl)
theorem dX10_readsLine_21 : decode cX10_readsLine 21 = .ok (.aload_n 0, 1) := dk_42 (dk_at dksX10_readsLine_0 21 rfl rfl)
theorem dX10_readsLine_22 : decode cX10_readsLine 22 = .ok (.iconst 4, 1) := dk_7 (dk_at dksX10_readsLine_0 22 rfl rfl)
theorem dX10_readsLine_23 : decode cX10_readsLine 23 = .ok (.invokevirtual 160, 3) := dk_182 0 160 (dk_at dksX10_readsLine_1 0 rfl rfl)
theorem dX10_readsLine_26 : decode cX10_readsLine 26 = .ok (.ireturn, 1) := dk_172 (dk_at dksX10_readsLine_1 3 rfl rfl)
theorem dX10_readsLine_27 : decode cX10_readsLine 27 = .ok (.aload_n 0, 1) := dk_42 (dk_at dksX10_readsLine_1 4 rfl rfl)
theorem dX10_readsLine_28 : decode cX10_readsLine 28 = .ok (.invokevirtual 164, 3) := dk_182 0 164 (dk_at dksX10_readsLine_1 5 rfl rfl)
theorem dX10_readsLine_31 : decode cX10_readsLine 31 = .ok (.aload_n 0, 1) := dk_42 (dk_at dksX10_readsLine_1 8 rfl rfl)
theorem dX10_readsLine_32 : decode cX10_readsLine 32 = .ok (.invokevirtual 243, 3) := dk_182 0 243 (dk_at dksX10_readsLine_1 9 rfl rfl)
theorem dX10_readsLine_35 : decode cX10_readsLine 35 = .ok (.ifCond .ne 5, 3) := dk_154 0 5 (dk_at dksX10_readsLine_1 12 rfl rfl)
theorem dX10_readsLine_38 : decode cX10_readsLine 38 = .ok (.iconst 0, 1) := dk_3 (dk_at dksX10_readsLine_1 15 rfl rfl)
theorem dX10_readsLine_39 : decode cX10_readsLine 39 = .ok (.ireturn, 1) := dk_172 (dk_at dksX10_readsLine_1 16 rfl rfl)
theorem dX10_readsLine_40 : decode cX10_readsLine 40 = .ok (.aload_n 0, 1) := dk_42 (dk_at dksX10_readsLine_1 17 rfl rfl)
theorem dX10_readsLine_41 : decode cX10_readsLine 41 = .ok (.getfield 7, 3) := dk_180 0 7 (dk_at dksX10_readsLine_1 18 rfl rfl)
theorem dX10_readsLine_44 : decode cX10_readsLine 44 = .ok (.bipush 17, 2) := dk_16 17 (dk_at dksX10_readsLine_1 21 rfl rfl)
theorem dX10_readsLine_46 : decode cX10_readsLine 46 = .ok (.dup2, 1) := dk_92 (dk_at dksX10_readsLine_1 23 rfl rfl)
theorem dX10_readsLine_47 : decode cX10_readsLine 47 = .ok (.iaload, 1) := dk_46 (dk_at dksX10_readsLine_2 0 rfl rfl)
theorem dX10_readsLine_48 : decode cX10_readsLine 48 = .ok (.iconst 1, 1) := dk_4 (dk_at dksX10_readsLine_2 1 rfl rfl)
theorem dX10_readsLine_49 : decode cX10_readsLine 49 = .ok (.iadd, 1) := dk_96 (dk_at dksX10_readsLine_2 2 rfl rfl)
theorem dX10_readsLine_50 : decode cX10_readsLine 50 = .ok (.iastore, 1) := dk_79 (dk_at dksX10_readsLine_2 3 rfl rfl)
theorem dX10_readsLine_51 : decode cX10_readsLine 51 = .ok (.iconst 1, 1) := dk_4 (dk_at dksX10_readsLine_2 4 rfl rfl)
theorem dX10_readsLine_52 : decode cX10_readsLine 52 = .ok (.ireturn, 1) := dk_172 (dk_at dksX10_readsLine_2 5 rfl rfl)
theorem dX10_readsLine_53 : decode cX10_readsLine 53 = .ok (.aload_n 0, 1) := dk_42 (dk_at dksX10_readsLine_2 6 rfl rfl)
theorem dX10_readsLine_54 : decode cX10_readsLine 54 = .ok (.ldc 246, 2) := dk_18 246 (dk_at dksX10_readsLine_2 7 rfl rfl)
theorem dX10_readsLine_56 : decode cX10_readsLine 56 = .ok (.invokevirtual 156, 3) := dk_182 0 156 (dk_at dksX10_readsLine_2 9 rfl rfl)
theorem dX10_readsLine_59 : decode cX10_readsLine 59 = .ok (.ifCond .eq 8, 3) := dk_153 0 8 (dk_at dksX10_readsLine_2 12 rfl rfl)
theorem dX10_readsLine_62 : decode cX10_readsLine 62 = .ok (.aload_n 0, 1) := dk_42 (dk_at dksX10_readsLine_2 15 rfl rfl)
theorem dX10_readsLine_63 : decode cX10_readsLine 63 = .ok (.invokevirtual 248, 3) := dk_182 0 248 (dk_at dksX10_readsLine_2 16 rfl rfl)
theorem dX10_readsLine_66 : decode cX10_readsLine 66 = .ok (.ireturn, 1) := dk_172 (dk_at dksX10_readsLine_2 19 rfl rfl)
theorem dX10_readsLine_67 : decode cX10_readsLine 67 = .ok (.aload_n 0, 1) := dk_42 (dk_at dksX10_readsLine_2 20 rfl rfl)
theorem dX10_readsLine_68 : decode cX10_readsLine 68 = .ok (.ldc 251, 2) := dk_18 251 (dk_at dksX10_readsLine_2 21 rfl rfl)
theorem dX10_readsLine_70 : decode cX10_readsLine 70 = .ok (.invokevirtual 228, 3) := dk_182 0 228 (dk_at dksX10_readsLine_3 0 rfl rfl)
theorem dX10_readsLine_73 : decode cX10_readsLine 73 = .ok (.ifCond .eq 14, 3) := dk_153 0 14 (dk_at dksX10_readsLine_3 3 rfl rfl)
theorem dX10_readsLine_76 : decode cX10_readsLine 76 = .ok (.aload_n 0, 1) := dk_42 (dk_at dksX10_readsLine_3 6 rfl rfl)
theorem dX10_readsLine_77 : decode cX10_readsLine 77 = .ok (.iconst 0, 1) := dk_3 (dk_at dksX10_readsLine_3 7 rfl rfl)
theorem dX10_readsLine_78 : decode cX10_readsLine 78 = .ok (.sipush 9999, 3) := dk_17 39 15 (dk_at dksX10_readsLine_3 8 rfl rfl)
theorem dX10_readsLine_81 : decode cX10_readsLine 81 = .ok (.invokevirtual 182, 3) := dk_182 0 182 (dk_at dksX10_readsLine_3 11 rfl rfl)
theorem dX10_readsLine_84 : decode cX10_readsLine 84 = .ok (.ifCond .ne 5, 3) := dk_154 0 5 (dk_at dksX10_readsLine_3 14 rfl rfl)
theorem dX10_readsLine_87 : decode cX10_readsLine 87 = .ok (.iconst 0, 1) := dk_3 (dk_at dksX10_readsLine_3 17 rfl rfl)
theorem dX10_readsLine_88 : decode cX10_readsLine 88 = .ok (.ireturn, 1) := dk_172 (dk_at dksX10_readsLine_3 18 rfl rfl)
theorem dX10_readsLine_89 : decode cX10_readsLine 89 = .ok (.aload_n 0, 1) := dk_42 (dk_at dksX10_readsLine_3 19 rfl rfl)
theorem dX10_readsLine_90 : decode cX10_readsLine 90 = .ok (.getfield 7, 3) := dk_180 0 7 (dk_at dksX10_readsLine_3 20 rfl rfl)
theorem dX10_readsLine_93 : decode cX10_readsLine 93 = .ok (.bipush 7, 2) := dk_16 7 (dk_at dksX10_readsLine_4 0 rfl rfl)
theorem dX10_readsLine_95 : decode cX10_readsLine 95 = .ok (.aload_n 0, 1) := dk_42 (dk_at dksX10_readsLine_4 2 rfl rfl)
theorem dX10_readsLine_96 : decode cX10_readsLine 96 = .ok (.getfield 167, 3) := dk_180 0 167 (dk_at dksX10_readsLine_4 3 rfl rfl)
theorem dX10_readsLine_99 : decode cX10_readsLine 99 = .ok (.iastore, 1) := dk_79 (dk_at dksX10_readsLine_4 6 rfl rfl)
theorem dX10_readsLine_100 : decode cX10_readsLine 100 = .ok (.iconst 1, 1) := dk_4 (dk_at dksX10_readsLine_4 7 rfl rfl)
theorem dX10_readsLine_101 : decode cX10_readsLine 101 = .ok (.ireturn, 1) := dk_172 (dk_at dksX10_readsLine_4 8 rfl rfl)
abbrev cX10_readsRule : ByteArray := prog_17_method_54_code
def yX10_readsRule : MethodName := ⟨RX10, "readsRule", "()Z"⟩
def dkwX10_readsRule_3 : List UInt8 := [42, 182, 0, 231, 153, 0, 14, 42, 182, 0, 234, 153, 0, 7, 4, 167, 0, 4, 3, 172]
abbrev dktX10_readsRule_3 : List UInt8 := dkwX10_readsRule_3 ++ []
def dkwX10_readsRule_2 : List UInt8 := [181, 0, 190, 42, 3, 181, 0, 196, 42, 182, 0, 199, 153, 0, 30, 42, 18, 226, 182, 0, 228, 153, 0, 21]
abbrev dktX10_readsRule_2 : List UInt8 := dkwX10_readsRule_2 ++ dktX10_readsRule_3
def dkwX10_readsRule_1 : List UInt8 := [180, 0, 7, 42, 180, 0, 173, 27, 96, 3, 79, 132, 1, 1, 167, 255, 235, 42, 3, 181, 0, 179, 42, 3]
abbrev dktX10_readsRule_1 : List UInt8 := dkwX10_readsRule_1 ++ dktX10_readsRule_2
def dkwX10_readsRule_0 : List UInt8 := [42, 42, 180, 0, 7, 16, 17, 46, 184, 0, 57, 181, 0, 173, 3, 60, 27, 16, 34, 162, 0, 21, 42]
abbrev dktX10_readsRule_0 : List UInt8 := dkwX10_readsRule_0 ++ dktX10_readsRule_1
theorem dksX10_readsRule_0 : cX10_readsRule.data.toList.drop 0 = dktX10_readsRule_0 := by decide +kernel
theorem dksX10_readsRule_1 : cX10_readsRule.data.toList.drop 23 = dktX10_readsRule_1 := dk_seg dksX10_readsRule_0 23 rfl rfl
theorem dksX10_readsRule_2 : cX10_readsRule.data.toList.drop 47 = dktX10_readsRule_2 := dk_seg dksX10_readsRule_1 24 rfl rfl
theorem dksX10_readsRule_3 : cX10_readsRule.data.toList.drop 71 = dktX10_readsRule_3 := dk_seg dksX10_readsRule_2 24 rfl rfl
theorem dX10_readsRule_0 : decode cX10_readsRule 0 = .ok (.aload_n 0, 1) := dk_42 (dk_at dksX10_readsRule_0 0 rfl rfl)
theorem dX10_readsRule_1 : decode cX10_readsRule 1 = .ok (.aload_n 0, 1) := dk_42 (dk_at dksX10_readsRule_0 1 rfl rfl)
theorem dX10_readsRule_2 : decode cX10_readsRule 2 = .ok (.getfield 7, 3) := dk_180 0 7 (dk_at dksX10_readsRule_0 2 rfl rfl)
theorem dX10_readsRule_5 : decode cX10_readsRule 5 = .ok (.bipush 17, 2) := dk_16 17 (dk_at dksX10_readsRule_0 5 rfl rfl)
theorem dX10_readsRule_7 : decode cX10_readsRule 7 = .ok (.iaload, 1) := dk_46 (dk_at dksX10_readsRule_0 7 rfl rfl)
theorem dX10_readsRule_8 : decode cX10_readsRule 8 = .ok (.invokestatic 57, 3) := dk_184 0 57 (dk_at dksX10_readsRule_0 8 rfl rfl)
theorem dX10_readsRule_11 : decode cX10_readsRule 11 = .ok (.putfield 173, 3) := dk_181 0 173 (dk_at dksX10_readsRule_0 11 rfl rfl)
theorem dX10_readsRule_14 : decode cX10_readsRule 14 = .ok (.iconst 0, 1) := dk_3 (dk_at dksX10_readsRule_0 14 rfl rfl)
theorem dX10_readsRule_15 : decode cX10_readsRule 15 = .ok (.istore_n 1, 1) := dk_60 (dk_at dksX10_readsRule_0 15 rfl rfl)
theorem dX10_readsRule_16 : decode cX10_readsRule 16 = .ok (.iload_n 1, 1) := dk_27 (dk_at dksX10_readsRule_0 16 rfl rfl)
theorem dX10_readsRule_17 : decode cX10_readsRule 17 = .ok (.bipush 34, 2) := dk_16 34 (dk_at dksX10_readsRule_0 17 rfl rfl)
theorem dX10_readsRule_19 : decode cX10_readsRule 19 = .ok (.if_icmp .ge 21, 3) := dk_162 0 21 (dk_at dksX10_readsRule_0 19 rfl rfl)
theorem dX10_readsRule_22 : decode cX10_readsRule 22 = .ok (.aload_n 0, 1) := dk_42 (dk_at dksX10_readsRule_0 22 rfl rfl)
theorem dX10_readsRule_23 : decode cX10_readsRule 23 = .ok (.getfield 7, 3) := dk_180 0 7 (dk_at dksX10_readsRule_1 0 rfl rfl)
theorem dX10_readsRule_26 : decode cX10_readsRule 26 = .ok (.aload_n 0, 1) := dk_42 (dk_at dksX10_readsRule_1 3 rfl rfl)
theorem dX10_readsRule_27 : decode cX10_readsRule 27 = .ok (.getfield 173, 3) := dk_180 0 173 (dk_at dksX10_readsRule_1 4 rfl rfl)
theorem dX10_readsRule_30 : decode cX10_readsRule 30 = .ok (.iload_n 1, 1) := dk_27 (dk_at dksX10_readsRule_1 7 rfl rfl)
theorem dX10_readsRule_31 : decode cX10_readsRule 31 = .ok (.iadd, 1) := dk_96 (dk_at dksX10_readsRule_1 8 rfl rfl)
theorem dX10_readsRule_32 : decode cX10_readsRule 32 = .ok (.iconst 0, 1) := dk_3 (dk_at dksX10_readsRule_1 9 rfl rfl)
theorem dX10_readsRule_33 : decode cX10_readsRule 33 = .ok (.iastore, 1) := dk_79 (dk_at dksX10_readsRule_1 10 rfl rfl)
theorem dX10_readsRule_34 : decode cX10_readsRule 34 = .ok (.iinc 1 1, 3) := dk_132 1 1 (dk_at dksX10_readsRule_1 11 rfl rfl)
theorem dX10_readsRule_37 : decode cX10_readsRule 37 = .ok (.goto (-21), 3) := dk_167 255 235 (dk_at dksX10_readsRule_1 14 rfl rfl)
theorem dX10_readsRule_40 : decode cX10_readsRule 40 = .ok (.aload_n 0, 1) := dk_42 (dk_at dksX10_readsRule_1 17 rfl rfl)
theorem dX10_readsRule_41 : decode cX10_readsRule 41 = .ok (.iconst 0, 1) := dk_3 (dk_at dksX10_readsRule_1 18 rfl rfl)
theorem dX10_readsRule_42 : decode cX10_readsRule 42 = .ok (.putfield 179, 3) := dk_181 0 179 (dk_at dksX10_readsRule_1 19 rfl rfl)
theorem dX10_readsRule_45 : decode cX10_readsRule 45 = .ok (.aload_n 0, 1) := dk_42 (dk_at dksX10_readsRule_1 22 rfl rfl)
theorem dX10_readsRule_46 : decode cX10_readsRule 46 = .ok (.iconst 0, 1) := dk_3 (dk_at dksX10_readsRule_1 23 rfl rfl)
theorem dX10_readsRule_47 : decode cX10_readsRule 47 = .ok (.putfield 190, 3) := dk_181 0 190 (dk_at dksX10_readsRule_2 0 rfl rfl)
theorem dX10_readsRule_50 : decode cX10_readsRule 50 = .ok (.aload_n 0, 1) := dk_42 (dk_at dksX10_readsRule_2 3 rfl rfl)
theorem dX10_readsRule_51 : decode cX10_readsRule 51 = .ok (.iconst 0, 1) := dk_3 (dk_at dksX10_readsRule_2 4 rfl rfl)
theorem dX10_readsRule_52 : decode cX10_readsRule 52 = .ok (.putfield 196, 3) := dk_181 0 196 (dk_at dksX10_readsRule_2 5 rfl rfl)
theorem dX10_readsRule_55 : decode cX10_readsRule 55 = .ok (.aload_n 0, 1) := dk_42 (dk_at dksX10_readsRule_2 8 rfl rfl)
theorem dX10_readsRule_56 : decode cX10_readsRule 56 = .ok (.invokevirtual 199, 3) := dk_182 0 199 (dk_at dksX10_readsRule_2 9 rfl rfl)
theorem dX10_readsRule_59 : decode cX10_readsRule 59 = .ok (.ifCond .eq 30, 3) := dk_153 0 30 (dk_at dksX10_readsRule_2 12 rfl rfl)
theorem dX10_readsRule_62 : decode cX10_readsRule 62 = .ok (.aload_n 0, 1) := dk_42 (dk_at dksX10_readsRule_2 15 rfl rfl)
theorem dX10_readsRule_63 : decode cX10_readsRule 63 = .ok (.ldc 226, 2) := dk_18 226 (dk_at dksX10_readsRule_2 16 rfl rfl)
theorem dX10_readsRule_65 : decode cX10_readsRule 65 = .ok (.invokevirtual 228, 3) := dk_182 0 228 (dk_at dksX10_readsRule_2 18 rfl rfl)
theorem dX10_readsRule_68 : decode cX10_readsRule 68 = .ok (.ifCond .eq 21, 3) := dk_153 0 21 (dk_at dksX10_readsRule_2 21 rfl rfl)
theorem dX10_readsRule_71 : decode cX10_readsRule 71 = .ok (.aload_n 0, 1) := dk_42 (dk_at dksX10_readsRule_3 0 rfl rfl)
theorem dX10_readsRule_72 : decode cX10_readsRule 72 = .ok (.invokevirtual 231, 3) := dk_182 0 231 (dk_at dksX10_readsRule_3 1 rfl rfl)
theorem dX10_readsRule_75 : decode cX10_readsRule 75 = .ok (.ifCond .eq 14, 3) := dk_153 0 14 (dk_at dksX10_readsRule_3 4 rfl rfl)
theorem dX10_readsRule_78 : decode cX10_readsRule 78 = .ok (.aload_n 0, 1) := dk_42 (dk_at dksX10_readsRule_3 7 rfl rfl)
theorem dX10_readsRule_79 : decode cX10_readsRule 79 = .ok (.invokevirtual 234, 3) := dk_182 0 234 (dk_at dksX10_readsRule_3 8 rfl rfl)
theorem dX10_readsRule_82 : decode cX10_readsRule 82 = .ok (.ifCond .eq 7, 3) := dk_153 0 7 (dk_at dksX10_readsRule_3 11 rfl rfl)
theorem dX10_readsRule_85 : decode cX10_readsRule 85 = .ok (.iconst 1, 1) := dk_4 (dk_at dksX10_readsRule_3 14 rfl rfl)
theorem dX10_readsRule_86 : decode cX10_readsRule 86 = .ok (.goto 4, 3) := dk_167 0 4 (dk_at dksX10_readsRule_3 15 rfl rfl)
theorem dX10_readsRule_89 : decode cX10_readsRule 89 = .ok (.iconst 0, 1) := dk_3 (dk_at dksX10_readsRule_3 18 rfl rfl)
theorem dX10_readsRule_90 : decode cX10_readsRule 90 = .ok (.ireturn, 1) := dk_172 (dk_at dksX10_readsRule_3 19 rfl rfl)
abbrev cX10_rule0 : ByteArray := prog_17_method_13_code
def yX10_rule0 : MethodName := ⟨RX10, "rule0", "(I)I"⟩
def dkwX10_rule0_0 : List UInt8 := [16, 18, 16, 34, 26, 104, 96, 172]
abbrev dktX10_rule0_0 : List UInt8 := dkwX10_rule0_0 ++ []
theorem dksX10_rule0_0 : cX10_rule0.data.toList.drop 0 = dktX10_rule0_0 := by decide +kernel
theorem dX10_rule0_0 : decode cX10_rule0 0 = .ok (.bipush 18, 2) := dk_16 18 (dk_at dksX10_rule0_0 0 rfl rfl)
theorem dX10_rule0_2 : decode cX10_rule0 2 = .ok (.bipush 34, 2) := dk_16 34 (dk_at dksX10_rule0_0 2 rfl rfl)
theorem dX10_rule0_4 : decode cX10_rule0 4 = .ok (.iload_n 0, 1) := dk_26 (dk_at dksX10_rule0_0 4 rfl rfl)
theorem dX10_rule0_5 : decode cX10_rule0 5 = .ok (.imul, 1) := dk_104 (dk_at dksX10_rule0_0 5 rfl rfl)
theorem dX10_rule0_6 : decode cX10_rule0 6 = .ok (.iadd, 1) := dk_96 (dk_at dksX10_rule0_0 6 rfl rfl)
theorem dX10_rule0_7 : decode cX10_rule0 7 = .ok (.ireturn, 1) := dk_172 (dk_at dksX10_rule0_0 7 rfl rfl)
abbrev cX10_readsGuard : ByteArray := prog_17_method_50_code
def yX10_readsGuard : MethodName := ⟨RX10, "readsGuard", "()Z"⟩
def dkwX10_readsGuard_1 : List UInt8 := [182, 0, 212, 154, 0, 5, 3, 172, 42, 6, 182, 0, 185, 167, 255, 229, 4, 172]
abbrev dktX10_readsGuard_1 : List UInt8 := dkwX10_readsGuard_1 ++ []
def dkwX10_readsGuard_0 : List UInt8 := [42, 182, 0, 212, 154, 0, 5, 3, 172, 42, 18, 215, 182, 0, 156, 153, 0, 24, 42, 182, 0, 164, 42]
abbrev dktX10_readsGuard_0 : List UInt8 := dkwX10_readsGuard_0 ++ dktX10_readsGuard_1
theorem dksX10_readsGuard_0 : cX10_readsGuard.data.toList.drop 0 = dktX10_readsGuard_0 := by decide +kernel
theorem dksX10_readsGuard_1 : cX10_readsGuard.data.toList.drop 23 = dktX10_readsGuard_1 := dk_seg dksX10_readsGuard_0 23 rfl rfl
theorem dX10_readsGuard_0 : decode cX10_readsGuard 0 = .ok (.aload_n 0, 1) := dk_42 (dk_at dksX10_readsGuard_0 0 rfl rfl)
theorem dX10_readsGuard_1 : decode cX10_readsGuard 1 = .ok (.invokevirtual 212, 3) := dk_182 0 212 (dk_at dksX10_readsGuard_0 1 rfl rfl)
theorem dX10_readsGuard_4 : decode cX10_readsGuard 4 = .ok (.ifCond .ne 5, 3) := dk_154 0 5 (dk_at dksX10_readsGuard_0 4 rfl rfl)
theorem dX10_readsGuard_7 : decode cX10_readsGuard 7 = .ok (.iconst 0, 1) := dk_3 (dk_at dksX10_readsGuard_0 7 rfl rfl)
theorem dX10_readsGuard_8 : decode cX10_readsGuard 8 = .ok (.ireturn, 1) := dk_172 (dk_at dksX10_readsGuard_0 8 rfl rfl)
theorem dX10_readsGuard_9 : decode cX10_readsGuard 9 = .ok (.aload_n 0, 1) := dk_42 (dk_at dksX10_readsGuard_0 9 rfl rfl)
theorem dX10_readsGuard_10 : decode cX10_readsGuard 10 = .ok (.ldc 215, 2) := dk_18 215 (dk_at dksX10_readsGuard_0 10 rfl rfl)
theorem dX10_readsGuard_12 : decode cX10_readsGuard 12 = .ok (.invokevirtual 156, 3) := dk_182 0 156 (dk_at dksX10_readsGuard_0 12 rfl rfl)
theorem dX10_readsGuard_15 : decode cX10_readsGuard 15 = .ok (.ifCond .eq 24, 3) := dk_153 0 24 (dk_at dksX10_readsGuard_0 15 rfl rfl)
theorem dX10_readsGuard_18 : decode cX10_readsGuard 18 = .ok (.aload_n 0, 1) := dk_42 (dk_at dksX10_readsGuard_0 18 rfl rfl)
theorem dX10_readsGuard_19 : decode cX10_readsGuard 19 = .ok (.invokevirtual 164, 3) := dk_182 0 164 (dk_at dksX10_readsGuard_0 19 rfl rfl)
theorem dX10_readsGuard_22 : decode cX10_readsGuard 22 = .ok (.aload_n 0, 1) := dk_42 (dk_at dksX10_readsGuard_0 22 rfl rfl)
theorem dX10_readsGuard_23 : decode cX10_readsGuard 23 = .ok (.invokevirtual 212, 3) := dk_182 0 212 (dk_at dksX10_readsGuard_1 0 rfl rfl)
theorem dX10_readsGuard_26 : decode cX10_readsGuard 26 = .ok (.ifCond .ne 5, 3) := dk_154 0 5 (dk_at dksX10_readsGuard_1 3 rfl rfl)
theorem dX10_readsGuard_29 : decode cX10_readsGuard 29 = .ok (.iconst 0, 1) := dk_3 (dk_at dksX10_readsGuard_1 6 rfl rfl)
theorem dX10_readsGuard_30 : decode cX10_readsGuard 30 = .ok (.ireturn, 1) := dk_172 (dk_at dksX10_readsGuard_1 7 rfl rfl)
theorem dX10_readsGuard_31 : decode cX10_readsGuard 31 = .ok (.aload_n 0, 1) := dk_42 (dk_at dksX10_readsGuard_1 8 rfl rfl)
theorem dX10_readsGuard_32 : decode cX10_readsGuard 32 = .ok (.iconst 3, 1) := dk_6 (dk_at dksX10_readsGuard_1 9 rfl rfl)
theorem dX10_readsGuard_33 : decode cX10_readsGuard 33 = .ok (.invokevirtual 185, 3) := dk_182 0 185 (dk_at dksX10_readsGuard_1 10 rfl rfl)
theorem dX10_readsGuard_36 : decode cX10_readsGuard 36 = .ok (.goto (-27), 3) := dk_167 255 229 (dk_at dksX10_readsGuard_1 13 rfl rfl)
theorem dX10_readsGuard_39 : decode cX10_readsGuard 39 = .ok (.iconst 1, 1) := dk_4 (dk_at dksX10_readsGuard_1 16 rfl rfl)
theorem dX10_readsGuard_40 : decode cX10_readsGuard 40 = .ok (.ireturn, 1) := dk_172 (dk_at dksX10_readsGuard_1 17 rfl rfl)
abbrev cX10_readsTerm : ByteArray := prog_17_method_49_code
def yX10_readsTerm : MethodName := ⟨RX10, "readsTerm", "()Z"⟩
def dkwX10_readsTerm_1 : List UInt8 := [182, 0, 193, 154, 0, 5, 3, 172, 42, 5, 182, 0, 185, 167, 255, 229, 4, 172]
abbrev dktX10_readsTerm_1 : List UInt8 := dkwX10_readsTerm_1 ++ []
def dkwX10_readsTerm_0 : List UInt8 := [42, 182, 0, 193, 154, 0, 5, 3, 172, 42, 18, 210, 182, 0, 156, 153, 0, 24, 42, 182, 0, 164, 42]
abbrev dktX10_readsTerm_0 : List UInt8 := dkwX10_readsTerm_0 ++ dktX10_readsTerm_1
theorem dksX10_readsTerm_0 : cX10_readsTerm.data.toList.drop 0 = dktX10_readsTerm_0 := by decide +kernel
theorem dksX10_readsTerm_1 : cX10_readsTerm.data.toList.drop 23 = dktX10_readsTerm_1 := dk_seg dksX10_readsTerm_0 23 rfl rfl
theorem dX10_readsTerm_0 : decode cX10_readsTerm 0 = .ok (.aload_n 0, 1) := dk_42 (dk_at dksX10_readsTerm_0 0 rfl rfl)
theorem dX10_readsTerm_1 : decode cX10_readsTerm 1 = .ok (.invokevirtual 193, 3) := dk_182 0 193 (dk_at dksX10_readsTerm_0 1 rfl rfl)
theorem dX10_readsTerm_4 : decode cX10_readsTerm 4 = .ok (.ifCond .ne 5, 3) := dk_154 0 5 (dk_at dksX10_readsTerm_0 4 rfl rfl)
theorem dX10_readsTerm_7 : decode cX10_readsTerm 7 = .ok (.iconst 0, 1) := dk_3 (dk_at dksX10_readsTerm_0 7 rfl rfl)
theorem dX10_readsTerm_8 : decode cX10_readsTerm 8 = .ok (.ireturn, 1) := dk_172 (dk_at dksX10_readsTerm_0 8 rfl rfl)
theorem dX10_readsTerm_9 : decode cX10_readsTerm 9 = .ok (.aload_n 0, 1) := dk_42 (dk_at dksX10_readsTerm_0 9 rfl rfl)
theorem dX10_readsTerm_10 : decode cX10_readsTerm 10 = .ok (.ldc 210, 2) := dk_18 210 (dk_at dksX10_readsTerm_0 10 rfl rfl)
theorem dX10_readsTerm_12 : decode cX10_readsTerm 12 = .ok (.invokevirtual 156, 3) := dk_182 0 156 (dk_at dksX10_readsTerm_0 12 rfl rfl)
theorem dX10_readsTerm_15 : decode cX10_readsTerm 15 = .ok (.ifCond .eq 24, 3) := dk_153 0 24 (dk_at dksX10_readsTerm_0 15 rfl rfl)
theorem dX10_readsTerm_18 : decode cX10_readsTerm 18 = .ok (.aload_n 0, 1) := dk_42 (dk_at dksX10_readsTerm_0 18 rfl rfl)
theorem dX10_readsTerm_19 : decode cX10_readsTerm 19 = .ok (.invokevirtual 164, 3) := dk_182 0 164 (dk_at dksX10_readsTerm_0 19 rfl rfl)
theorem dX10_readsTerm_22 : decode cX10_readsTerm 22 = .ok (.aload_n 0, 1) := dk_42 (dk_at dksX10_readsTerm_0 22 rfl rfl)
theorem dX10_readsTerm_23 : decode cX10_readsTerm 23 = .ok (.invokevirtual 193, 3) := dk_182 0 193 (dk_at dksX10_readsTerm_1 0 rfl rfl)
theorem dX10_readsTerm_26 : decode cX10_readsTerm 26 = .ok (.ifCond .ne 5, 3) := dk_154 0 5 (dk_at dksX10_readsTerm_1 3 rfl rfl)
theorem dX10_readsTerm_29 : decode cX10_readsTerm 29 = .ok (.iconst 0, 1) := dk_3 (dk_at dksX10_readsTerm_1 6 rfl rfl)
theorem dX10_readsTerm_30 : decode cX10_readsTerm 30 = .ok (.ireturn, 1) := dk_172 (dk_at dksX10_readsTerm_1 7 rfl rfl)
theorem dX10_readsTerm_31 : decode cX10_readsTerm 31 = .ok (.aload_n 0, 1) := dk_42 (dk_at dksX10_readsTerm_1 8 rfl rfl)
theorem dX10_readsTerm_32 : decode cX10_readsTerm 32 = .ok (.iconst 2, 1) := dk_5 (dk_at dksX10_readsTerm_1 9 rfl rfl)
theorem dX10_readsTerm_33 : decode cX10_readsTerm 33 = .ok (.invokevirtual 185, 3) := dk_182 0 185 (dk_at dksX10_readsTerm_1 10 rfl rfl)
theorem dX10_readsTerm_36 : decode cX10_readsTerm 36 = .ok (.goto (-27), 3) := dk_167 255 229 (dk_at dksX10_readsTerm_1 13 rfl rfl)
theorem dX10_readsTerm_39 : decode cX10_readsTerm 39 = .ok (.iconst 1, 1) := dk_4 (dk_at dksX10_readsTerm_1 16 rfl rfl)
theorem dX10_readsTerm_40 : decode cX10_readsTerm 40 = .ok (.ireturn, 1) := dk_172 (dk_at dksX10_readsTerm_1 17 rfl rfl)
abbrev cX10_readsFactor : ByteArray := prog_17_method_48_code
def yX10_readsFactor : MethodName := ⟨RX10, "readsFactor", "()Z"⟩
def dkwX10_readsFactor_7 : List UInt8 := [7, 182, 0, 185, 4, 172]
abbrev dktX10_readsFactor_7 : List UInt8 := dkwX10_readsFactor_7 ++ []
def dkwX10_readsFactor_6 : List UInt8 := [160, 0, 9, 42, 7, 182, 0, 160, 172, 42, 89, 180, 0, 179, 4, 96, 181, 0, 179, 42, 182, 0, 164, 42]
abbrev dktX10_readsFactor_6 : List UInt8 := dkwX10_readsFactor_6 ++ dktX10_readsFactor_7
def dkwX10_readsFactor_5 : List UInt8 := [4, 172, 42, 18, 205, 182, 0, 156, 154, 0, 8, 42, 182, 0, 207, 172, 42, 180, 0, 179, 16, 12]
abbrev dktX10_readsFactor_5 : List UInt8 := dkwX10_readsFactor_5 ++ dktX10_readsFactor_6
def dkwX10_readsFactor_4 : List UInt8 := [153, 0, 12, 42, 16, 41, 182, 0, 202, 154, 0, 5, 3, 172, 42, 89, 180, 0, 196, 4, 100, 181, 0, 196]
abbrev dktX10_readsFactor_4 : List UInt8 := dkwX10_readsFactor_4 ++ dktX10_readsFactor_5
def dkwX10_readsFactor_3 : List UInt8 := [182, 0, 160, 172, 42, 89, 180, 0, 196, 4, 96, 181, 0, 196, 42, 182, 0, 164, 42, 182, 0, 199]
abbrev dktX10_readsFactor_3 : List UInt8 := dkwX10_readsFactor_3 ++ dktX10_readsFactor_4
def dkwX10_readsFactor_2 : List UInt8 := [182, 0, 185, 4, 172, 42, 180, 0, 144, 16, 40, 160, 0, 61, 42, 180, 0, 196, 8, 160, 0, 9, 42, 7]
abbrev dktX10_readsFactor_2 : List UInt8 := dkwX10_readsFactor_2 ++ dktX10_readsFactor_3
def dkwX10_readsFactor_1 : List UInt8 := [89, 180, 0, 190, 4, 96, 181, 0, 190, 42, 182, 0, 164, 42, 182, 0, 193, 154, 0, 5, 3, 172, 42, 4]
abbrev dktX10_readsFactor_1 : List UInt8 := dkwX10_readsFactor_1 ++ dktX10_readsFactor_2
def dkwX10_readsFactor_0 : List UInt8 := [42, 18, 188, 182, 0, 156, 153, 0, 47, 42, 180, 0, 190, 8, 160, 0, 9, 42, 7, 182, 0, 160, 172, 42]
abbrev dktX10_readsFactor_0 : List UInt8 := dkwX10_readsFactor_0 ++ dktX10_readsFactor_1
theorem dksX10_readsFactor_0 : cX10_readsFactor.data.toList.drop 0 = dktX10_readsFactor_0 := by decide +kernel
theorem dksX10_readsFactor_1 : cX10_readsFactor.data.toList.drop 24 = dktX10_readsFactor_1 := dk_seg dksX10_readsFactor_0 24 rfl rfl
theorem dksX10_readsFactor_2 : cX10_readsFactor.data.toList.drop 48 = dktX10_readsFactor_2 := dk_seg dksX10_readsFactor_1 24 rfl rfl
theorem dksX10_readsFactor_3 : cX10_readsFactor.data.toList.drop 72 = dktX10_readsFactor_3 := dk_seg dksX10_readsFactor_2 24 rfl rfl
theorem dksX10_readsFactor_4 : cX10_readsFactor.data.toList.drop 94 = dktX10_readsFactor_4 := dk_seg dksX10_readsFactor_3 22 rfl rfl
theorem dksX10_readsFactor_5 : cX10_readsFactor.data.toList.drop 118 = dktX10_readsFactor_5 := dk_seg dksX10_readsFactor_4 24 rfl rfl
theorem dksX10_readsFactor_6 : cX10_readsFactor.data.toList.drop 140 = dktX10_readsFactor_6 := dk_seg dksX10_readsFactor_5 22 rfl rfl
theorem dksX10_readsFactor_7 : cX10_readsFactor.data.toList.drop 164 = dktX10_readsFactor_7 := dk_seg dksX10_readsFactor_6 24 rfl rfl
theorem dX10_readsFactor_0 : decode cX10_readsFactor 0 = .ok (.aload_n 0, 1) := dk_42 (dk_at dksX10_readsFactor_0 0 rfl rfl)
theorem dX10_readsFactor_1 : decode cX10_readsFactor 1 = .ok (.ldc 188, 2) := dk_18 188 (dk_at dksX10_readsFactor_0 1 rfl rfl)
theorem dX10_readsFactor_3 : decode cX10_readsFactor 3 = .ok (.invokevirtual 156, 3) := dk_182 0 156 (dk_at dksX10_readsFactor_0 3 rfl rfl)
theorem dX10_readsFactor_6 : decode cX10_readsFactor 6 = .ok (.ifCond .eq 47, 3) := dk_153 0 47 (dk_at dksX10_readsFactor_0 6 rfl rfl)
theorem dX10_readsFactor_9 : decode cX10_readsFactor 9 = .ok (.aload_n 0, 1) := dk_42 (dk_at dksX10_readsFactor_0 9 rfl rfl)
theorem dX10_readsFactor_10 : decode cX10_readsFactor 10 = .ok (.getfield 190, 3) := dk_180 0 190 (dk_at dksX10_readsFactor_0 10 rfl rfl)
theorem dX10_readsFactor_13 : decode cX10_readsFactor 13 = .ok (.iconst 5, 1) := dk_8 (dk_at dksX10_readsFactor_0 13 rfl rfl)
theorem dX10_readsFactor_14 : decode cX10_readsFactor 14 = .ok (.if_icmp .ne 9, 3) := dk_160 0 9 (dk_at dksX10_readsFactor_0 14 rfl rfl)
theorem dX10_readsFactor_17 : decode cX10_readsFactor 17 = .ok (.aload_n 0, 1) := dk_42 (dk_at dksX10_readsFactor_0 17 rfl rfl)
theorem dX10_readsFactor_18 : decode cX10_readsFactor 18 = .ok (.iconst 4, 1) := dk_7 (dk_at dksX10_readsFactor_0 18 rfl rfl)
theorem dX10_readsFactor_19 : decode cX10_readsFactor 19 = .ok (.invokevirtual 160, 3) := dk_182 0 160 (dk_at dksX10_readsFactor_0 19 rfl rfl)
theorem dX10_readsFactor_22 : decode cX10_readsFactor 22 = .ok (.ireturn, 1) := dk_172 (dk_at dksX10_readsFactor_0 22 rfl rfl)
theorem dX10_readsFactor_23 : decode cX10_readsFactor 23 = .ok (.aload_n 0, 1) := dk_42 (dk_at dksX10_readsFactor_0 23 rfl rfl)
theorem dX10_readsFactor_24 : decode cX10_readsFactor 24 = .ok (.dup, 1) := dk_89 (dk_at dksX10_readsFactor_1 0 rfl rfl)
theorem dX10_readsFactor_25 : decode cX10_readsFactor 25 = .ok (.getfield 190, 3) := dk_180 0 190 (dk_at dksX10_readsFactor_1 1 rfl rfl)
theorem dX10_readsFactor_28 : decode cX10_readsFactor 28 = .ok (.iconst 1, 1) := dk_4 (dk_at dksX10_readsFactor_1 4 rfl rfl)
theorem dX10_readsFactor_29 : decode cX10_readsFactor 29 = .ok (.iadd, 1) := dk_96 (dk_at dksX10_readsFactor_1 5 rfl rfl)
theorem dX10_readsFactor_30 : decode cX10_readsFactor 30 = .ok (.putfield 190, 3) := dk_181 0 190 (dk_at dksX10_readsFactor_1 6 rfl rfl)
theorem dX10_readsFactor_33 : decode cX10_readsFactor 33 = .ok (.aload_n 0, 1) := dk_42 (dk_at dksX10_readsFactor_1 9 rfl rfl)
theorem dX10_readsFactor_34 : decode cX10_readsFactor 34 = .ok (.invokevirtual 164, 3) := dk_182 0 164 (dk_at dksX10_readsFactor_1 10 rfl rfl)
theorem dX10_readsFactor_37 : decode cX10_readsFactor 37 = .ok (.aload_n 0, 1) := dk_42 (dk_at dksX10_readsFactor_1 13 rfl rfl)
theorem dX10_readsFactor_38 : decode cX10_readsFactor 38 = .ok (.invokevirtual 193, 3) := dk_182 0 193 (dk_at dksX10_readsFactor_1 14 rfl rfl)
theorem dX10_readsFactor_41 : decode cX10_readsFactor 41 = .ok (.ifCond .ne 5, 3) := dk_154 0 5 (dk_at dksX10_readsFactor_1 17 rfl rfl)
theorem dX10_readsFactor_44 : decode cX10_readsFactor 44 = .ok (.iconst 0, 1) := dk_3 (dk_at dksX10_readsFactor_1 20 rfl rfl)
theorem dX10_readsFactor_45 : decode cX10_readsFactor 45 = .ok (.ireturn, 1) := dk_172 (dk_at dksX10_readsFactor_1 21 rfl rfl)
theorem dX10_readsFactor_46 : decode cX10_readsFactor 46 = .ok (.aload_n 0, 1) := dk_42 (dk_at dksX10_readsFactor_1 22 rfl rfl)
theorem dX10_readsFactor_47 : decode cX10_readsFactor 47 = .ok (.iconst 1, 1) := dk_4 (dk_at dksX10_readsFactor_1 23 rfl rfl)
theorem dX10_readsFactor_48 : decode cX10_readsFactor 48 = .ok (.invokevirtual 185, 3) := dk_182 0 185 (dk_at dksX10_readsFactor_2 0 rfl rfl)
theorem dX10_readsFactor_51 : decode cX10_readsFactor 51 = .ok (.iconst 1, 1) := dk_4 (dk_at dksX10_readsFactor_2 3 rfl rfl)
theorem dX10_readsFactor_52 : decode cX10_readsFactor 52 = .ok (.ireturn, 1) := dk_172 (dk_at dksX10_readsFactor_2 4 rfl rfl)
theorem dX10_readsFactor_53 : decode cX10_readsFactor 53 = .ok (.aload_n 0, 1) := dk_42 (dk_at dksX10_readsFactor_2 5 rfl rfl)
theorem dX10_readsFactor_54 : decode cX10_readsFactor 54 = .ok (.getfield 144, 3) := dk_180 0 144 (dk_at dksX10_readsFactor_2 6 rfl rfl)
theorem dX10_readsFactor_57 : decode cX10_readsFactor 57 = .ok (.bipush 40, 2) := dk_16 40 (dk_at dksX10_readsFactor_2 9 rfl rfl)
theorem dX10_readsFactor_59 : decode cX10_readsFactor 59 = .ok (.if_icmp .ne 61, 3) := dk_160 0 61 (dk_at dksX10_readsFactor_2 11 rfl rfl)
theorem dX10_readsFactor_62 : decode cX10_readsFactor 62 = .ok (.aload_n 0, 1) := dk_42 (dk_at dksX10_readsFactor_2 14 rfl rfl)
theorem dX10_readsFactor_63 : decode cX10_readsFactor 63 = .ok (.getfield 196, 3) := dk_180 0 196 (dk_at dksX10_readsFactor_2 15 rfl rfl)
theorem dX10_readsFactor_66 : decode cX10_readsFactor 66 = .ok (.iconst 5, 1) := dk_8 (dk_at dksX10_readsFactor_2 18 rfl rfl)
theorem dX10_readsFactor_67 : decode cX10_readsFactor 67 = .ok (.if_icmp .ne 9, 3) := dk_160 0 9 (dk_at dksX10_readsFactor_2 19 rfl rfl)
theorem dX10_readsFactor_70 : decode cX10_readsFactor 70 = .ok (.aload_n 0, 1) := dk_42 (dk_at dksX10_readsFactor_2 22 rfl rfl)
theorem dX10_readsFactor_71 : decode cX10_readsFactor 71 = .ok (.iconst 4, 1) := dk_7 (dk_at dksX10_readsFactor_2 23 rfl rfl)
theorem dX10_readsFactor_72 : decode cX10_readsFactor 72 = .ok (.invokevirtual 160, 3) := dk_182 0 160 (dk_at dksX10_readsFactor_3 0 rfl rfl)
theorem dX10_readsFactor_75 : decode cX10_readsFactor 75 = .ok (.ireturn, 1) := dk_172 (dk_at dksX10_readsFactor_3 3 rfl rfl)
theorem dX10_readsFactor_76 : decode cX10_readsFactor 76 = .ok (.aload_n 0, 1) := dk_42 (dk_at dksX10_readsFactor_3 4 rfl rfl)
theorem dX10_readsFactor_77 : decode cX10_readsFactor 77 = .ok (.dup, 1) := dk_89 (dk_at dksX10_readsFactor_3 5 rfl rfl)
theorem dX10_readsFactor_78 : decode cX10_readsFactor 78 = .ok (.getfield 196, 3) := dk_180 0 196 (dk_at dksX10_readsFactor_3 6 rfl rfl)
theorem dX10_readsFactor_81 : decode cX10_readsFactor 81 = .ok (.iconst 1, 1) := dk_4 (dk_at dksX10_readsFactor_3 9 rfl rfl)
theorem dX10_readsFactor_82 : decode cX10_readsFactor 82 = .ok (.iadd, 1) := dk_96 (dk_at dksX10_readsFactor_3 10 rfl rfl)
theorem dX10_readsFactor_83 : decode cX10_readsFactor 83 = .ok (.putfield 196, 3) := dk_181 0 196 (dk_at dksX10_readsFactor_3 11 rfl rfl)
theorem dX10_readsFactor_86 : decode cX10_readsFactor 86 = .ok (.aload_n 0, 1) := dk_42 (dk_at dksX10_readsFactor_3 14 rfl rfl)
theorem dX10_readsFactor_87 : decode cX10_readsFactor 87 = .ok (.invokevirtual 164, 3) := dk_182 0 164 (dk_at dksX10_readsFactor_3 15 rfl rfl)
theorem dX10_readsFactor_90 : decode cX10_readsFactor 90 = .ok (.aload_n 0, 1) := dk_42 (dk_at dksX10_readsFactor_3 18 rfl rfl)
theorem dX10_readsFactor_91 : decode cX10_readsFactor 91 = .ok (.invokevirtual 199, 3) := dk_182 0 199 (dk_at dksX10_readsFactor_3 19 rfl rfl)
theorem dX10_readsFactor_94 : decode cX10_readsFactor 94 = .ok (.ifCond .eq 12, 3) := dk_153 0 12 (dk_at dksX10_readsFactor_4 0 rfl rfl)
theorem dX10_readsFactor_97 : decode cX10_readsFactor 97 = .ok (.aload_n 0, 1) := dk_42 (dk_at dksX10_readsFactor_4 3 rfl rfl)
theorem dX10_readsFactor_98 : decode cX10_readsFactor 98 = .ok (.bipush 41, 2) := dk_16 41 (dk_at dksX10_readsFactor_4 4 rfl rfl)
theorem dX10_readsFactor_100 : decode cX10_readsFactor 100 = .ok (.invokevirtual 202, 3) := dk_182 0 202 (dk_at dksX10_readsFactor_4 6 rfl rfl)
theorem dX10_readsFactor_103 : decode cX10_readsFactor 103 = .ok (.ifCond .ne 5, 3) := dk_154 0 5 (dk_at dksX10_readsFactor_4 9 rfl rfl)
theorem dX10_readsFactor_106 : decode cX10_readsFactor 106 = .ok (.iconst 0, 1) := dk_3 (dk_at dksX10_readsFactor_4 12 rfl rfl)
theorem dX10_readsFactor_107 : decode cX10_readsFactor 107 = .ok (.ireturn, 1) := dk_172 (dk_at dksX10_readsFactor_4 13 rfl rfl)
theorem dX10_readsFactor_108 : decode cX10_readsFactor 108 = .ok (.aload_n 0, 1) := dk_42 (dk_at dksX10_readsFactor_4 14 rfl rfl)
theorem dX10_readsFactor_109 : decode cX10_readsFactor 109 = .ok (.dup, 1) := dk_89 (dk_at dksX10_readsFactor_4 15 rfl rfl)
theorem dX10_readsFactor_110 : decode cX10_readsFactor 110 = .ok (.getfield 196, 3) := dk_180 0 196 (dk_at dksX10_readsFactor_4 16 rfl rfl)
theorem dX10_readsFactor_113 : decode cX10_readsFactor 113 = .ok (.iconst 1, 1) := dk_4 (dk_at dksX10_readsFactor_4 19 rfl rfl)
theorem dX10_readsFactor_114 : decode cX10_readsFactor 114 = .ok (.isub, 1) := dk_100 (dk_at dksX10_readsFactor_4 20 rfl rfl)
theorem dX10_readsFactor_115 : decode cX10_readsFactor 115 = .ok (.putfield 196, 3) := dk_181 0 196 (dk_at dksX10_readsFactor_4 21 rfl rfl)
theorem dX10_readsFactor_118 : decode cX10_readsFactor 118 = .ok (.iconst 1, 1) := dk_4 (dk_at dksX10_readsFactor_5 0 rfl rfl)
theorem dX10_readsFactor_119 : decode cX10_readsFactor 119 = .ok (.ireturn, 1) := dk_172 (dk_at dksX10_readsFactor_5 1 rfl rfl)
theorem dX10_readsFactor_120 : decode cX10_readsFactor 120 = .ok (.aload_n 0, 1) := dk_42 (dk_at dksX10_readsFactor_5 2 rfl rfl)
theorem dX10_readsFactor_121 : decode cX10_readsFactor 121 = .ok (.ldc 205, 2) := dk_18 205 (dk_at dksX10_readsFactor_5 3 rfl rfl)
theorem dX10_readsFactor_123 : decode cX10_readsFactor 123 = .ok (.invokevirtual 156, 3) := dk_182 0 156 (dk_at dksX10_readsFactor_5 5 rfl rfl)
theorem dX10_readsFactor_126 : decode cX10_readsFactor 126 = .ok (.ifCond .ne 8, 3) := dk_154 0 8 (dk_at dksX10_readsFactor_5 8 rfl rfl)
theorem dX10_readsFactor_129 : decode cX10_readsFactor 129 = .ok (.aload_n 0, 1) := dk_42 (dk_at dksX10_readsFactor_5 11 rfl rfl)
theorem dX10_readsFactor_130 : decode cX10_readsFactor 130 = .ok (.invokevirtual 207, 3) := dk_182 0 207 (dk_at dksX10_readsFactor_5 12 rfl rfl)
theorem dX10_readsFactor_133 : decode cX10_readsFactor 133 = .ok (.ireturn, 1) := dk_172 (dk_at dksX10_readsFactor_5 15 rfl rfl)
theorem dX10_readsFactor_134 : decode cX10_readsFactor 134 = .ok (.aload_n 0, 1) := dk_42 (dk_at dksX10_readsFactor_5 16 rfl rfl)
theorem dX10_readsFactor_135 : decode cX10_readsFactor 135 = .ok (.getfield 179, 3) := dk_180 0 179 (dk_at dksX10_readsFactor_5 17 rfl rfl)
theorem dX10_readsFactor_138 : decode cX10_readsFactor 138 = .ok (.bipush 12, 2) := dk_16 12 (dk_at dksX10_readsFactor_5 20 rfl rfl)
theorem dX10_readsFactor_140 : decode cX10_readsFactor 140 = .ok (.if_icmp .ne 9, 3) := dk_160 0 9 (dk_at dksX10_readsFactor_6 0 rfl rfl)
theorem dX10_readsFactor_143 : decode cX10_readsFactor 143 = .ok (.aload_n 0, 1) := dk_42 (dk_at dksX10_readsFactor_6 3 rfl rfl)
theorem dX10_readsFactor_144 : decode cX10_readsFactor 144 = .ok (.iconst 4, 1) := dk_7 (dk_at dksX10_readsFactor_6 4 rfl rfl)
theorem dX10_readsFactor_145 : decode cX10_readsFactor 145 = .ok (.invokevirtual 160, 3) := dk_182 0 160 (dk_at dksX10_readsFactor_6 5 rfl rfl)
theorem dX10_readsFactor_148 : decode cX10_readsFactor 148 = .ok (.ireturn, 1) := dk_172 (dk_at dksX10_readsFactor_6 8 rfl rfl)
theorem dX10_readsFactor_149 : decode cX10_readsFactor 149 = .ok (.aload_n 0, 1) := dk_42 (dk_at dksX10_readsFactor_6 9 rfl rfl)
theorem dX10_readsFactor_150 : decode cX10_readsFactor 150 = .ok (.dup, 1) := dk_89 (dk_at dksX10_readsFactor_6 10 rfl rfl)
theorem dX10_readsFactor_151 : decode cX10_readsFactor 151 = .ok (.getfield 179, 3) := dk_180 0 179 (dk_at dksX10_readsFactor_6 11 rfl rfl)
theorem dX10_readsFactor_154 : decode cX10_readsFactor 154 = .ok (.iconst 1, 1) := dk_4 (dk_at dksX10_readsFactor_6 14 rfl rfl)
theorem dX10_readsFactor_155 : decode cX10_readsFactor 155 = .ok (.iadd, 1) := dk_96 (dk_at dksX10_readsFactor_6 15 rfl rfl)
theorem dX10_readsFactor_156 : decode cX10_readsFactor 156 = .ok (.putfield 179, 3) := dk_181 0 179 (dk_at dksX10_readsFactor_6 16 rfl rfl)
theorem dX10_readsFactor_159 : decode cX10_readsFactor 159 = .ok (.aload_n 0, 1) := dk_42 (dk_at dksX10_readsFactor_6 19 rfl rfl)
theorem dX10_readsFactor_160 : decode cX10_readsFactor 160 = .ok (.invokevirtual 164, 3) := dk_182 0 164 (dk_at dksX10_readsFactor_6 20 rfl rfl)
theorem dX10_readsFactor_163 : decode cX10_readsFactor 163 = .ok (.aload_n 0, 1) := dk_42 (dk_at dksX10_readsFactor_6 23 rfl rfl)
theorem dX10_readsFactor_164 : decode cX10_readsFactor 164 = .ok (.iconst 4, 1) := dk_7 (dk_at dksX10_readsFactor_7 0 rfl rfl)
theorem dX10_readsFactor_165 : decode cX10_readsFactor 165 = .ok (.invokevirtual 185, 3) := dk_182 0 185 (dk_at dksX10_readsFactor_7 1 rfl rfl)
theorem dX10_readsFactor_168 : decode cX10_readsFactor 168 = .ok (.iconst 1, 1) := dk_4 (dk_at dksX10_readsFactor_7 4 rfl rfl)
theorem dX10_readsFactor_169 : decode cX10_readsFactor 169 = .ok (.ireturn, 1) := dk_172 (dk_at dksX10_readsFactor_7 5 rfl rfl)
abbrev cX10_emits : ByteArray := prog_17_method_46_code
def yX10_emits : MethodName := ⟨RX10, "emits", "(I)V"⟩
def dkwX10_emits_1 : List UInt8 := [42, 180, 0, 7, 42, 180, 0, 173, 3, 96, 92, 46, 4, 96, 79, 177]
abbrev dktX10_emits_1 : List UInt8 := dkwX10_emits_1 ++ []
def dkwX10_emits_0 : List UInt8 := [42, 180, 0, 7, 42, 180, 0, 173, 4, 96, 42, 180, 0, 7, 42, 180, 0, 173, 3, 96, 46, 96, 27, 79]
abbrev dktX10_emits_0 : List UInt8 := dkwX10_emits_0 ++ dktX10_emits_1
theorem dksX10_emits_0 : cX10_emits.data.toList.drop 0 = dktX10_emits_0 := by decide +kernel
theorem dksX10_emits_1 : cX10_emits.data.toList.drop 24 = dktX10_emits_1 := dk_seg dksX10_emits_0 24 rfl rfl
theorem dX10_emits_0 : decode cX10_emits 0 = .ok (.aload_n 0, 1) := dk_42 (dk_at dksX10_emits_0 0 rfl rfl)
theorem dX10_emits_1 : decode cX10_emits 1 = .ok (.getfield 7, 3) := dk_180 0 7 (dk_at dksX10_emits_0 1 rfl rfl)
theorem dX10_emits_4 : decode cX10_emits 4 = .ok (.aload_n 0, 1) := dk_42 (dk_at dksX10_emits_0 4 rfl rfl)
theorem dX10_emits_5 : decode cX10_emits 5 = .ok (.getfield 173, 3) := dk_180 0 173 (dk_at dksX10_emits_0 5 rfl rfl)
theorem dX10_emits_8 : decode cX10_emits 8 = .ok (.iconst 1, 1) := dk_4 (dk_at dksX10_emits_0 8 rfl rfl)
theorem dX10_emits_9 : decode cX10_emits 9 = .ok (.iadd, 1) := dk_96 (dk_at dksX10_emits_0 9 rfl rfl)
theorem dX10_emits_10 : decode cX10_emits 10 = .ok (.aload_n 0, 1) := dk_42 (dk_at dksX10_emits_0 10 rfl rfl)
theorem dX10_emits_11 : decode cX10_emits 11 = .ok (.getfield 7, 3) := dk_180 0 7 (dk_at dksX10_emits_0 11 rfl rfl)
theorem dX10_emits_14 : decode cX10_emits 14 = .ok (.aload_n 0, 1) := dk_42 (dk_at dksX10_emits_0 14 rfl rfl)
theorem dX10_emits_15 : decode cX10_emits 15 = .ok (.getfield 173, 3) := dk_180 0 173 (dk_at dksX10_emits_0 15 rfl rfl)
theorem dX10_emits_18 : decode cX10_emits 18 = .ok (.iconst 0, 1) := dk_3 (dk_at dksX10_emits_0 18 rfl rfl)
theorem dX10_emits_19 : decode cX10_emits 19 = .ok (.iadd, 1) := dk_96 (dk_at dksX10_emits_0 19 rfl rfl)
theorem dX10_emits_20 : decode cX10_emits 20 = .ok (.iaload, 1) := dk_46 (dk_at dksX10_emits_0 20 rfl rfl)
theorem dX10_emits_21 : decode cX10_emits 21 = .ok (.iadd, 1) := dk_96 (dk_at dksX10_emits_0 21 rfl rfl)
theorem dX10_emits_22 : decode cX10_emits 22 = .ok (.iload_n 1, 1) := dk_27 (dk_at dksX10_emits_0 22 rfl rfl)
theorem dX10_emits_23 : decode cX10_emits 23 = .ok (.iastore, 1) := dk_79 (dk_at dksX10_emits_0 23 rfl rfl)
theorem dX10_emits_24 : decode cX10_emits 24 = .ok (.aload_n 0, 1) := dk_42 (dk_at dksX10_emits_1 0 rfl rfl)
theorem dX10_emits_25 : decode cX10_emits 25 = .ok (.getfield 7, 3) := dk_180 0 7 (dk_at dksX10_emits_1 1 rfl rfl)
theorem dX10_emits_28 : decode cX10_emits 28 = .ok (.aload_n 0, 1) := dk_42 (dk_at dksX10_emits_1 4 rfl rfl)
theorem dX10_emits_29 : decode cX10_emits 29 = .ok (.getfield 173, 3) := dk_180 0 173 (dk_at dksX10_emits_1 5 rfl rfl)
theorem dX10_emits_32 : decode cX10_emits 32 = .ok (.iconst 0, 1) := dk_3 (dk_at dksX10_emits_1 8 rfl rfl)
theorem dX10_emits_33 : decode cX10_emits 33 = .ok (.iadd, 1) := dk_96 (dk_at dksX10_emits_1 9 rfl rfl)
theorem dX10_emits_34 : decode cX10_emits 34 = .ok (.dup2, 1) := dk_92 (dk_at dksX10_emits_1 10 rfl rfl)
theorem dX10_emits_35 : decode cX10_emits 35 = .ok (.iaload, 1) := dk_46 (dk_at dksX10_emits_1 11 rfl rfl)
theorem dX10_emits_36 : decode cX10_emits 36 = .ok (.iconst 1, 1) := dk_4 (dk_at dksX10_emits_1 12 rfl rfl)
theorem dX10_emits_37 : decode cX10_emits 37 = .ok (.iadd, 1) := dk_96 (dk_at dksX10_emits_1 13 rfl rfl)
theorem dX10_emits_38 : decode cX10_emits 38 = .ok (.iastore, 1) := dk_79 (dk_at dksX10_emits_1 14 rfl rfl)
theorem dX10_emits_39 : decode cX10_emits 39 = .ok (.return_, 1) := dk_177 (dk_at dksX10_emits_1 15 rfl rfl)
abbrev cX10_readsCompare : ByteArray := prog_17_method_47_code
def yX10_readsCompare : MethodName := ⟨RX10, "readsCompare", "()Z"⟩
def dkwX10_readsCompare_7 : List UInt8 := [16, 16, 27, 104, 96, 7, 28, 104, 96, 42, 180, 0, 167, 96, 182, 0, 185, 4, 172]
abbrev dktX10_readsCompare_7 : List UInt8 := dkwX10_readsCompare_7 ++ []
def dkwX10_readsCompare_6 : List UInt8 := [42, 3, 42, 180, 0, 7, 4, 27, 96, 46, 4, 100, 182, 0, 182, 154, 0, 5, 3, 172, 42, 16, 10]
abbrev dktX10_readsCompare_6 : List UInt8 := dkwX10_readsCompare_6 ++ dktX10_readsCompare_7
def dkwX10_readsCompare_5 : List UInt8 := [160, 0, 7, 5, 167, 0, 4, 2, 61, 28, 2, 160, 0, 9, 42, 4, 182, 0, 160, 172, 42, 182, 0, 164]
abbrev dktX10_readsCompare_5 : List UInt8 := dkwX10_readsCompare_5 ++ dktX10_readsCompare_6
def dkwX10_readsCompare_4 : List UInt8 := [167, 0, 30, 42, 180, 0, 144, 16, 60, 160, 0, 7, 4, 167, 0, 17, 42, 180, 0, 144, 16, 62]
abbrev dktX10_readsCompare_4 : List UInt8 := dkwX10_readsCompare_4 ++ dktX10_readsCompare_5
def dkwX10_readsCompare_3 : List UInt8 := [180, 0, 179, 4, 96, 181, 0, 179, 42, 182, 0, 164, 42, 180, 0, 144, 16, 61, 160, 0, 7, 3]
abbrev dktX10_readsCompare_3 : List UInt8 := dkwX10_readsCompare_3 ++ dktX10_readsCompare_4
def dkwX10_readsCompare_2 : List UInt8 := [42, 4, 182, 0, 160, 172, 42, 180, 0, 179, 16, 12, 160, 0, 9, 42, 7, 182, 0, 160, 172, 42, 89]
abbrev dktX10_readsCompare_2 : List UInt8 := dkwX10_readsCompare_2 ++ dktX10_readsCompare_3
def dkwX10_readsCompare_1 : List UInt8 := [180, 0, 28, 42, 180, 0, 141, 46, 16, 97, 100, 167, 0, 4, 2, 60, 42, 27, 182, 0, 176, 154, 0, 9]
abbrev dktX10_readsCompare_1 : List UInt8 := dkwX10_readsCompare_1 ++ dktX10_readsCompare_2
def dkwX10_readsCompare_0 : List UInt8 := [42, 180, 0, 144, 4, 160, 0, 31, 42, 180, 0, 138, 42, 180, 0, 141, 100, 4, 160, 0, 18, 42]
abbrev dktX10_readsCompare_0 : List UInt8 := dkwX10_readsCompare_0 ++ dktX10_readsCompare_1
theorem dksX10_readsCompare_0 : cX10_readsCompare.data.toList.drop 0 = dktX10_readsCompare_0 := by decide +kernel
theorem dksX10_readsCompare_1 : cX10_readsCompare.data.toList.drop 22 = dktX10_readsCompare_1 := dk_seg dksX10_readsCompare_0 22 rfl rfl
theorem dksX10_readsCompare_2 : cX10_readsCompare.data.toList.drop 46 = dktX10_readsCompare_2 := dk_seg dksX10_readsCompare_1 24 rfl rfl
theorem dksX10_readsCompare_3 : cX10_readsCompare.data.toList.drop 69 = dktX10_readsCompare_3 := dk_seg dksX10_readsCompare_2 23 rfl rfl
theorem dksX10_readsCompare_4 : cX10_readsCompare.data.toList.drop 91 = dktX10_readsCompare_4 := dk_seg dksX10_readsCompare_3 22 rfl rfl
theorem dksX10_readsCompare_5 : cX10_readsCompare.data.toList.drop 113 = dktX10_readsCompare_5 := dk_seg dksX10_readsCompare_4 22 rfl rfl
theorem dksX10_readsCompare_6 : cX10_readsCompare.data.toList.drop 137 = dktX10_readsCompare_6 := dk_seg dksX10_readsCompare_5 24 rfl rfl
theorem dksX10_readsCompare_7 : cX10_readsCompare.data.toList.drop 160 = dktX10_readsCompare_7 := dk_seg dksX10_readsCompare_6 23 rfl rfl
theorem dX10_readsCompare_0 : decode cX10_readsCompare 0 = .ok (.aload_n 0, 1) := dk_42 (dk_at dksX10_readsCompare_0 0 rfl rfl)
theorem dX10_readsCompare_1 : decode cX10_readsCompare 1 = .ok (.getfield 144, 3) := dk_180 0 144 (dk_at dksX10_readsCompare_0 1 rfl rfl)
theorem dX10_readsCompare_4 : decode cX10_readsCompare 4 = .ok (.iconst 1, 1) := dk_4 (dk_at dksX10_readsCompare_0 4 rfl rfl)
theorem dX10_readsCompare_5 : decode cX10_readsCompare 5 = .ok (.if_icmp .ne 31, 3) := dk_160 0 31 (dk_at dksX10_readsCompare_0 5 rfl rfl)
theorem dX10_readsCompare_8 : decode cX10_readsCompare 8 = .ok (.aload_n 0, 1) := dk_42 (dk_at dksX10_readsCompare_0 8 rfl rfl)
theorem dX10_readsCompare_9 : decode cX10_readsCompare 9 = .ok (.getfield 138, 3) := dk_180 0 138 (dk_at dksX10_readsCompare_0 9 rfl rfl)
theorem dX10_readsCompare_12 : decode cX10_readsCompare 12 = .ok (.aload_n 0, 1) := dk_42 (dk_at dksX10_readsCompare_0 12 rfl rfl)
theorem dX10_readsCompare_13 : decode cX10_readsCompare 13 = .ok (.getfield 141, 3) := dk_180 0 141 (dk_at dksX10_readsCompare_0 13 rfl rfl)
theorem dX10_readsCompare_16 : decode cX10_readsCompare 16 = .ok (.isub, 1) := dk_100 (dk_at dksX10_readsCompare_0 16 rfl rfl)
theorem dX10_readsCompare_17 : decode cX10_readsCompare 17 = .ok (.iconst 1, 1) := dk_4 (dk_at dksX10_readsCompare_0 17 rfl rfl)
theorem dX10_readsCompare_18 : decode cX10_readsCompare 18 = .ok (.if_icmp .ne 18, 3) := dk_160 0 18 (dk_at dksX10_readsCompare_0 18 rfl rfl)
theorem dX10_readsCompare_21 : decode cX10_readsCompare 21 = .ok (.aload_n 0, 1) := dk_42 (dk_at dksX10_readsCompare_0 21 rfl rfl)
theorem dX10_readsCompare_22 : decode cX10_readsCompare 22 = .ok (.getfield 28, 3) := dk_180 0 28 (dk_at dksX10_readsCompare_1 0 rfl rfl)
theorem dX10_readsCompare_25 : decode cX10_readsCompare 25 = .ok (.aload_n 0, 1) := dk_42 (dk_at dksX10_readsCompare_1 3 rfl rfl)
theorem dX10_readsCompare_26 : decode cX10_readsCompare 26 = .ok (.getfield 141, 3) := dk_180 0 141 (dk_at dksX10_readsCompare_1 4 rfl rfl)
theorem dX10_readsCompare_29 : decode cX10_readsCompare 29 = .ok (.iaload, 1) := dk_46 (dk_at dksX10_readsCompare_1 7 rfl rfl)
theorem dX10_readsCompare_30 : decode cX10_readsCompare 30 = .ok (.bipush 97, 2) := dk_16 97 (dk_at dksX10_readsCompare_1 8 rfl rfl)
theorem dX10_readsCompare_32 : decode cX10_readsCompare 32 = .ok (.isub, 1) := dk_100 (dk_at dksX10_readsCompare_1 10 rfl rfl)
theorem dX10_readsCompare_33 : decode cX10_readsCompare 33 = .ok (.goto 4, 3) := dk_167 0 4 (dk_at dksX10_readsCompare_1 11 rfl rfl)
theorem dX10_readsCompare_36 : decode cX10_readsCompare 36 = .ok (.iconst (-1), 1) := dk_2 (dk_at dksX10_readsCompare_1 14 rfl rfl)
theorem dX10_readsCompare_37 : decode cX10_readsCompare 37 = .ok (.istore_n 1, 1) := dk_60 (dk_at dksX10_readsCompare_1 15 rfl rfl)
theorem dX10_readsCompare_38 : decode cX10_readsCompare 38 = .ok (.aload_n 0, 1) := dk_42 (dk_at dksX10_readsCompare_1 16 rfl rfl)
theorem dX10_readsCompare_39 : decode cX10_readsCompare 39 = .ok (.iload_n 1, 1) := dk_27 (dk_at dksX10_readsCompare_1 17 rfl rfl)
theorem dX10_readsCompare_40 : decode cX10_readsCompare 40 = .ok (.invokevirtual 176, 3) := dk_182 0 176 (dk_at dksX10_readsCompare_1 18 rfl rfl)
theorem dX10_readsCompare_43 : decode cX10_readsCompare 43 = .ok (.ifCond .ne 9, 3) := dk_154 0 9 (dk_at dksX10_readsCompare_1 21 rfl rfl)
theorem dX10_readsCompare_46 : decode cX10_readsCompare 46 = .ok (.aload_n 0, 1) := dk_42 (dk_at dksX10_readsCompare_2 0 rfl rfl)
theorem dX10_readsCompare_47 : decode cX10_readsCompare 47 = .ok (.iconst 1, 1) := dk_4 (dk_at dksX10_readsCompare_2 1 rfl rfl)
theorem dX10_readsCompare_48 : decode cX10_readsCompare 48 = .ok (.invokevirtual 160, 3) := dk_182 0 160 (dk_at dksX10_readsCompare_2 2 rfl rfl)
theorem dX10_readsCompare_51 : decode cX10_readsCompare 51 = .ok (.ireturn, 1) := dk_172 (dk_at dksX10_readsCompare_2 5 rfl rfl)
theorem dX10_readsCompare_52 : decode cX10_readsCompare 52 = .ok (.aload_n 0, 1) := dk_42 (dk_at dksX10_readsCompare_2 6 rfl rfl)
theorem dX10_readsCompare_53 : decode cX10_readsCompare 53 = .ok (.getfield 179, 3) := dk_180 0 179 (dk_at dksX10_readsCompare_2 7 rfl rfl)
theorem dX10_readsCompare_56 : decode cX10_readsCompare 56 = .ok (.bipush 12, 2) := dk_16 12 (dk_at dksX10_readsCompare_2 10 rfl rfl)
theorem dX10_readsCompare_58 : decode cX10_readsCompare 58 = .ok (.if_icmp .ne 9, 3) := dk_160 0 9 (dk_at dksX10_readsCompare_2 12 rfl rfl)
theorem dX10_readsCompare_61 : decode cX10_readsCompare 61 = .ok (.aload_n 0, 1) := dk_42 (dk_at dksX10_readsCompare_2 15 rfl rfl)
theorem dX10_readsCompare_62 : decode cX10_readsCompare 62 = .ok (.iconst 4, 1) := dk_7 (dk_at dksX10_readsCompare_2 16 rfl rfl)
theorem dX10_readsCompare_63 : decode cX10_readsCompare 63 = .ok (.invokevirtual 160, 3) := dk_182 0 160 (dk_at dksX10_readsCompare_2 17 rfl rfl)
theorem dX10_readsCompare_66 : decode cX10_readsCompare 66 = .ok (.ireturn, 1) := dk_172 (dk_at dksX10_readsCompare_2 20 rfl rfl)
theorem dX10_readsCompare_67 : decode cX10_readsCompare 67 = .ok (.aload_n 0, 1) := dk_42 (dk_at dksX10_readsCompare_2 21 rfl rfl)
theorem dX10_readsCompare_68 : decode cX10_readsCompare 68 = .ok (.dup, 1) := dk_89 (dk_at dksX10_readsCompare_2 22 rfl rfl)
theorem dX10_readsCompare_69 : decode cX10_readsCompare 69 = .ok (.getfield 179, 3) := dk_180 0 179 (dk_at dksX10_readsCompare_3 0 rfl rfl)
theorem dX10_readsCompare_72 : decode cX10_readsCompare 72 = .ok (.iconst 1, 1) := dk_4 (dk_at dksX10_readsCompare_3 3 rfl rfl)
theorem dX10_readsCompare_73 : decode cX10_readsCompare 73 = .ok (.iadd, 1) := dk_96 (dk_at dksX10_readsCompare_3 4 rfl rfl)
theorem dX10_readsCompare_74 : decode cX10_readsCompare 74 = .ok (.putfield 179, 3) := dk_181 0 179 (dk_at dksX10_readsCompare_3 5 rfl rfl)
theorem dX10_readsCompare_77 : decode cX10_readsCompare 77 = .ok (.aload_n 0, 1) := dk_42 (dk_at dksX10_readsCompare_3 8 rfl rfl)
theorem dX10_readsCompare_78 : decode cX10_readsCompare 78 = .ok (.invokevirtual 164, 3) := dk_182 0 164 (dk_at dksX10_readsCompare_3 9 rfl rfl)
theorem dX10_readsCompare_81 : decode cX10_readsCompare 81 = .ok (.aload_n 0, 1) := dk_42 (dk_at dksX10_readsCompare_3 12 rfl rfl)
theorem dX10_readsCompare_82 : decode cX10_readsCompare 82 = .ok (.getfield 144, 3) := dk_180 0 144 (dk_at dksX10_readsCompare_3 13 rfl rfl)
theorem dX10_readsCompare_85 : decode cX10_readsCompare 85 = .ok (.bipush 61, 2) := dk_16 61 (dk_at dksX10_readsCompare_3 16 rfl rfl)
theorem dX10_readsCompare_87 : decode cX10_readsCompare 87 = .ok (.if_icmp .ne 7, 3) := dk_160 0 7 (dk_at dksX10_readsCompare_3 18 rfl rfl)
theorem dX10_readsCompare_90 : decode cX10_readsCompare 90 = .ok (.iconst 0, 1) := dk_3 (dk_at dksX10_readsCompare_3 21 rfl rfl)
theorem dX10_readsCompare_91 : decode cX10_readsCompare 91 = .ok (.goto 30, 3) := dk_167 0 30 (dk_at dksX10_readsCompare_4 0 rfl rfl)
theorem dX10_readsCompare_94 : decode cX10_readsCompare 94 = .ok (.aload_n 0, 1) := dk_42 (dk_at dksX10_readsCompare_4 3 rfl rfl)
theorem dX10_readsCompare_95 : decode cX10_readsCompare 95 = .ok (.getfield 144, 3) := dk_180 0 144 (dk_at dksX10_readsCompare_4 4 rfl rfl)
theorem dX10_readsCompare_98 : decode cX10_readsCompare 98 = .ok (.bipush 60, 2) := dk_16 60 (dk_at dksX10_readsCompare_4 7 rfl rfl)
theorem dX10_readsCompare_100 : decode cX10_readsCompare 100 = .ok (.if_icmp .ne 7, 3) := dk_160 0 7 (dk_at dksX10_readsCompare_4 9 rfl rfl)
theorem dX10_readsCompare_103 : decode cX10_readsCompare 103 = .ok (.iconst 1, 1) := dk_4 (dk_at dksX10_readsCompare_4 12 rfl rfl)
theorem dX10_readsCompare_104 : decode cX10_readsCompare 104 = .ok (.goto 17, 3) := dk_167 0 17 (dk_at dksX10_readsCompare_4 13 rfl rfl)
theorem dX10_readsCompare_107 : decode cX10_readsCompare 107 = .ok (.aload_n 0, 1) := dk_42 (dk_at dksX10_readsCompare_4 16 rfl rfl)
theorem dX10_readsCompare_108 : decode cX10_readsCompare 108 = .ok (.getfield 144, 3) := dk_180 0 144 (dk_at dksX10_readsCompare_4 17 rfl rfl)
theorem dX10_readsCompare_111 : decode cX10_readsCompare 111 = .ok (.bipush 62, 2) := dk_16 62 (dk_at dksX10_readsCompare_4 20 rfl rfl)
theorem dX10_readsCompare_113 : decode cX10_readsCompare 113 = .ok (.if_icmp .ne 7, 3) := dk_160 0 7 (dk_at dksX10_readsCompare_5 0 rfl rfl)
theorem dX10_readsCompare_116 : decode cX10_readsCompare 116 = .ok (.iconst 2, 1) := dk_5 (dk_at dksX10_readsCompare_5 3 rfl rfl)
theorem dX10_readsCompare_117 : decode cX10_readsCompare 117 = .ok (.goto 4, 3) := dk_167 0 4 (dk_at dksX10_readsCompare_5 4 rfl rfl)
theorem dX10_readsCompare_120 : decode cX10_readsCompare 120 = .ok (.iconst (-1), 1) := dk_2 (dk_at dksX10_readsCompare_5 7 rfl rfl)
theorem dX10_readsCompare_121 : decode cX10_readsCompare 121 = .ok (.istore_n 2, 1) := dk_61 (dk_at dksX10_readsCompare_5 8 rfl rfl)
theorem dX10_readsCompare_122 : decode cX10_readsCompare 122 = .ok (.iload_n 2, 1) := dk_28 (dk_at dksX10_readsCompare_5 9 rfl rfl)
theorem dX10_readsCompare_123 : decode cX10_readsCompare 123 = .ok (.iconst (-1), 1) := dk_2 (dk_at dksX10_readsCompare_5 10 rfl rfl)
theorem dX10_readsCompare_124 : decode cX10_readsCompare 124 = .ok (.if_icmp .ne 9, 3) := dk_160 0 9 (dk_at dksX10_readsCompare_5 11 rfl rfl)
theorem dX10_readsCompare_127 : decode cX10_readsCompare 127 = .ok (.aload_n 0, 1) := dk_42 (dk_at dksX10_readsCompare_5 14 rfl rfl)
theorem dX10_readsCompare_128 : decode cX10_readsCompare 128 = .ok (.iconst 1, 1) := dk_4 (dk_at dksX10_readsCompare_5 15 rfl rfl)
theorem dX10_readsCompare_129 : decode cX10_readsCompare 129 = .ok (.invokevirtual 160, 3) := dk_182 0 160 (dk_at dksX10_readsCompare_5 16 rfl rfl)
theorem dX10_readsCompare_132 : decode cX10_readsCompare 132 = .ok (.ireturn, 1) := dk_172 (dk_at dksX10_readsCompare_5 19 rfl rfl)
theorem dX10_readsCompare_133 : decode cX10_readsCompare 133 = .ok (.aload_n 0, 1) := dk_42 (dk_at dksX10_readsCompare_5 20 rfl rfl)
theorem dX10_readsCompare_134 : decode cX10_readsCompare 134 = .ok (.invokevirtual 164, 3) := dk_182 0 164 (dk_at dksX10_readsCompare_5 21 rfl rfl)
theorem dX10_readsCompare_137 : decode cX10_readsCompare 137 = .ok (.aload_n 0, 1) := dk_42 (dk_at dksX10_readsCompare_6 0 rfl rfl)
theorem dX10_readsCompare_138 : decode cX10_readsCompare 138 = .ok (.iconst 0, 1) := dk_3 (dk_at dksX10_readsCompare_6 1 rfl rfl)
theorem dX10_readsCompare_139 : decode cX10_readsCompare 139 = .ok (.aload_n 0, 1) := dk_42 (dk_at dksX10_readsCompare_6 2 rfl rfl)
theorem dX10_readsCompare_140 : decode cX10_readsCompare 140 = .ok (.getfield 7, 3) := dk_180 0 7 (dk_at dksX10_readsCompare_6 3 rfl rfl)
theorem dX10_readsCompare_143 : decode cX10_readsCompare 143 = .ok (.iconst 1, 1) := dk_4 (dk_at dksX10_readsCompare_6 6 rfl rfl)
theorem dX10_readsCompare_144 : decode cX10_readsCompare 144 = .ok (.iload_n 1, 1) := dk_27 (dk_at dksX10_readsCompare_6 7 rfl rfl)
theorem dX10_readsCompare_145 : decode cX10_readsCompare 145 = .ok (.iadd, 1) := dk_96 (dk_at dksX10_readsCompare_6 8 rfl rfl)
theorem dX10_readsCompare_146 : decode cX10_readsCompare 146 = .ok (.iaload, 1) := dk_46 (dk_at dksX10_readsCompare_6 9 rfl rfl)
theorem dX10_readsCompare_147 : decode cX10_readsCompare 147 = .ok (.iconst 1, 1) := dk_4 (dk_at dksX10_readsCompare_6 10 rfl rfl)
theorem dX10_readsCompare_148 : decode cX10_readsCompare 148 = .ok (.isub, 1) := dk_100 (dk_at dksX10_readsCompare_6 11 rfl rfl)
theorem dX10_readsCompare_149 : decode cX10_readsCompare 149 = .ok (.invokevirtual 182, 3) := dk_182 0 182 (dk_at dksX10_readsCompare_6 12 rfl rfl)
theorem dX10_readsCompare_152 : decode cX10_readsCompare 152 = .ok (.ifCond .ne 5, 3) := dk_154 0 5 (dk_at dksX10_readsCompare_6 15 rfl rfl)
theorem dX10_readsCompare_155 : decode cX10_readsCompare 155 = .ok (.iconst 0, 1) := dk_3 (dk_at dksX10_readsCompare_6 18 rfl rfl)
theorem dX10_readsCompare_156 : decode cX10_readsCompare 156 = .ok (.ireturn, 1) := dk_172 (dk_at dksX10_readsCompare_6 19 rfl rfl)
theorem dX10_readsCompare_157 : decode cX10_readsCompare 157 = .ok (.aload_n 0, 1) := dk_42 (dk_at dksX10_readsCompare_6 20 rfl rfl)
theorem dX10_readsCompare_158 : decode cX10_readsCompare 158 = .ok (.bipush 10, 2) := dk_16 10 (dk_at dksX10_readsCompare_6 21 rfl rfl)
theorem dX10_readsCompare_160 : decode cX10_readsCompare 160 = .ok (.bipush 16, 2) := dk_16 16 (dk_at dksX10_readsCompare_7 0 rfl rfl)
theorem dX10_readsCompare_162 : decode cX10_readsCompare 162 = .ok (.iload_n 1, 1) := dk_27 (dk_at dksX10_readsCompare_7 2 rfl rfl)
theorem dX10_readsCompare_163 : decode cX10_readsCompare 163 = .ok (.imul, 1) := dk_104 (dk_at dksX10_readsCompare_7 3 rfl rfl)
theorem dX10_readsCompare_164 : decode cX10_readsCompare 164 = .ok (.iadd, 1) := dk_96 (dk_at dksX10_readsCompare_7 4 rfl rfl)
theorem dX10_readsCompare_165 : decode cX10_readsCompare 165 = .ok (.iconst 4, 1) := dk_7 (dk_at dksX10_readsCompare_7 5 rfl rfl)
theorem dX10_readsCompare_166 : decode cX10_readsCompare 166 = .ok (.iload_n 2, 1) := dk_28 (dk_at dksX10_readsCompare_7 6 rfl rfl)
theorem dX10_readsCompare_167 : decode cX10_readsCompare 167 = .ok (.imul, 1) := dk_104 (dk_at dksX10_readsCompare_7 7 rfl rfl)
theorem dX10_readsCompare_168 : decode cX10_readsCompare 168 = .ok (.iadd, 1) := dk_96 (dk_at dksX10_readsCompare_7 8 rfl rfl)
theorem dX10_readsCompare_169 : decode cX10_readsCompare 169 = .ok (.aload_n 0, 1) := dk_42 (dk_at dksX10_readsCompare_7 9 rfl rfl)
theorem dX10_readsCompare_170 : decode cX10_readsCompare 170 = .ok (.getfield 167, 3) := dk_180 0 167 (dk_at dksX10_readsCompare_7 10 rfl rfl)
theorem dX10_readsCompare_173 : decode cX10_readsCompare 173 = .ok (.iadd, 1) := dk_96 (dk_at dksX10_readsCompare_7 13 rfl rfl)
theorem dX10_readsCompare_174 : decode cX10_readsCompare 174 = .ok (.invokevirtual 185, 3) := dk_182 0 185 (dk_at dksX10_readsCompare_7 14 rfl rfl)
theorem dX10_readsCompare_177 : decode cX10_readsCompare 177 = .ok (.iconst 1, 1) := dk_4 (dk_at dksX10_readsCompare_7 17 rfl rfl)
theorem dX10_readsCompare_178 : decode cX10_readsCompare 178 = .ok (.ireturn, 1) := dk_172 (dk_at dksX10_readsCompare_7 18 rfl rfl)
abbrev cX10_isFact : ByteArray := prog_17_method_12_code
def yX10_isFact : MethodName := ⟨RX10, "isFact", "(I)Z"⟩
def dkwX10_isFact_0 : List UInt8 := [27, 3, 42, 180, 0, 7, 3, 46, 4, 100, 184, 0, 53, 172]
abbrev dktX10_isFact_0 : List UInt8 := dkwX10_isFact_0 ++ []
theorem dksX10_isFact_0 : cX10_isFact.data.toList.drop 0 = dktX10_isFact_0 := by decide +kernel
theorem dX10_isFact_0 : decode cX10_isFact 0 = .ok (.iload_n 1, 1) := dk_27 (dk_at dksX10_isFact_0 0 rfl rfl)
theorem dX10_isFact_1 : decode cX10_isFact 1 = .ok (.iconst 0, 1) := dk_3 (dk_at dksX10_isFact_0 1 rfl rfl)
theorem dX10_isFact_2 : decode cX10_isFact 2 = .ok (.aload_n 0, 1) := dk_42 (dk_at dksX10_isFact_0 2 rfl rfl)
theorem dX10_isFact_3 : decode cX10_isFact 3 = .ok (.getfield 7, 3) := dk_180 0 7 (dk_at dksX10_isFact_0 3 rfl rfl)
theorem dX10_isFact_6 : decode cX10_isFact 6 = .ok (.iconst 0, 1) := dk_3 (dk_at dksX10_isFact_0 6 rfl rfl)
theorem dX10_isFact_7 : decode cX10_isFact 7 = .ok (.iaload, 1) := dk_46 (dk_at dksX10_isFact_0 7 rfl rfl)
theorem dX10_isFact_8 : decode cX10_isFact 8 = .ok (.iconst 1, 1) := dk_4 (dk_at dksX10_isFact_0 8 rfl rfl)
theorem dX10_isFact_9 : decode cX10_isFact 9 = .ok (.isub, 1) := dk_100 (dk_at dksX10_isFact_0 9 rfl rfl)
theorem dX10_isFact_10 : decode cX10_isFact 10 = .ok (.invokestatic 53, 3) := dk_184 0 53 (dk_at dksX10_isFact_0 10 rfl rfl)
theorem dX10_isFact_13 : decode cX10_isFact 13 = .ok (.ireturn, 1) := dk_172 (dk_at dksX10_isFact_0 13 rfl rfl)
abbrev cX10_readsParts : ByteArray := prog_17_method_52_code
def yX10_readsParts : MethodName := ⟨RX10, "readsParts", "()Z"⟩
def dkwX10_readsParts_2 : List UInt8 := [160, 0, 7, 4, 167, 0, 4, 3, 61, 28, 153, 255, 217, 42, 182, 0, 164, 167, 255, 210, 4, 172]
abbrev dktX10_readsParts_2 : List UInt8 := dkwX10_readsParts_2 ++ []
def dkwX10_readsParts_1 : List UInt8 := [27, 182, 0, 221, 154, 0, 5, 3, 172, 27, 4, 42, 180, 0, 217, 120, 128, 60, 42, 180, 0, 144, 16, 44]
abbrev dktX10_readsParts_1 : List UInt8 := dkwX10_readsParts_1 ++ dktX10_readsParts_2
def dkwX10_readsParts_0 : List UInt8 := [42, 18, 219, 182, 0, 156, 153, 0, 9, 42, 182, 0, 164, 4, 172, 3, 60, 4, 61, 28, 153, 0, 48, 42]
abbrev dktX10_readsParts_0 : List UInt8 := dkwX10_readsParts_0 ++ dktX10_readsParts_1
theorem dksX10_readsParts_0 : cX10_readsParts.data.toList.drop 0 = dktX10_readsParts_0 := by decide +kernel
theorem dksX10_readsParts_1 : cX10_readsParts.data.toList.drop 24 = dktX10_readsParts_1 := dk_seg dksX10_readsParts_0 24 rfl rfl
theorem dksX10_readsParts_2 : cX10_readsParts.data.toList.drop 48 = dktX10_readsParts_2 := dk_seg dksX10_readsParts_1 24 rfl rfl
theorem dX10_readsParts_0 : decode cX10_readsParts 0 = .ok (.aload_n 0, 1) := dk_42 (dk_at dksX10_readsParts_0 0 rfl rfl)
theorem dX10_readsParts_1 : decode cX10_readsParts 1 = .ok (.ldc 219, 2) := dk_18 219 (dk_at dksX10_readsParts_0 1 rfl rfl)
theorem dX10_readsParts_3 : decode cX10_readsParts 3 = .ok (.invokevirtual 156, 3) := dk_182 0 156 (dk_at dksX10_readsParts_0 3 rfl rfl)
theorem dX10_readsParts_6 : decode cX10_readsParts 6 = .ok (.ifCond .eq 9, 3) := dk_153 0 9 (dk_at dksX10_readsParts_0 6 rfl rfl)
theorem dX10_readsParts_9 : decode cX10_readsParts 9 = .ok (.aload_n 0, 1) := dk_42 (dk_at dksX10_readsParts_0 9 rfl rfl)
theorem dX10_readsParts_10 : decode cX10_readsParts 10 = .ok (.invokevirtual 164, 3) := dk_182 0 164 (dk_at dksX10_readsParts_0 10 rfl rfl)
theorem dX10_readsParts_13 : decode cX10_readsParts 13 = .ok (.iconst 1, 1) := dk_4 (dk_at dksX10_readsParts_0 13 rfl rfl)
theorem dX10_readsParts_14 : decode cX10_readsParts 14 = .ok (.ireturn, 1) := dk_172 (dk_at dksX10_readsParts_0 14 rfl rfl)
theorem dX10_readsParts_15 : decode cX10_readsParts 15 = .ok (.iconst 0, 1) := dk_3 (dk_at dksX10_readsParts_0 15 rfl rfl)
theorem dX10_readsParts_16 : decode cX10_readsParts 16 = .ok (.istore_n 1, 1) := dk_60 (dk_at dksX10_readsParts_0 16 rfl rfl)
theorem dX10_readsParts_17 : decode cX10_readsParts 17 = .ok (.iconst 1, 1) := dk_4 (dk_at dksX10_readsParts_0 17 rfl rfl)
theorem dX10_readsParts_18 : decode cX10_readsParts 18 = .ok (.istore_n 2, 1) := dk_61 (dk_at dksX10_readsParts_0 18 rfl rfl)
theorem dX10_readsParts_19 : decode cX10_readsParts 19 = .ok (.iload_n 2, 1) := dk_28 (dk_at dksX10_readsParts_0 19 rfl rfl)
theorem dX10_readsParts_20 : decode cX10_readsParts 20 = .ok (.ifCond .eq 48, 3) := dk_153 0 48 (dk_at dksX10_readsParts_0 20 rfl rfl)
theorem dX10_readsParts_23 : decode cX10_readsParts 23 = .ok (.aload_n 0, 1) := dk_42 (dk_at dksX10_readsParts_0 23 rfl rfl)
theorem dX10_readsParts_24 : decode cX10_readsParts 24 = .ok (.iload_n 1, 1) := dk_27 (dk_at dksX10_readsParts_1 0 rfl rfl)
theorem dX10_readsParts_25 : decode cX10_readsParts 25 = .ok (.invokevirtual 221, 3) := dk_182 0 221 (dk_at dksX10_readsParts_1 1 rfl rfl)
theorem dX10_readsParts_28 : decode cX10_readsParts 28 = .ok (.ifCond .ne 5, 3) := dk_154 0 5 (dk_at dksX10_readsParts_1 4 rfl rfl)
theorem dX10_readsParts_31 : decode cX10_readsParts 31 = .ok (.iconst 0, 1) := dk_3 (dk_at dksX10_readsParts_1 7 rfl rfl)
theorem dX10_readsParts_32 : decode cX10_readsParts 32 = .ok (.ireturn, 1) := dk_172 (dk_at dksX10_readsParts_1 8 rfl rfl)
theorem dX10_readsParts_33 : decode cX10_readsParts 33 = .ok (.iload_n 1, 1) := dk_27 (dk_at dksX10_readsParts_1 9 rfl rfl)
theorem dX10_readsParts_34 : decode cX10_readsParts 34 = .ok (.iconst 1, 1) := dk_4 (dk_at dksX10_readsParts_1 10 rfl rfl)
theorem dX10_readsParts_35 : decode cX10_readsParts 35 = .ok (.aload_n 0, 1) := dk_42 (dk_at dksX10_readsParts_1 11 rfl rfl)
theorem dX10_readsParts_36 : decode cX10_readsParts 36 = .ok (.getfield 217, 3) := dk_180 0 217 (dk_at dksX10_readsParts_1 12 rfl rfl)
theorem dX10_readsParts_39 : decode cX10_readsParts 39 = .ok (.ishl, 1) := dk_120 (dk_at dksX10_readsParts_1 15 rfl rfl)
theorem dX10_readsParts_40 : decode cX10_readsParts 40 = .ok (.ior, 1) := dk_128 (dk_at dksX10_readsParts_1 16 rfl rfl)
theorem dX10_readsParts_41 : decode cX10_readsParts 41 = .ok (.istore_n 1, 1) := dk_60 (dk_at dksX10_readsParts_1 17 rfl rfl)
theorem dX10_readsParts_42 : decode cX10_readsParts 42 = .ok (.aload_n 0, 1) := dk_42 (dk_at dksX10_readsParts_1 18 rfl rfl)
theorem dX10_readsParts_43 : decode cX10_readsParts 43 = .ok (.getfield 144, 3) := dk_180 0 144 (dk_at dksX10_readsParts_1 19 rfl rfl)
theorem dX10_readsParts_46 : decode cX10_readsParts 46 = .ok (.bipush 44, 2) := dk_16 44 (dk_at dksX10_readsParts_1 22 rfl rfl)
theorem dX10_readsParts_48 : decode cX10_readsParts 48 = .ok (.if_icmp .ne 7, 3) := dk_160 0 7 (dk_at dksX10_readsParts_2 0 rfl rfl)
theorem dX10_readsParts_51 : decode cX10_readsParts 51 = .ok (.iconst 1, 1) := dk_4 (dk_at dksX10_readsParts_2 3 rfl rfl)
theorem dX10_readsParts_52 : decode cX10_readsParts 52 = .ok (.goto 4, 3) := dk_167 0 4 (dk_at dksX10_readsParts_2 4 rfl rfl)
theorem dX10_readsParts_55 : decode cX10_readsParts 55 = .ok (.iconst 0, 1) := dk_3 (dk_at dksX10_readsParts_2 7 rfl rfl)
theorem dX10_readsParts_56 : decode cX10_readsParts 56 = .ok (.istore_n 2, 1) := dk_61 (dk_at dksX10_readsParts_2 8 rfl rfl)
theorem dX10_readsParts_57 : decode cX10_readsParts 57 = .ok (.iload_n 2, 1) := dk_28 (dk_at dksX10_readsParts_2 9 rfl rfl)
theorem dX10_readsParts_58 : decode cX10_readsParts 58 = .ok (.ifCond .eq (-39), 3) := dk_153 255 217 (dk_at dksX10_readsParts_2 10 rfl rfl)
theorem dX10_readsParts_61 : decode cX10_readsParts 61 = .ok (.aload_n 0, 1) := dk_42 (dk_at dksX10_readsParts_2 13 rfl rfl)
theorem dX10_readsParts_62 : decode cX10_readsParts 62 = .ok (.invokevirtual 164, 3) := dk_182 0 164 (dk_at dksX10_readsParts_2 14 rfl rfl)
theorem dX10_readsParts_65 : decode cX10_readsParts 65 = .ok (.goto (-46), 3) := dk_167 255 210 (dk_at dksX10_readsParts_2 17 rfl rfl)
theorem dX10_readsParts_68 : decode cX10_readsParts 68 = .ok (.iconst 1, 1) := dk_4 (dk_at dksX10_readsParts_2 20 rfl rfl)
theorem dX10_readsParts_69 : decode cX10_readsParts 69 = .ok (.ireturn, 1) := dk_172 (dk_at dksX10_readsParts_2 21 rfl rfl)
abbrev cX10_readsPart : ByteArray := prog_17_method_51_code
def yX10_readsPart : MethodName := ⟨RX10, "readsPart", "(I)Z"⟩
def dkwX10_readsPart_7 : List UInt8 := [181, 0, 217, 4, 172]
abbrev dktX10_readsPart_7 : List UInt8 := dkwX10_readsPart_7 ++ []
def dkwX10_readsPart_6 : List UInt8 := [172, 42, 182, 0, 164, 42, 180, 0, 7, 42, 180, 0, 173, 16, 29, 96, 28, 96, 21, 4, 79, 42, 28]
abbrev dktX10_readsPart_6 : List UInt8 := dkwX10_readsPart_6 ++ dktX10_readsPart_7
def dkwX10_readsPart_5 : List UInt8 := [96, 46, 96, 54, 5, 132, 6, 1, 167, 255, 227, 21, 5, 17, 108, 72, 164, 0, 9, 42, 8, 182, 0, 160]
abbrev dktX10_readsPart_5 : List UInt8 := dkwX10_readsPart_5 ++ dktX10_readsPart_6
def dkwX10_readsPart_4 : List UInt8 := [3, 54, 6, 21, 6, 7, 162, 0, 29, 21, 5, 42, 180, 0, 7, 42, 180, 0, 173, 16, 29, 96, 21, 6]
abbrev dktX10_readsPart_4 : List UInt8 := dkwX10_readsPart_4 ++ dktX10_readsPart_5
def dkwX10_readsPart_3 : List UInt8 := [182, 0, 170, 154, 0, 5, 3, 172, 29, 17, 108, 72, 104, 42, 180, 0, 167, 108, 54, 4, 21, 4, 54, 5]
abbrev dktX10_readsPart_3 : List UInt8 := dkwX10_readsPart_3 ++ dktX10_readsPart_4
def dkwX10_readsPart_2 : List UInt8 := [154, 0, 5, 3, 172, 42, 180, 0, 167, 62, 42, 16, 47, 182, 0, 202, 153, 0, 13, 42, 4, 16, 12]
abbrev dktX10_readsPart_2 : List UInt8 := dkwX10_readsPart_2 ++ dktX10_readsPart_3
def dkwX10_readsPart_1 : List UInt8 := [28, 184, 0, 49, 153, 0, 9, 42, 6, 182, 0, 160, 172, 42, 182, 0, 164, 42, 3, 16, 12, 182, 0, 182]
abbrev dktX10_readsPart_1 : List UInt8 := dkwX10_readsPart_1 ++ dktX10_readsPart_2
def dkwX10_readsPart_0 : List UInt8 := [42, 3, 42, 180, 0, 7, 8, 46, 4, 100, 182, 0, 170, 154, 0, 5, 3, 172, 42, 180, 0, 167, 61, 27]
abbrev dktX10_readsPart_0 : List UInt8 := dkwX10_readsPart_0 ++ dktX10_readsPart_1
theorem dksX10_readsPart_0 : cX10_readsPart.data.toList.drop 0 = dktX10_readsPart_0 := by decide +kernel
theorem dksX10_readsPart_1 : cX10_readsPart.data.toList.drop 24 = dktX10_readsPart_1 := dk_seg dksX10_readsPart_0 24 rfl rfl
theorem dksX10_readsPart_2 : cX10_readsPart.data.toList.drop 48 = dktX10_readsPart_2 := dk_seg dksX10_readsPart_1 24 rfl rfl
theorem dksX10_readsPart_3 : cX10_readsPart.data.toList.drop 71 = dktX10_readsPart_3 := dk_seg dksX10_readsPart_2 23 rfl rfl
theorem dksX10_readsPart_4 : cX10_readsPart.data.toList.drop 95 = dktX10_readsPart_4 := dk_seg dksX10_readsPart_3 24 rfl rfl
theorem dksX10_readsPart_5 : cX10_readsPart.data.toList.drop 119 = dktX10_readsPart_5 := dk_seg dksX10_readsPart_4 24 rfl rfl
theorem dksX10_readsPart_6 : cX10_readsPart.data.toList.drop 143 = dktX10_readsPart_6 := dk_seg dksX10_readsPart_5 24 rfl rfl
theorem dksX10_readsPart_7 : cX10_readsPart.data.toList.drop 166 = dktX10_readsPart_7 := dk_seg dksX10_readsPart_6 23 rfl rfl
theorem dX10_readsPart_0 : decode cX10_readsPart 0 = .ok (.aload_n 0, 1) := dk_42 (dk_at dksX10_readsPart_0 0 rfl rfl)
theorem dX10_readsPart_1 : decode cX10_readsPart 1 = .ok (.iconst 0, 1) := dk_3 (dk_at dksX10_readsPart_0 1 rfl rfl)
theorem dX10_readsPart_2 : decode cX10_readsPart 2 = .ok (.aload_n 0, 1) := dk_42 (dk_at dksX10_readsPart_0 2 rfl rfl)
theorem dX10_readsPart_3 : decode cX10_readsPart 3 = .ok (.getfield 7, 3) := dk_180 0 7 (dk_at dksX10_readsPart_0 3 rfl rfl)
theorem dX10_readsPart_6 : decode cX10_readsPart 6 = .ok (.iconst 5, 1) := dk_8 (dk_at dksX10_readsPart_0 6 rfl rfl)
theorem dX10_readsPart_7 : decode cX10_readsPart 7 = .ok (.iaload, 1) := dk_46 (dk_at dksX10_readsPart_0 7 rfl rfl)
theorem dX10_readsPart_8 : decode cX10_readsPart 8 = .ok (.iconst 1, 1) := dk_4 (dk_at dksX10_readsPart_0 8 rfl rfl)
theorem dX10_readsPart_9 : decode cX10_readsPart 9 = .ok (.isub, 1) := dk_100 (dk_at dksX10_readsPart_0 9 rfl rfl)
theorem dX10_readsPart_10 : decode cX10_readsPart 10 = .ok (.invokevirtual 170, 3) := dk_182 0 170 (dk_at dksX10_readsPart_0 10 rfl rfl)
theorem dX10_readsPart_13 : decode cX10_readsPart 13 = .ok (.ifCond .ne 5, 3) := dk_154 0 5 (dk_at dksX10_readsPart_0 13 rfl rfl)
theorem dX10_readsPart_16 : decode cX10_readsPart 16 = .ok (.iconst 0, 1) := dk_3 (dk_at dksX10_readsPart_0 16 rfl rfl)
theorem dX10_readsPart_17 : decode cX10_readsPart 17 = .ok (.ireturn, 1) := dk_172 (dk_at dksX10_readsPart_0 17 rfl rfl)
theorem dX10_readsPart_18 : decode cX10_readsPart 18 = .ok (.aload_n 0, 1) := dk_42 (dk_at dksX10_readsPart_0 18 rfl rfl)
theorem dX10_readsPart_19 : decode cX10_readsPart 19 = .ok (.getfield 167, 3) := dk_180 0 167 (dk_at dksX10_readsPart_0 19 rfl rfl)
theorem dX10_readsPart_22 : decode cX10_readsPart 22 = .ok (.istore_n 2, 1) := dk_61 (dk_at dksX10_readsPart_0 22 rfl rfl)
theorem dX10_readsPart_23 : decode cX10_readsPart 23 = .ok (.iload_n 1, 1) := dk_27 (dk_at dksX10_readsPart_0 23 rfl rfl)
theorem dX10_readsPart_24 : decode cX10_readsPart 24 = .ok (.iload_n 2, 1) := dk_28 (dk_at dksX10_readsPart_1 0 rfl rfl)
theorem dX10_readsPart_25 : decode cX10_readsPart 25 = .ok (.invokestatic 49, 3) := dk_184 0 49 (dk_at dksX10_readsPart_1 1 rfl rfl)
theorem dX10_readsPart_28 : decode cX10_readsPart 28 = .ok (.ifCond .eq 9, 3) := dk_153 0 9 (dk_at dksX10_readsPart_1 4 rfl rfl)
theorem dX10_readsPart_31 : decode cX10_readsPart 31 = .ok (.aload_n 0, 1) := dk_42 (dk_at dksX10_readsPart_1 7 rfl rfl)
theorem dX10_readsPart_32 : decode cX10_readsPart 32 = .ok (.iconst 3, 1) := dk_6 (dk_at dksX10_readsPart_1 8 rfl rfl)
theorem dX10_readsPart_33 : decode cX10_readsPart 33 = .ok (.invokevirtual 160, 3) := dk_182 0 160 (dk_at dksX10_readsPart_1 9 rfl rfl)
theorem dX10_readsPart_36 : decode cX10_readsPart 36 = .ok (.ireturn, 1) := dk_172 (dk_at dksX10_readsPart_1 12 rfl rfl)
theorem dX10_readsPart_37 : decode cX10_readsPart 37 = .ok (.aload_n 0, 1) := dk_42 (dk_at dksX10_readsPart_1 13 rfl rfl)
theorem dX10_readsPart_38 : decode cX10_readsPart 38 = .ok (.invokevirtual 164, 3) := dk_182 0 164 (dk_at dksX10_readsPart_1 14 rfl rfl)
theorem dX10_readsPart_41 : decode cX10_readsPart 41 = .ok (.aload_n 0, 1) := dk_42 (dk_at dksX10_readsPart_1 17 rfl rfl)
theorem dX10_readsPart_42 : decode cX10_readsPart 42 = .ok (.iconst 0, 1) := dk_3 (dk_at dksX10_readsPart_1 18 rfl rfl)
theorem dX10_readsPart_43 : decode cX10_readsPart 43 = .ok (.bipush 12, 2) := dk_16 12 (dk_at dksX10_readsPart_1 19 rfl rfl)
theorem dX10_readsPart_45 : decode cX10_readsPart 45 = .ok (.invokevirtual 182, 3) := dk_182 0 182 (dk_at dksX10_readsPart_1 21 rfl rfl)
theorem dX10_readsPart_48 : decode cX10_readsPart 48 = .ok (.ifCond .ne 5, 3) := dk_154 0 5 (dk_at dksX10_readsPart_2 0 rfl rfl)
theorem dX10_readsPart_51 : decode cX10_readsPart 51 = .ok (.iconst 0, 1) := dk_3 (dk_at dksX10_readsPart_2 3 rfl rfl)
theorem dX10_readsPart_52 : decode cX10_readsPart 52 = .ok (.ireturn, 1) := dk_172 (dk_at dksX10_readsPart_2 4 rfl rfl)
theorem dX10_readsPart_53 : decode cX10_readsPart 53 = .ok (.aload_n 0, 1) := dk_42 (dk_at dksX10_readsPart_2 5 rfl rfl)
theorem dX10_readsPart_54 : decode cX10_readsPart 54 = .ok (.getfield 167, 3) := dk_180 0 167 (dk_at dksX10_readsPart_2 6 rfl rfl)
theorem dX10_readsPart_57 : decode cX10_readsPart 57 = .ok (.istore_n 3, 1) := dk_62 (dk_at dksX10_readsPart_2 9 rfl rfl)
theorem dX10_readsPart_58 : decode cX10_readsPart 58 = .ok (.aload_n 0, 1) := dk_42 (dk_at dksX10_readsPart_2 10 rfl rfl)
theorem dX10_readsPart_59 : decode cX10_readsPart 59 = .ok (.bipush 47, 2) := dk_16 47 (dk_at dksX10_readsPart_2 11 rfl rfl)
theorem dX10_readsPart_61 : decode cX10_readsPart 61 = .ok (.invokevirtual 202, 3) := dk_182 0 202 (dk_at dksX10_readsPart_2 13 rfl rfl)
theorem dX10_readsPart_64 : decode cX10_readsPart 64 = .ok (.ifCond .eq 13, 3) := dk_153 0 13 (dk_at dksX10_readsPart_2 16 rfl rfl)
theorem dX10_readsPart_67 : decode cX10_readsPart 67 = .ok (.aload_n 0, 1) := dk_42 (dk_at dksX10_readsPart_2 19 rfl rfl)
theorem dX10_readsPart_68 : decode cX10_readsPart 68 = .ok (.iconst 1, 1) := dk_4 (dk_at dksX10_readsPart_2 20 rfl rfl)
theorem dX10_readsPart_69 : decode cX10_readsPart 69 = .ok (.bipush 12, 2) := dk_16 12 (dk_at dksX10_readsPart_2 21 rfl rfl)
theorem dX10_readsPart_71 : decode cX10_readsPart 71 = .ok (.invokevirtual 170, 3) := dk_182 0 170 (dk_at dksX10_readsPart_3 0 rfl rfl)
theorem dX10_readsPart_74 : decode cX10_readsPart 74 = .ok (.ifCond .ne 5, 3) := dk_154 0 5 (dk_at dksX10_readsPart_3 3 rfl rfl)
theorem dX10_readsPart_77 : decode cX10_readsPart 77 = .ok (.iconst 0, 1) := dk_3 (dk_at dksX10_readsPart_3 6 rfl rfl)
theorem dX10_readsPart_78 : decode cX10_readsPart 78 = .ok (.ireturn, 1) := dk_172 (dk_at dksX10_readsPart_3 7 rfl rfl)
theorem dX10_readsPart_79 : decode cX10_readsPart 79 = .ok (.iload_n 3, 1) := dk_29 (dk_at dksX10_readsPart_3 8 rfl rfl)
theorem dX10_readsPart_80 : decode cX10_readsPart 80 = .ok (.sipush 27720, 3) := dk_17 108 72 (dk_at dksX10_readsPart_3 9 rfl rfl)
theorem dX10_readsPart_83 : decode cX10_readsPart 83 = .ok (.imul, 1) := dk_104 (dk_at dksX10_readsPart_3 12 rfl rfl)
theorem dX10_readsPart_84 : decode cX10_readsPart 84 = .ok (.aload_n 0, 1) := dk_42 (dk_at dksX10_readsPart_3 13 rfl rfl)
theorem dX10_readsPart_85 : decode cX10_readsPart 85 = .ok (.getfield 167, 3) := dk_180 0 167 (dk_at dksX10_readsPart_3 14 rfl rfl)
theorem dX10_readsPart_88 : decode cX10_readsPart 88 = .ok (.idiv, 1) := dk_108 (dk_at dksX10_readsPart_3 17 rfl rfl)
theorem dX10_readsPart_89 : decode cX10_readsPart 89 = .ok (.istore 4, 2) := dk_54 4 (dk_at dksX10_readsPart_3 18 rfl rfl)
theorem dX10_readsPart_91 : decode cX10_readsPart 91 = .ok (.iload 4, 2) := dk_21 4 (dk_at dksX10_readsPart_3 20 rfl rfl)
theorem dX10_readsPart_93 : decode cX10_readsPart 93 = .ok (.istore 5, 2) := dk_54 5 (dk_at dksX10_readsPart_3 22 rfl rfl)
theorem dX10_readsPart_95 : decode cX10_readsPart 95 = .ok (.iconst 0, 1) := dk_3 (dk_at dksX10_readsPart_4 0 rfl rfl)
theorem dX10_readsPart_96 : decode cX10_readsPart 96 = .ok (.istore 6, 2) := dk_54 6 (dk_at dksX10_readsPart_4 1 rfl rfl)
theorem dX10_readsPart_98 : decode cX10_readsPart 98 = .ok (.iload 6, 2) := dk_21 6 (dk_at dksX10_readsPart_4 3 rfl rfl)
theorem dX10_readsPart_100 : decode cX10_readsPart 100 = .ok (.iconst 4, 1) := dk_7 (dk_at dksX10_readsPart_4 5 rfl rfl)
theorem dX10_readsPart_101 : decode cX10_readsPart 101 = .ok (.if_icmp .ge 29, 3) := dk_162 0 29 (dk_at dksX10_readsPart_4 6 rfl rfl)
theorem dX10_readsPart_104 : decode cX10_readsPart 104 = .ok (.iload 5, 2) := dk_21 5 (dk_at dksX10_readsPart_4 9 rfl rfl)
theorem dX10_readsPart_106 : decode cX10_readsPart 106 = .ok (.aload_n 0, 1) := dk_42 (dk_at dksX10_readsPart_4 11 rfl rfl)
theorem dX10_readsPart_107 : decode cX10_readsPart 107 = .ok (.getfield 7, 3) := dk_180 0 7 (dk_at dksX10_readsPart_4 12 rfl rfl)
theorem dX10_readsPart_110 : decode cX10_readsPart 110 = .ok (.aload_n 0, 1) := dk_42 (dk_at dksX10_readsPart_4 15 rfl rfl)
theorem dX10_readsPart_111 : decode cX10_readsPart 111 = .ok (.getfield 173, 3) := dk_180 0 173 (dk_at dksX10_readsPart_4 16 rfl rfl)
theorem dX10_readsPart_114 : decode cX10_readsPart 114 = .ok (.bipush 29, 2) := dk_16 29 (dk_at dksX10_readsPart_4 19 rfl rfl)
theorem dX10_readsPart_116 : decode cX10_readsPart 116 = .ok (.iadd, 1) := dk_96 (dk_at dksX10_readsPart_4 21 rfl rfl)
theorem dX10_readsPart_117 : decode cX10_readsPart 117 = .ok (.iload 6, 2) := dk_21 6 (dk_at dksX10_readsPart_4 22 rfl rfl)
theorem dX10_readsPart_119 : decode cX10_readsPart 119 = .ok (.iadd, 1) := dk_96 (dk_at dksX10_readsPart_5 0 rfl rfl)
theorem dX10_readsPart_120 : decode cX10_readsPart 120 = .ok (.iaload, 1) := dk_46 (dk_at dksX10_readsPart_5 1 rfl rfl)
theorem dX10_readsPart_121 : decode cX10_readsPart 121 = .ok (.iadd, 1) := dk_96 (dk_at dksX10_readsPart_5 2 rfl rfl)
theorem dX10_readsPart_122 : decode cX10_readsPart 122 = .ok (.istore 5, 2) := dk_54 5 (dk_at dksX10_readsPart_5 3 rfl rfl)
theorem dX10_readsPart_124 : decode cX10_readsPart 124 = .ok (.iinc 6 1, 3) := dk_132 6 1 (dk_at dksX10_readsPart_5 5 rfl rfl)
theorem dX10_readsPart_127 : decode cX10_readsPart 127 = .ok (.goto (-29), 3) := dk_167 255 227 (dk_at dksX10_readsPart_5 8 rfl rfl)
theorem dX10_readsPart_130 : decode cX10_readsPart 130 = .ok (.iload 5, 2) := dk_21 5 (dk_at dksX10_readsPart_5 11 rfl rfl)
theorem dX10_readsPart_132 : decode cX10_readsPart 132 = .ok (.sipush 27720, 3) := dk_17 108 72 (dk_at dksX10_readsPart_5 13 rfl rfl)
theorem dX10_readsPart_135 : decode cX10_readsPart 135 = .ok (.if_icmp .le 9, 3) := dk_164 0 9 (dk_at dksX10_readsPart_5 16 rfl rfl)
theorem dX10_readsPart_138 : decode cX10_readsPart 138 = .ok (.aload_n 0, 1) := dk_42 (dk_at dksX10_readsPart_5 19 rfl rfl)
theorem dX10_readsPart_139 : decode cX10_readsPart 139 = .ok (.iconst 5, 1) := dk_8 (dk_at dksX10_readsPart_5 20 rfl rfl)
theorem dX10_readsPart_140 : decode cX10_readsPart 140 = .ok (.invokevirtual 160, 3) := dk_182 0 160 (dk_at dksX10_readsPart_5 21 rfl rfl)
theorem dX10_readsPart_143 : decode cX10_readsPart 143 = .ok (.ireturn, 1) := dk_172 (dk_at dksX10_readsPart_6 0 rfl rfl)
theorem dX10_readsPart_144 : decode cX10_readsPart 144 = .ok (.aload_n 0, 1) := dk_42 (dk_at dksX10_readsPart_6 1 rfl rfl)
theorem dX10_readsPart_145 : decode cX10_readsPart 145 = .ok (.invokevirtual 164, 3) := dk_182 0 164 (dk_at dksX10_readsPart_6 2 rfl rfl)
theorem dX10_readsPart_148 : decode cX10_readsPart 148 = .ok (.aload_n 0, 1) := dk_42 (dk_at dksX10_readsPart_6 5 rfl rfl)
theorem dX10_readsPart_149 : decode cX10_readsPart 149 = .ok (.getfield 7, 3) := dk_180 0 7 (dk_at dksX10_readsPart_6 6 rfl rfl)
theorem dX10_readsPart_152 : decode cX10_readsPart 152 = .ok (.aload_n 0, 1) := dk_42 (dk_at dksX10_readsPart_6 9 rfl rfl)
theorem dX10_readsPart_153 : decode cX10_readsPart 153 = .ok (.getfield 173, 3) := dk_180 0 173 (dk_at dksX10_readsPart_6 10 rfl rfl)
theorem dX10_readsPart_156 : decode cX10_readsPart 156 = .ok (.bipush 29, 2) := dk_16 29 (dk_at dksX10_readsPart_6 13 rfl rfl)
theorem dX10_readsPart_158 : decode cX10_readsPart 158 = .ok (.iadd, 1) := dk_96 (dk_at dksX10_readsPart_6 15 rfl rfl)
theorem dX10_readsPart_159 : decode cX10_readsPart 159 = .ok (.iload_n 2, 1) := dk_28 (dk_at dksX10_readsPart_6 16 rfl rfl)
theorem dX10_readsPart_160 : decode cX10_readsPart 160 = .ok (.iadd, 1) := dk_96 (dk_at dksX10_readsPart_6 17 rfl rfl)
theorem dX10_readsPart_161 : decode cX10_readsPart 161 = .ok (.iload 4, 2) := dk_21 4 (dk_at dksX10_readsPart_6 18 rfl rfl)
theorem dX10_readsPart_163 : decode cX10_readsPart 163 = .ok (.iastore, 1) := dk_79 (dk_at dksX10_readsPart_6 20 rfl rfl)
theorem dX10_readsPart_164 : decode cX10_readsPart 164 = .ok (.aload_n 0, 1) := dk_42 (dk_at dksX10_readsPart_6 21 rfl rfl)
theorem dX10_readsPart_165 : decode cX10_readsPart 165 = .ok (.iload_n 2, 1) := dk_28 (dk_at dksX10_readsPart_6 22 rfl rfl)
theorem dX10_readsPart_166 : decode cX10_readsPart 166 = .ok (.putfield 217, 3) := dk_181 0 217 (dk_at dksX10_readsPart_7 0 rfl rfl)
theorem dX10_readsPart_169 : decode cX10_readsPart 169 = .ok (.iconst 1, 1) := dk_4 (dk_at dksX10_readsPart_7 3 rfl rfl)
theorem dX10_readsPart_170 : decode cX10_readsPart 170 = .ok (.ireturn, 1) := dk_172 (dk_at dksX10_readsPart_7 4 rfl rfl)
abbrev cX10_has : ByteArray := prog_17_method_7_code
def yX10_has : MethodName := ⟨RX10, "has", "(II)Z"⟩
def dkwX10_has_0 : List UInt8 := [26, 27, 122, 4, 126, 4, 160, 0, 7, 4, 167, 0, 4, 3, 172]
abbrev dktX10_has_0 : List UInt8 := dkwX10_has_0 ++ []
theorem dksX10_has_0 : cX10_has.data.toList.drop 0 = dktX10_has_0 := by decide +kernel
theorem dX10_has_0 : decode cX10_has 0 = .ok (.iload_n 0, 1) := dk_26 (dk_at dksX10_has_0 0 rfl rfl)
theorem dX10_has_1 : decode cX10_has 1 = .ok (.iload_n 1, 1) := dk_27 (dk_at dksX10_has_0 1 rfl rfl)
theorem dX10_has_2 : decode cX10_has 2 = .ok (.ishr, 1) := dk_122 (dk_at dksX10_has_0 2 rfl rfl)
theorem dX10_has_3 : decode cX10_has 3 = .ok (.iconst 1, 1) := dk_4 (dk_at dksX10_has_0 3 rfl rfl)
theorem dX10_has_4 : decode cX10_has 4 = .ok (.iand, 1) := dk_126 (dk_at dksX10_has_0 4 rfl rfl)
theorem dX10_has_5 : decode cX10_has 5 = .ok (.iconst 1, 1) := dk_4 (dk_at dksX10_has_0 5 rfl rfl)
theorem dX10_has_6 : decode cX10_has 6 = .ok (.if_icmp .ne 7, 3) := dk_160 0 7 (dk_at dksX10_has_0 6 rfl rfl)
theorem dX10_has_9 : decode cX10_has 9 = .ok (.iconst 1, 1) := dk_4 (dk_at dksX10_has_0 9 rfl rfl)
theorem dX10_has_10 : decode cX10_has 10 = .ok (.goto 4, 3) := dk_167 0 4 (dk_at dksX10_has_0 10 rfl rfl)
theorem dX10_has_13 : decode cX10_has 13 = .ok (.iconst 0, 1) := dk_3 (dk_at dksX10_has_0 13 rfl rfl)
theorem dX10_has_14 : decode cX10_has 14 = .ok (.ireturn, 1) := dk_172 (dk_at dksX10_has_0 14 rfl rfl)
abbrev cX10_readsOver : ByteArray := prog_17_method_53_code
def yX10_readsOver : MethodName := ⟨RX10, "readsOver", "()Z"⟩
def dkwX10_readsOver_4 : List UInt8 := [180, 0, 144, 5, 160, 0, 7, 4, 167, 0, 4, 3, 60, 167, 255, 166, 4, 172]
abbrev dktX10_readsOver_4 : List UInt8 := dkwX10_readsOver_4 ++ []
def dkwX10_readsOver_3 : List UInt8 := [42, 180, 0, 173, 16, 33, 96, 92, 46, 4, 42, 180, 0, 167, 120, 128, 79, 42, 182, 0, 164, 42]
abbrev dktX10_readsOver_3 : List UInt8 := dkwX10_readsOver_3 ++ dktX10_readsOver_4
def dkwX10_readsOver_2 : List UInt8 := [16, 33, 96, 46, 42, 180, 0, 167, 184, 0, 49, 153, 0, 9, 42, 6, 182, 0, 160, 172, 42, 180, 0, 7]
abbrev dktX10_readsOver_2 : List UInt8 := dkwX10_readsOver_2 ++ dktX10_readsOver_3
def dkwX10_readsOver_1 : List UInt8 := [180, 0, 7, 16, 17, 46, 4, 100, 182, 0, 170, 154, 0, 5, 3, 172, 42, 180, 0, 7, 42, 180, 0, 173]
abbrev dktX10_readsOver_1 : List UInt8 := dkwX10_readsOver_1 ++ dktX10_readsOver_2
def dkwX10_readsOver_0 : List UInt8 := [42, 18, 224, 182, 0, 156, 154, 0, 5, 4, 172, 42, 182, 0, 164, 4, 60, 27, 153, 0, 92, 42, 3, 42]
abbrev dktX10_readsOver_0 : List UInt8 := dkwX10_readsOver_0 ++ dktX10_readsOver_1
theorem dksX10_readsOver_0 : cX10_readsOver.data.toList.drop 0 = dktX10_readsOver_0 := by decide +kernel
theorem dksX10_readsOver_1 : cX10_readsOver.data.toList.drop 24 = dktX10_readsOver_1 := dk_seg dksX10_readsOver_0 24 rfl rfl
theorem dksX10_readsOver_2 : cX10_readsOver.data.toList.drop 48 = dktX10_readsOver_2 := dk_seg dksX10_readsOver_1 24 rfl rfl
theorem dksX10_readsOver_3 : cX10_readsOver.data.toList.drop 72 = dktX10_readsOver_3 := dk_seg dksX10_readsOver_2 24 rfl rfl
theorem dksX10_readsOver_4 : cX10_readsOver.data.toList.drop 94 = dktX10_readsOver_4 := dk_seg dksX10_readsOver_3 22 rfl rfl
theorem dX10_readsOver_0 : decode cX10_readsOver 0 = .ok (.aload_n 0, 1) := dk_42 (dk_at dksX10_readsOver_0 0 rfl rfl)
theorem dX10_readsOver_1 : decode cX10_readsOver 1 = .ok (.ldc 224, 2) := dk_18 224 (dk_at dksX10_readsOver_0 1 rfl rfl)
theorem dX10_readsOver_3 : decode cX10_readsOver 3 = .ok (.invokevirtual 156, 3) := dk_182 0 156 (dk_at dksX10_readsOver_0 3 rfl rfl)
theorem dX10_readsOver_6 : decode cX10_readsOver 6 = .ok (.ifCond .ne 5, 3) := dk_154 0 5 (dk_at dksX10_readsOver_0 6 rfl rfl)
theorem dX10_readsOver_9 : decode cX10_readsOver 9 = .ok (.iconst 1, 1) := dk_4 (dk_at dksX10_readsOver_0 9 rfl rfl)
theorem dX10_readsOver_10 : decode cX10_readsOver 10 = .ok (.ireturn, 1) := dk_172 (dk_at dksX10_readsOver_0 10 rfl rfl)
theorem dX10_readsOver_11 : decode cX10_readsOver 11 = .ok (.aload_n 0, 1) := dk_42 (dk_at dksX10_readsOver_0 11 rfl rfl)
theorem dX10_readsOver_12 : decode cX10_readsOver 12 = .ok (.invokevirtual 164, 3) := dk_182 0 164 (dk_at dksX10_readsOver_0 12 rfl rfl)
theorem dX10_readsOver_15 : decode cX10_readsOver 15 = .ok (.iconst 1, 1) := dk_4 (dk_at dksX10_readsOver_0 15 rfl rfl)
theorem dX10_readsOver_16 : decode cX10_readsOver 16 = .ok (.istore_n 1, 1) := dk_60 (dk_at dksX10_readsOver_0 16 rfl rfl)
theorem dX10_readsOver_17 : decode cX10_readsOver 17 = .ok (.iload_n 1, 1) := dk_27 (dk_at dksX10_readsOver_0 17 rfl rfl)
theorem dX10_readsOver_18 : decode cX10_readsOver 18 = .ok (.ifCond .eq 92, 3) := dk_153 0 92 (dk_at dksX10_readsOver_0 18 rfl rfl)
theorem dX10_readsOver_21 : decode cX10_readsOver 21 = .ok (.aload_n 0, 1) := dk_42 (dk_at dksX10_readsOver_0 21 rfl rfl)
theorem dX10_readsOver_22 : decode cX10_readsOver 22 = .ok (.iconst 0, 1) := dk_3 (dk_at dksX10_readsOver_0 22 rfl rfl)
theorem dX10_readsOver_23 : decode cX10_readsOver 23 = .ok (.aload_n 0, 1) := dk_42 (dk_at dksX10_readsOver_0 23 rfl rfl)
theorem dX10_readsOver_24 : decode cX10_readsOver 24 = .ok (.getfield 7, 3) := dk_180 0 7 (dk_at dksX10_readsOver_1 0 rfl rfl)
theorem dX10_readsOver_27 : decode cX10_readsOver 27 = .ok (.bipush 17, 2) := dk_16 17 (dk_at dksX10_readsOver_1 3 rfl rfl)
theorem dX10_readsOver_29 : decode cX10_readsOver 29 = .ok (.iaload, 1) := dk_46 (dk_at dksX10_readsOver_1 5 rfl rfl)
theorem dX10_readsOver_30 : decode cX10_readsOver 30 = .ok (.iconst 1, 1) := dk_4 (dk_at dksX10_readsOver_1 6 rfl rfl)
theorem dX10_readsOver_31 : decode cX10_readsOver 31 = .ok (.isub, 1) := dk_100 (dk_at dksX10_readsOver_1 7 rfl rfl)
theorem dX10_readsOver_32 : decode cX10_readsOver 32 = .ok (.invokevirtual 170, 3) := dk_182 0 170 (dk_at dksX10_readsOver_1 8 rfl rfl)
theorem dX10_readsOver_35 : decode cX10_readsOver 35 = .ok (.ifCond .ne 5, 3) := dk_154 0 5 (dk_at dksX10_readsOver_1 11 rfl rfl)
theorem dX10_readsOver_38 : decode cX10_readsOver 38 = .ok (.iconst 0, 1) := dk_3 (dk_at dksX10_readsOver_1 14 rfl rfl)
theorem dX10_readsOver_39 : decode cX10_readsOver 39 = .ok (.ireturn, 1) := dk_172 (dk_at dksX10_readsOver_1 15 rfl rfl)
theorem dX10_readsOver_40 : decode cX10_readsOver 40 = .ok (.aload_n 0, 1) := dk_42 (dk_at dksX10_readsOver_1 16 rfl rfl)
theorem dX10_readsOver_41 : decode cX10_readsOver 41 = .ok (.getfield 7, 3) := dk_180 0 7 (dk_at dksX10_readsOver_1 17 rfl rfl)
theorem dX10_readsOver_44 : decode cX10_readsOver 44 = .ok (.aload_n 0, 1) := dk_42 (dk_at dksX10_readsOver_1 20 rfl rfl)
theorem dX10_readsOver_45 : decode cX10_readsOver 45 = .ok (.getfield 173, 3) := dk_180 0 173 (dk_at dksX10_readsOver_1 21 rfl rfl)
theorem dX10_readsOver_48 : decode cX10_readsOver 48 = .ok (.bipush 33, 2) := dk_16 33 (dk_at dksX10_readsOver_2 0 rfl rfl)
theorem dX10_readsOver_50 : decode cX10_readsOver 50 = .ok (.iadd, 1) := dk_96 (dk_at dksX10_readsOver_2 2 rfl rfl)
theorem dX10_readsOver_51 : decode cX10_readsOver 51 = .ok (.iaload, 1) := dk_46 (dk_at dksX10_readsOver_2 3 rfl rfl)
theorem dX10_readsOver_52 : decode cX10_readsOver 52 = .ok (.aload_n 0, 1) := dk_42 (dk_at dksX10_readsOver_2 4 rfl rfl)
theorem dX10_readsOver_53 : decode cX10_readsOver 53 = .ok (.getfield 167, 3) := dk_180 0 167 (dk_at dksX10_readsOver_2 5 rfl rfl)
theorem dX10_readsOver_56 : decode cX10_readsOver 56 = .ok (.invokestatic 49, 3) := dk_184 0 49 (dk_at dksX10_readsOver_2 8 rfl rfl)
theorem dX10_readsOver_59 : decode cX10_readsOver 59 = .ok (.ifCond .eq 9, 3) := dk_153 0 9 (dk_at dksX10_readsOver_2 11 rfl rfl)
theorem dX10_readsOver_62 : decode cX10_readsOver 62 = .ok (.aload_n 0, 1) := dk_42 (dk_at dksX10_readsOver_2 14 rfl rfl)
theorem dX10_readsOver_63 : decode cX10_readsOver 63 = .ok (.iconst 3, 1) := dk_6 (dk_at dksX10_readsOver_2 15 rfl rfl)
theorem dX10_readsOver_64 : decode cX10_readsOver 64 = .ok (.invokevirtual 160, 3) := dk_182 0 160 (dk_at dksX10_readsOver_2 16 rfl rfl)
theorem dX10_readsOver_67 : decode cX10_readsOver 67 = .ok (.ireturn, 1) := dk_172 (dk_at dksX10_readsOver_2 19 rfl rfl)
theorem dX10_readsOver_68 : decode cX10_readsOver 68 = .ok (.aload_n 0, 1) := dk_42 (dk_at dksX10_readsOver_2 20 rfl rfl)
theorem dX10_readsOver_69 : decode cX10_readsOver 69 = .ok (.getfield 7, 3) := dk_180 0 7 (dk_at dksX10_readsOver_2 21 rfl rfl)
theorem dX10_readsOver_72 : decode cX10_readsOver 72 = .ok (.aload_n 0, 1) := dk_42 (dk_at dksX10_readsOver_3 0 rfl rfl)
theorem dX10_readsOver_73 : decode cX10_readsOver 73 = .ok (.getfield 173, 3) := dk_180 0 173 (dk_at dksX10_readsOver_3 1 rfl rfl)
theorem dX10_readsOver_76 : decode cX10_readsOver 76 = .ok (.bipush 33, 2) := dk_16 33 (dk_at dksX10_readsOver_3 4 rfl rfl)
theorem dX10_readsOver_78 : decode cX10_readsOver 78 = .ok (.iadd, 1) := dk_96 (dk_at dksX10_readsOver_3 6 rfl rfl)
theorem dX10_readsOver_79 : decode cX10_readsOver 79 = .ok (.dup2, 1) := dk_92 (dk_at dksX10_readsOver_3 7 rfl rfl)
theorem dX10_readsOver_80 : decode cX10_readsOver 80 = .ok (.iaload, 1) := dk_46 (dk_at dksX10_readsOver_3 8 rfl rfl)
theorem dX10_readsOver_81 : decode cX10_readsOver 81 = .ok (.iconst 1, 1) := dk_4 (dk_at dksX10_readsOver_3 9 rfl rfl)
theorem dX10_readsOver_82 : decode cX10_readsOver 82 = .ok (.aload_n 0, 1) := dk_42 (dk_at dksX10_readsOver_3 10 rfl rfl)
theorem dX10_readsOver_83 : decode cX10_readsOver 83 = .ok (.getfield 167, 3) := dk_180 0 167 (dk_at dksX10_readsOver_3 11 rfl rfl)
theorem dX10_readsOver_86 : decode cX10_readsOver 86 = .ok (.ishl, 1) := dk_120 (dk_at dksX10_readsOver_3 14 rfl rfl)
theorem dX10_readsOver_87 : decode cX10_readsOver 87 = .ok (.ior, 1) := dk_128 (dk_at dksX10_readsOver_3 15 rfl rfl)
theorem dX10_readsOver_88 : decode cX10_readsOver 88 = .ok (.iastore, 1) := dk_79 (dk_at dksX10_readsOver_3 16 rfl rfl)
theorem dX10_readsOver_89 : decode cX10_readsOver 89 = .ok (.aload_n 0, 1) := dk_42 (dk_at dksX10_readsOver_3 17 rfl rfl)
theorem dX10_readsOver_90 : decode cX10_readsOver 90 = .ok (.invokevirtual 164, 3) := dk_182 0 164 (dk_at dksX10_readsOver_3 18 rfl rfl)
theorem dX10_readsOver_93 : decode cX10_readsOver 93 = .ok (.aload_n 0, 1) := dk_42 (dk_at dksX10_readsOver_3 21 rfl rfl)
theorem dX10_readsOver_94 : decode cX10_readsOver 94 = .ok (.getfield 144, 3) := dk_180 0 144 (dk_at dksX10_readsOver_4 0 rfl rfl)
theorem dX10_readsOver_97 : decode cX10_readsOver 97 = .ok (.iconst 2, 1) := dk_5 (dk_at dksX10_readsOver_4 3 rfl rfl)
theorem dX10_readsOver_98 : decode cX10_readsOver 98 = .ok (.if_icmp .ne 7, 3) := dk_160 0 7 (dk_at dksX10_readsOver_4 4 rfl rfl)
theorem dX10_readsOver_101 : decode cX10_readsOver 101 = .ok (.iconst 1, 1) := dk_4 (dk_at dksX10_readsOver_4 7 rfl rfl)
theorem dX10_readsOver_102 : decode cX10_readsOver 102 = .ok (.goto 4, 3) := dk_167 0 4 (dk_at dksX10_readsOver_4 8 rfl rfl)
theorem dX10_readsOver_105 : decode cX10_readsOver 105 = .ok (.iconst 0, 1) := dk_3 (dk_at dksX10_readsOver_4 11 rfl rfl)
theorem dX10_readsOver_106 : decode cX10_readsOver 106 = .ok (.istore_n 1, 1) := dk_60 (dk_at dksX10_readsOver_4 12 rfl rfl)
theorem dX10_readsOver_107 : decode cX10_readsOver 107 = .ok (.goto (-90), 3) := dk_167 255 166 (dk_at dksX10_readsOver_4 13 rfl rfl)
theorem dX10_readsOver_110 : decode cX10_readsOver 110 = .ok (.iconst 1, 1) := dk_4 (dk_at dksX10_readsOver_4 16 rfl rfl)
theorem dX10_readsOver_111 : decode cX10_readsOver 111 = .ok (.ireturn, 1) := dk_172 (dk_at dksX10_readsOver_4 17 rfl rfl)
abbrev cX10_readsHeir : ByteArray := prog_17_method_55_code
def yX10_readsHeir : MethodName := ⟨RX10, "readsHeir", "()Z"⟩
def dkwX10_readsHeir_4 : List UInt8 := [96, 4, 96, 42, 180, 0, 167, 79, 4, 172]
abbrev dktX10_readsHeir_4 : List UInt8 := dkwX10_readsHeir_4 ++ []
def dkwX10_readsHeir_3 : List UInt8 := [153, 0, 13, 42, 3, 16, 60, 182, 0, 182, 154, 0, 5, 3, 172, 42, 180, 0, 7, 16, 9, 5, 27, 104]
abbrev dktX10_readsHeir_3 : List UInt8 := dkwX10_readsHeir_3 ++ dktX10_readsHeir_4
def dkwX10_readsHeir_2 : List UInt8 := [3, 172, 42, 180, 0, 7, 16, 9, 5, 27, 104, 96, 42, 180, 0, 167, 79, 42, 18, 239, 182, 0, 228]
abbrev dktX10_readsHeir_2 : List UInt8 := dkwX10_readsHeir_2 ++ dktX10_readsHeir_3
def dkwX10_readsHeir_1 : List UInt8 := [180, 0, 167, 60, 42, 18, 237, 182, 0, 228, 153, 0, 14, 42, 3, 17, 39, 15, 182, 0, 182, 154, 0, 5]
abbrev dktX10_readsHeir_1 : List UInt8 := dkwX10_readsHeir_1 ++ dktX10_readsHeir_2
def dkwX10_readsHeir_0 : List UInt8 := [42, 182, 0, 164, 42, 3, 42, 180, 0, 7, 8, 46, 4, 100, 182, 0, 182, 154, 0, 5, 3, 172, 42]
abbrev dktX10_readsHeir_0 : List UInt8 := dkwX10_readsHeir_0 ++ dktX10_readsHeir_1
theorem dksX10_readsHeir_0 : cX10_readsHeir.data.toList.drop 0 = dktX10_readsHeir_0 := by decide +kernel
theorem dksX10_readsHeir_1 : cX10_readsHeir.data.toList.drop 23 = dktX10_readsHeir_1 := dk_seg dksX10_readsHeir_0 23 rfl rfl
theorem dksX10_readsHeir_2 : cX10_readsHeir.data.toList.drop 47 = dktX10_readsHeir_2 := dk_seg dksX10_readsHeir_1 24 rfl rfl
theorem dksX10_readsHeir_3 : cX10_readsHeir.data.toList.drop 70 = dktX10_readsHeir_3 := dk_seg dksX10_readsHeir_2 23 rfl rfl
theorem dksX10_readsHeir_4 : cX10_readsHeir.data.toList.drop 94 = dktX10_readsHeir_4 := dk_seg dksX10_readsHeir_3 24 rfl rfl
theorem dX10_readsHeir_0 : decode cX10_readsHeir 0 = .ok (.aload_n 0, 1) := dk_42 (dk_at dksX10_readsHeir_0 0 rfl rfl)
theorem dX10_readsHeir_1 : decode cX10_readsHeir 1 = .ok (.invokevirtual 164, 3) := dk_182 0 164 (dk_at dksX10_readsHeir_0 1 rfl rfl)
theorem dX10_readsHeir_4 : decode cX10_readsHeir 4 = .ok (.aload_n 0, 1) := dk_42 (dk_at dksX10_readsHeir_0 4 rfl rfl)
theorem dX10_readsHeir_5 : decode cX10_readsHeir 5 = .ok (.iconst 0, 1) := dk_3 (dk_at dksX10_readsHeir_0 5 rfl rfl)
theorem dX10_readsHeir_6 : decode cX10_readsHeir 6 = .ok (.aload_n 0, 1) := dk_42 (dk_at dksX10_readsHeir_0 6 rfl rfl)
theorem dX10_readsHeir_7 : decode cX10_readsHeir 7 = .ok (.getfield 7, 3) := dk_180 0 7 (dk_at dksX10_readsHeir_0 7 rfl rfl)
theorem dX10_readsHeir_10 : decode cX10_readsHeir 10 = .ok (.iconst 5, 1) := dk_8 (dk_at dksX10_readsHeir_0 10 rfl rfl)
theorem dX10_readsHeir_11 : decode cX10_readsHeir 11 = .ok (.iaload, 1) := dk_46 (dk_at dksX10_readsHeir_0 11 rfl rfl)
theorem dX10_readsHeir_12 : decode cX10_readsHeir 12 = .ok (.iconst 1, 1) := dk_4 (dk_at dksX10_readsHeir_0 12 rfl rfl)
theorem dX10_readsHeir_13 : decode cX10_readsHeir 13 = .ok (.isub, 1) := dk_100 (dk_at dksX10_readsHeir_0 13 rfl rfl)
theorem dX10_readsHeir_14 : decode cX10_readsHeir 14 = .ok (.invokevirtual 182, 3) := dk_182 0 182 (dk_at dksX10_readsHeir_0 14 rfl rfl)
theorem dX10_readsHeir_17 : decode cX10_readsHeir 17 = .ok (.ifCond .ne 5, 3) := dk_154 0 5 (dk_at dksX10_readsHeir_0 17 rfl rfl)
theorem dX10_readsHeir_20 : decode cX10_readsHeir 20 = .ok (.iconst 0, 1) := dk_3 (dk_at dksX10_readsHeir_0 20 rfl rfl)
theorem dX10_readsHeir_21 : decode cX10_readsHeir 21 = .ok (.ireturn, 1) := dk_172 (dk_at dksX10_readsHeir_0 21 rfl rfl)
theorem dX10_readsHeir_22 : decode cX10_readsHeir 22 = .ok (.aload_n 0, 1) := dk_42 (dk_at dksX10_readsHeir_0 22 rfl rfl)
theorem dX10_readsHeir_23 : decode cX10_readsHeir 23 = .ok (.getfield 167, 3) := dk_180 0 167 (dk_at dksX10_readsHeir_1 0 rfl rfl)
theorem dX10_readsHeir_26 : decode cX10_readsHeir 26 = .ok (.istore_n 1, 1) := dk_60 (dk_at dksX10_readsHeir_1 3 rfl rfl)
theorem dX10_readsHeir_27 : decode cX10_readsHeir 27 = .ok (.aload_n 0, 1) := dk_42 (dk_at dksX10_readsHeir_1 4 rfl rfl)
theorem dX10_readsHeir_28 : decode cX10_readsHeir 28 = .ok (.ldc 237, 2) := dk_18 237 (dk_at dksX10_readsHeir_1 5 rfl rfl)
theorem dX10_readsHeir_30 : decode cX10_readsHeir 30 = .ok (.invokevirtual 228, 3) := dk_182 0 228 (dk_at dksX10_readsHeir_1 7 rfl rfl)
theorem dX10_readsHeir_33 : decode cX10_readsHeir 33 = .ok (.ifCond .eq 14, 3) := dk_153 0 14 (dk_at dksX10_readsHeir_1 10 rfl rfl)
theorem dX10_readsHeir_36 : decode cX10_readsHeir 36 = .ok (.aload_n 0, 1) := dk_42 (dk_at dksX10_readsHeir_1 13 rfl rfl)
theorem dX10_readsHeir_37 : decode cX10_readsHeir 37 = .ok (.iconst 0, 1) := dk_3 (dk_at dksX10_readsHeir_1 14 rfl rfl)
theorem dX10_readsHeir_38 : decode cX10_readsHeir 38 = .ok (.sipush 9999, 3) := dk_17 39 15 (dk_at dksX10_readsHeir_1 15 rfl rfl)
theorem dX10_readsHeir_41 : decode cX10_readsHeir 41 = .ok (.invokevirtual 182, 3) := dk_182 0 182 (dk_at dksX10_readsHeir_1 18 rfl rfl)
theorem dX10_readsHeir_44 : decode cX10_readsHeir 44 = .ok (.ifCond .ne 5, 3) := dk_154 0 5 (dk_at dksX10_readsHeir_1 21 rfl rfl)
theorem dX10_readsHeir_47 : decode cX10_readsHeir 47 = .ok (.iconst 0, 1) := dk_3 (dk_at dksX10_readsHeir_2 0 rfl rfl)
theorem dX10_readsHeir_48 : decode cX10_readsHeir 48 = .ok (.ireturn, 1) := dk_172 (dk_at dksX10_readsHeir_2 1 rfl rfl)
theorem dX10_readsHeir_49 : decode cX10_readsHeir 49 = .ok (.aload_n 0, 1) := dk_42 (dk_at dksX10_readsHeir_2 2 rfl rfl)
theorem dX10_readsHeir_50 : decode cX10_readsHeir 50 = .ok (.getfield 7, 3) := dk_180 0 7 (dk_at dksX10_readsHeir_2 3 rfl rfl)
theorem dX10_readsHeir_53 : decode cX10_readsHeir 53 = .ok (.bipush 9, 2) := dk_16 9 (dk_at dksX10_readsHeir_2 6 rfl rfl)
theorem dX10_readsHeir_55 : decode cX10_readsHeir 55 = .ok (.iconst 2, 1) := dk_5 (dk_at dksX10_readsHeir_2 8 rfl rfl)
theorem dX10_readsHeir_56 : decode cX10_readsHeir 56 = .ok (.iload_n 1, 1) := dk_27 (dk_at dksX10_readsHeir_2 9 rfl rfl)
theorem dX10_readsHeir_57 : decode cX10_readsHeir 57 = .ok (.imul, 1) := dk_104 (dk_at dksX10_readsHeir_2 10 rfl rfl)
theorem dX10_readsHeir_58 : decode cX10_readsHeir 58 = .ok (.iadd, 1) := dk_96 (dk_at dksX10_readsHeir_2 11 rfl rfl)
theorem dX10_readsHeir_59 : decode cX10_readsHeir 59 = .ok (.aload_n 0, 1) := dk_42 (dk_at dksX10_readsHeir_2 12 rfl rfl)
theorem dX10_readsHeir_60 : decode cX10_readsHeir 60 = .ok (.getfield 167, 3) := dk_180 0 167 (dk_at dksX10_readsHeir_2 13 rfl rfl)
theorem dX10_readsHeir_63 : decode cX10_readsHeir 63 = .ok (.iastore, 1) := dk_79 (dk_at dksX10_readsHeir_2 16 rfl rfl)
theorem dX10_readsHeir_64 : decode cX10_readsHeir 64 = .ok (.aload_n 0, 1) := dk_42 (dk_at dksX10_readsHeir_2 17 rfl rfl)
theorem dX10_readsHeir_65 : decode cX10_readsHeir 65 = .ok (.ldc 239, 2) := dk_18 239 (dk_at dksX10_readsHeir_2 18 rfl rfl)
theorem dX10_readsHeir_67 : decode cX10_readsHeir 67 = .ok (.invokevirtual 228, 3) := dk_182 0 228 (dk_at dksX10_readsHeir_2 20 rfl rfl)
theorem dX10_readsHeir_70 : decode cX10_readsHeir 70 = .ok (.ifCond .eq 13, 3) := dk_153 0 13 (dk_at dksX10_readsHeir_3 0 rfl rfl)
theorem dX10_readsHeir_73 : decode cX10_readsHeir 73 = .ok (.aload_n 0, 1) := dk_42 (dk_at dksX10_readsHeir_3 3 rfl rfl)
theorem dX10_readsHeir_74 : decode cX10_readsHeir 74 = .ok (.iconst 0, 1) := dk_3 (dk_at dksX10_readsHeir_3 4 rfl rfl)
theorem dX10_readsHeir_75 : decode cX10_readsHeir 75 = .ok (.bipush 60, 2) := dk_16 60 (dk_at dksX10_readsHeir_3 5 rfl rfl)
theorem dX10_readsHeir_77 : decode cX10_readsHeir 77 = .ok (.invokevirtual 182, 3) := dk_182 0 182 (dk_at dksX10_readsHeir_3 7 rfl rfl)
theorem dX10_readsHeir_80 : decode cX10_readsHeir 80 = .ok (.ifCond .ne 5, 3) := dk_154 0 5 (dk_at dksX10_readsHeir_3 10 rfl rfl)
theorem dX10_readsHeir_83 : decode cX10_readsHeir 83 = .ok (.iconst 0, 1) := dk_3 (dk_at dksX10_readsHeir_3 13 rfl rfl)
theorem dX10_readsHeir_84 : decode cX10_readsHeir 84 = .ok (.ireturn, 1) := dk_172 (dk_at dksX10_readsHeir_3 14 rfl rfl)
theorem dX10_readsHeir_85 : decode cX10_readsHeir 85 = .ok (.aload_n 0, 1) := dk_42 (dk_at dksX10_readsHeir_3 15 rfl rfl)
theorem dX10_readsHeir_86 : decode cX10_readsHeir 86 = .ok (.getfield 7, 3) := dk_180 0 7 (dk_at dksX10_readsHeir_3 16 rfl rfl)
theorem dX10_readsHeir_89 : decode cX10_readsHeir 89 = .ok (.bipush 9, 2) := dk_16 9 (dk_at dksX10_readsHeir_3 19 rfl rfl)
theorem dX10_readsHeir_91 : decode cX10_readsHeir 91 = .ok (.iconst 2, 1) := dk_5 (dk_at dksX10_readsHeir_3 21 rfl rfl)
theorem dX10_readsHeir_92 : decode cX10_readsHeir 92 = .ok (.iload_n 1, 1) := dk_27 (dk_at dksX10_readsHeir_3 22 rfl rfl)
theorem dX10_readsHeir_93 : decode cX10_readsHeir 93 = .ok (.imul, 1) := dk_104 (dk_at dksX10_readsHeir_3 23 rfl rfl)
theorem dX10_readsHeir_94 : decode cX10_readsHeir 94 = .ok (.iadd, 1) := dk_96 (dk_at dksX10_readsHeir_4 0 rfl rfl)
theorem dX10_readsHeir_95 : decode cX10_readsHeir 95 = .ok (.iconst 1, 1) := dk_4 (dk_at dksX10_readsHeir_4 1 rfl rfl)
theorem dX10_readsHeir_96 : decode cX10_readsHeir 96 = .ok (.iadd, 1) := dk_96 (dk_at dksX10_readsHeir_4 2 rfl rfl)
theorem dX10_readsHeir_97 : decode cX10_readsHeir 97 = .ok (.aload_n 0, 1) := dk_42 (dk_at dksX10_readsHeir_4 3 rfl rfl)
theorem dX10_readsHeir_98 : decode cX10_readsHeir 98 = .ok (.getfield 167, 3) := dk_180 0 167 (dk_at dksX10_readsHeir_4 4 rfl rfl)
theorem dX10_readsHeir_101 : decode cX10_readsHeir 101 = .ok (.iastore, 1) := dk_79 (dk_at dksX10_readsHeir_4 7 rfl rfl)
theorem dX10_readsHeir_102 : decode cX10_readsHeir 102 = .ok (.iconst 1, 1) := dk_4 (dk_at dksX10_readsHeir_4 8 rfl rfl)
theorem dX10_readsHeir_103 : decode cX10_readsHeir 103 = .ok (.ireturn, 1) := dk_172 (dk_at dksX10_readsHeir_4 9 rfl rfl)
abbrev cX10_thrown : ByteArray := prog_17_method_2_code
def yX10_thrown : MethodName := ⟨RX10, "thrown", "()I"⟩
theorem dX10_thrown_0 : decode cX10_thrown 0 = .ok (.aload_n 0, 1) := by decide +kernel
theorem dX10_thrown_1 : decode cX10_thrown 1 = .ok (.getfield 45, 3) := by decide +kernel
theorem dX10_thrown_4 : decode cX10_thrown 4 = .ok (.ireturn, 1) := by decide +kernel
abbrev cX10_append : ByteArray := prog_17_method_60_code
def yX10_append : MethodName := ⟨RX10, "append", "(IIIII)I"⟩
def dkwX10_append_2 : List UInt8 := [182, 1, 21, 42, 180, 1, 18, 172]
abbrev dktX10_append_2 : List UInt8 := dkwX10_append_2 ++ []
def dkwX10_append_1 : List UInt8 := [182, 1, 21, 42, 28, 182, 1, 21, 42, 29, 182, 1, 21, 42, 21, 4, 182, 1, 21, 42, 21, 5]
abbrev dktX10_append_1 : List UInt8 := dkwX10_append_1 ++ dktX10_append_2
def dkwX10_append_0 : List UInt8 := [42, 3, 181, 0, 45, 42, 180, 1, 18, 16, 20, 96, 17, 2, 188, 164, 0, 5, 2, 172, 42, 27]
abbrev dktX10_append_0 : List UInt8 := dkwX10_append_0 ++ dktX10_append_1
theorem dksX10_append_0 : cX10_append.data.toList.drop 0 = dktX10_append_0 := by decide +kernel
theorem dksX10_append_1 : cX10_append.data.toList.drop 22 = dktX10_append_1 := dk_seg dksX10_append_0 22 rfl rfl
theorem dksX10_append_2 : cX10_append.data.toList.drop 44 = dktX10_append_2 := dk_seg dksX10_append_1 22 rfl rfl
theorem dX10_append_0 : decode cX10_append 0 = .ok (.aload_n 0, 1) := dk_42 (dk_at dksX10_append_0 0 rfl rfl)
theorem dX10_append_1 : decode cX10_append 1 = .ok (.iconst 0, 1) := dk_3 (dk_at dksX10_append_0 1 rfl rfl)
theorem dX10_append_2 : decode cX10_append 2 = .ok (.putfield 45, 3) := dk_181 0 45 (dk_at dksX10_append_0 2 rfl rfl)
theorem dX10_append_5 : decode cX10_append 5 = .ok (.aload_n 0, 1) := dk_42 (dk_at dksX10_append_0 5 rfl rfl)
theorem dX10_append_6 : decode cX10_append 6 = .ok (.getfield 274, 3) := dk_180 1 18 (dk_at dksX10_append_0 6 rfl rfl)
theorem dX10_append_9 : decode cX10_append 9 = .ok (.bipush 20, 2) := dk_16 20 (dk_at dksX10_append_0 9 rfl rfl)
theorem dX10_append_11 : decode cX10_append 11 = .ok (.iadd, 1) := dk_96 (dk_at dksX10_append_0 11 rfl rfl)
theorem dX10_append_12 : decode cX10_append 12 = .ok (.sipush 700, 3) := dk_17 2 188 (dk_at dksX10_append_0 12 rfl rfl)
theorem dX10_append_15 : decode cX10_append 15 = .ok (.if_icmp .le 5, 3) := dk_164 0 5 (dk_at dksX10_append_0 15 rfl rfl)
theorem dX10_append_18 : decode cX10_append 18 = .ok (.iconst (-1), 1) := dk_2 (dk_at dksX10_append_0 18 rfl rfl)
theorem dX10_append_19 : decode cX10_append 19 = .ok (.ireturn, 1) := dk_172 (dk_at dksX10_append_0 19 rfl rfl)
theorem dX10_append_20 : decode cX10_append 20 = .ok (.aload_n 0, 1) := dk_42 (dk_at dksX10_append_0 20 rfl rfl)
theorem dX10_append_21 : decode cX10_append 21 = .ok (.iload_n 1, 1) := dk_27 (dk_at dksX10_append_0 21 rfl rfl)
theorem dX10_append_22 : decode cX10_append 22 = .ok (.invokevirtual 277, 3) := dk_182 1 21 (dk_at dksX10_append_1 0 rfl rfl)
theorem dX10_append_25 : decode cX10_append 25 = .ok (.aload_n 0, 1) := dk_42 (dk_at dksX10_append_1 3 rfl rfl)
theorem dX10_append_26 : decode cX10_append 26 = .ok (.iload_n 2, 1) := dk_28 (dk_at dksX10_append_1 4 rfl rfl)
theorem dX10_append_27 : decode cX10_append 27 = .ok (.invokevirtual 277, 3) := dk_182 1 21 (dk_at dksX10_append_1 5 rfl rfl)
theorem dX10_append_30 : decode cX10_append 30 = .ok (.aload_n 0, 1) := dk_42 (dk_at dksX10_append_1 8 rfl rfl)
theorem dX10_append_31 : decode cX10_append 31 = .ok (.iload_n 3, 1) := dk_29 (dk_at dksX10_append_1 9 rfl rfl)
theorem dX10_append_32 : decode cX10_append 32 = .ok (.invokevirtual 277, 3) := dk_182 1 21 (dk_at dksX10_append_1 10 rfl rfl)
theorem dX10_append_35 : decode cX10_append 35 = .ok (.aload_n 0, 1) := dk_42 (dk_at dksX10_append_1 13 rfl rfl)
theorem dX10_append_36 : decode cX10_append 36 = .ok (.iload 4, 2) := dk_21 4 (dk_at dksX10_append_1 14 rfl rfl)
theorem dX10_append_38 : decode cX10_append 38 = .ok (.invokevirtual 277, 3) := dk_182 1 21 (dk_at dksX10_append_1 16 rfl rfl)
theorem dX10_append_41 : decode cX10_append 41 = .ok (.aload_n 0, 1) := dk_42 (dk_at dksX10_append_1 19 rfl rfl)
theorem dX10_append_42 : decode cX10_append 42 = .ok (.iload 5, 2) := dk_21 5 (dk_at dksX10_append_1 20 rfl rfl)
theorem dX10_append_44 : decode cX10_append 44 = .ok (.invokevirtual 277, 3) := dk_182 1 21 (dk_at dksX10_append_2 0 rfl rfl)
theorem dX10_append_47 : decode cX10_append 47 = .ok (.aload_n 0, 1) := dk_42 (dk_at dksX10_append_2 3 rfl rfl)
theorem dX10_append_48 : decode cX10_append 48 = .ok (.getfield 274, 3) := dk_180 1 18 (dk_at dksX10_append_2 4 rfl rfl)
theorem dX10_append_51 : decode cX10_append 51 = .ok (.ireturn, 1) := dk_172 (dk_at dksX10_append_2 7 rfl rfl)
abbrev cX10_type : ByteArray := prog_17_method_61_code
def yX10_type : MethodName := ⟨RX10, "type", "(I)V"⟩
def dkwX10_type_1 : List UInt8 := [89, 180, 1, 18, 4, 96, 181, 1, 18, 132, 2, 248, 167, 255, 223, 177]
abbrev dktX10_type_1 : List UInt8 := dkwX10_type_1 ++ []
def dkwX10_type_0 : List UInt8 := [16, 24, 61, 28, 155, 0, 35, 42, 180, 0, 25, 42, 180, 1, 18, 27, 28, 122, 17, 0, 255, 126, 79, 42]
abbrev dktX10_type_0 : List UInt8 := dkwX10_type_0 ++ dktX10_type_1
theorem dksX10_type_0 : cX10_type.data.toList.drop 0 = dktX10_type_0 := by decide +kernel
theorem dksX10_type_1 : cX10_type.data.toList.drop 24 = dktX10_type_1 := dk_seg dksX10_type_0 24 rfl rfl
theorem dX10_type_0 : decode cX10_type 0 = .ok (.bipush 24, 2) := dk_16 24 (dk_at dksX10_type_0 0 rfl rfl)
theorem dX10_type_2 : decode cX10_type 2 = .ok (.istore_n 2, 1) := dk_61 (dk_at dksX10_type_0 2 rfl rfl)
theorem dX10_type_3 : decode cX10_type 3 = .ok (.iload_n 2, 1) := dk_28 (dk_at dksX10_type_0 3 rfl rfl)
theorem dX10_type_4 : decode cX10_type 4 = .ok (.ifCond .lt 35, 3) := dk_155 0 35 (dk_at dksX10_type_0 4 rfl rfl)
theorem dX10_type_7 : decode cX10_type 7 = .ok (.aload_n 0, 1) := dk_42 (dk_at dksX10_type_0 7 rfl rfl)
theorem dX10_type_8 : decode cX10_type 8 = .ok (.getfield 25, 3) := dk_180 0 25 (dk_at dksX10_type_0 8 rfl rfl)
theorem dX10_type_11 : decode cX10_type 11 = .ok (.aload_n 0, 1) := dk_42 (dk_at dksX10_type_0 11 rfl rfl)
theorem dX10_type_12 : decode cX10_type 12 = .ok (.getfield 274, 3) := dk_180 1 18 (dk_at dksX10_type_0 12 rfl rfl)
theorem dX10_type_15 : decode cX10_type 15 = .ok (.iload_n 1, 1) := dk_27 (dk_at dksX10_type_0 15 rfl rfl)
theorem dX10_type_16 : decode cX10_type 16 = .ok (.iload_n 2, 1) := dk_28 (dk_at dksX10_type_0 16 rfl rfl)
theorem dX10_type_17 : decode cX10_type 17 = .ok (.ishr, 1) := dk_122 (dk_at dksX10_type_0 17 rfl rfl)
theorem dX10_type_18 : decode cX10_type 18 = .ok (.sipush 255, 3) := dk_17 0 255 (dk_at dksX10_type_0 18 rfl rfl)
theorem dX10_type_21 : decode cX10_type 21 = .ok (.iand, 1) := dk_126 (dk_at dksX10_type_0 21 rfl rfl)
theorem dX10_type_22 : decode cX10_type 22 = .ok (.iastore, 1) := dk_79 (dk_at dksX10_type_0 22 rfl rfl)
theorem dX10_type_23 : decode cX10_type 23 = .ok (.aload_n 0, 1) := dk_42 (dk_at dksX10_type_0 23 rfl rfl)
theorem dX10_type_24 : decode cX10_type 24 = .ok (.dup, 1) := dk_89 (dk_at dksX10_type_1 0 rfl rfl)
theorem dX10_type_25 : decode cX10_type 25 = .ok (.getfield 274, 3) := dk_180 1 18 (dk_at dksX10_type_1 1 rfl rfl)
theorem dX10_type_28 : decode cX10_type 28 = .ok (.iconst 1, 1) := dk_4 (dk_at dksX10_type_1 4 rfl rfl)
theorem dX10_type_29 : decode cX10_type 29 = .ok (.iadd, 1) := dk_96 (dk_at dksX10_type_1 5 rfl rfl)
theorem dX10_type_30 : decode cX10_type 30 = .ok (.putfield 274, 3) := dk_181 1 18 (dk_at dksX10_type_1 6 rfl rfl)
theorem dX10_type_33 : decode cX10_type 33 = .ok (.iinc 2 (-8), 3) := dk_132 2 248 (dk_at dksX10_type_1 9 rfl rfl)
theorem dX10_type_36 : decode cX10_type 36 = .ok (.goto (-33), 3) := dk_167 255 223 (dk_at dksX10_type_1 12 rfl rfl)
theorem dX10_type_39 : decode cX10_type 39 = .ok (.return_, 1) := dk_177 (dk_at dksX10_type_1 15 rfl rfl)
abbrev cX10_parse : ByteArray := prog_17_method_63_code
def yX10_parse : MethodName := ⟨RX10, "parse", "(I)I"⟩
def dkwX10_parse_2 : List UInt8 := [16, 254, 42, 180, 0, 153, 100, 172]
abbrev dktX10_parse_2 : List UInt8 := dkwX10_parse_2 ++ []
def dkwX10_parse_1 : List UInt8 := [3, 172, 42, 27, 182, 1, 28, 42, 182, 0, 134, 153, 0, 13, 42, 180, 0, 7, 16, 17, 46, 167, 0, 10]
abbrev dktX10_parse_1 : List UInt8 := dkwX10_parse_1 ++ dktX10_parse_2
def dkwX10_parse_0 : List UInt8 := [42, 27, 3, 42, 180, 1, 18, 184, 0, 53, 154, 0, 7, 4, 167, 0, 4, 3, 182, 1, 24, 153, 0, 5]
abbrev dktX10_parse_0 : List UInt8 := dkwX10_parse_0 ++ dktX10_parse_1
theorem dksX10_parse_0 : cX10_parse.data.toList.drop 0 = dktX10_parse_0 := by decide +kernel
theorem dksX10_parse_1 : cX10_parse.data.toList.drop 24 = dktX10_parse_1 := dk_seg dksX10_parse_0 24 rfl rfl
theorem dksX10_parse_2 : cX10_parse.data.toList.drop 48 = dktX10_parse_2 := dk_seg dksX10_parse_1 24 rfl rfl
theorem dX10_parse_0 : decode cX10_parse 0 = .ok (.aload_n 0, 1) := dk_42 (dk_at dksX10_parse_0 0 rfl rfl)
theorem dX10_parse_1 : decode cX10_parse 1 = .ok (.iload_n 1, 1) := dk_27 (dk_at dksX10_parse_0 1 rfl rfl)
theorem dX10_parse_2 : decode cX10_parse 2 = .ok (.iconst 0, 1) := dk_3 (dk_at dksX10_parse_0 2 rfl rfl)
theorem dX10_parse_3 : decode cX10_parse 3 = .ok (.aload_n 0, 1) := dk_42 (dk_at dksX10_parse_0 3 rfl rfl)
theorem dX10_parse_4 : decode cX10_parse 4 = .ok (.getfield 274, 3) := dk_180 1 18 (dk_at dksX10_parse_0 4 rfl rfl)
theorem dX10_parse_7 : decode cX10_parse 7 = .ok (.invokestatic 53, 3) := dk_184 0 53 (dk_at dksX10_parse_0 7 rfl rfl)
theorem dX10_parse_10 : decode cX10_parse 10 = .ok (.ifCond .ne 7, 3) := dk_154 0 7 (dk_at dksX10_parse_0 10 rfl rfl)
theorem dX10_parse_13 : decode cX10_parse 13 = .ok (.iconst 1, 1) := dk_4 (dk_at dksX10_parse_0 13 rfl rfl)
theorem dX10_parse_14 : decode cX10_parse 14 = .ok (.goto 4, 3) := dk_167 0 4 (dk_at dksX10_parse_0 14 rfl rfl)
theorem dX10_parse_17 : decode cX10_parse 17 = .ok (.iconst 0, 1) := dk_3 (dk_at dksX10_parse_0 17 rfl rfl)
theorem dX10_parse_18 : decode cX10_parse 18 = .ok (.invokevirtual 280, 3) := dk_182 1 24 (dk_at dksX10_parse_0 18 rfl rfl)
theorem dX10_parse_21 : decode cX10_parse 21 = .ok (.ifCond .eq 5, 3) := dk_153 0 5 (dk_at dksX10_parse_0 21 rfl rfl)
theorem dX10_parse_24 : decode cX10_parse 24 = .ok (.iconst 0, 1) := dk_3 (dk_at dksX10_parse_1 0 rfl rfl)
theorem dX10_parse_25 : decode cX10_parse 25 = .ok (.ireturn, 1) := dk_172 (dk_at dksX10_parse_1 1 rfl rfl)
theorem dX10_parse_26 : decode cX10_parse 26 = .ok (.aload_n 0, 1) := dk_42 (dk_at dksX10_parse_1 2 rfl rfl)
theorem dX10_parse_27 : decode cX10_parse 27 = .ok (.iload_n 1, 1) := dk_27 (dk_at dksX10_parse_1 3 rfl rfl)
theorem dX10_parse_28 : decode cX10_parse 28 = .ok (.invokevirtual 284, 3) := dk_182 1 28 (dk_at dksX10_parse_1 4 rfl rfl)
theorem dX10_parse_31 : decode cX10_parse 31 = .ok (.aload_n 0, 1) := dk_42 (dk_at dksX10_parse_1 7 rfl rfl)
theorem dX10_parse_32 : decode cX10_parse 32 = .ok (.invokevirtual 134, 3) := dk_182 0 134 (dk_at dksX10_parse_1 8 rfl rfl)
theorem dX10_parse_35 : decode cX10_parse 35 = .ok (.ifCond .eq 13, 3) := dk_153 0 13 (dk_at dksX10_parse_1 11 rfl rfl)
theorem dX10_parse_38 : decode cX10_parse 38 = .ok (.aload_n 0, 1) := dk_42 (dk_at dksX10_parse_1 14 rfl rfl)
theorem dX10_parse_39 : decode cX10_parse 39 = .ok (.getfield 7, 3) := dk_180 0 7 (dk_at dksX10_parse_1 15 rfl rfl)
theorem dX10_parse_42 : decode cX10_parse 42 = .ok (.bipush 17, 2) := dk_16 17 (dk_at dksX10_parse_1 18 rfl rfl)
theorem dX10_parse_44 : decode cX10_parse 44 = .ok (.iaload, 1) := dk_46 (dk_at dksX10_parse_1 20 rfl rfl)
theorem dX10_parse_45 : decode cX10_parse 45 = .ok (.goto 10, 3) := dk_167 0 10 (dk_at dksX10_parse_1 21 rfl rfl)
theorem dX10_parse_48 : decode cX10_parse 48 = .ok (.bipush (-2), 2) := dk_16 254 (dk_at dksX10_parse_2 0 rfl rfl)
theorem dX10_parse_50 : decode cX10_parse 50 = .ok (.aload_n 0, 1) := dk_42 (dk_at dksX10_parse_2 2 rfl rfl)
theorem dX10_parse_51 : decode cX10_parse 51 = .ok (.getfield 153, 3) := dk_180 0 153 (dk_at dksX10_parse_2 3 rfl rfl)
theorem dX10_parse_54 : decode cX10_parse 54 = .ok (.isub, 1) := dk_100 (dk_at dksX10_parse_2 6 rfl rfl)
theorem dX10_parse_55 : decode cX10_parse 55 = .ok (.ireturn, 1) := dk_172 (dk_at dksX10_parse_2 7 rfl rfl)
abbrev cX10_throwsOne : ByteArray := prog_17_method_4_code
def yX10_throwsOne : MethodName := ⟨RX10, "throwsOne", "(Z)Z"⟩
def dkwX10_throwsOne_0 : List UInt8 := [42, 27, 153, 0, 7, 4, 167, 0, 4, 3, 181, 0, 45, 27, 172]
abbrev dktX10_throwsOne_0 : List UInt8 := dkwX10_throwsOne_0 ++ []
theorem dksX10_throwsOne_0 : cX10_throwsOne.data.toList.drop 0 = dktX10_throwsOne_0 := by decide +kernel
theorem dX10_throwsOne_0 : decode cX10_throwsOne 0 = .ok (.aload_n 0, 1) := dk_42 (dk_at dksX10_throwsOne_0 0 rfl rfl)
theorem dX10_throwsOne_1 : decode cX10_throwsOne 1 = .ok (.iload_n 1, 1) := dk_27 (dk_at dksX10_throwsOne_0 1 rfl rfl)
theorem dX10_throwsOne_2 : decode cX10_throwsOne 2 = .ok (.ifCond .eq 7, 3) := dk_153 0 7 (dk_at dksX10_throwsOne_0 2 rfl rfl)
theorem dX10_throwsOne_5 : decode cX10_throwsOne 5 = .ok (.iconst 1, 1) := dk_4 (dk_at dksX10_throwsOne_0 5 rfl rfl)
theorem dX10_throwsOne_6 : decode cX10_throwsOne 6 = .ok (.goto 4, 3) := dk_167 0 4 (dk_at dksX10_throwsOne_0 6 rfl rfl)
theorem dX10_throwsOne_9 : decode cX10_throwsOne 9 = .ok (.iconst 0, 1) := dk_3 (dk_at dksX10_throwsOne_0 9 rfl rfl)
theorem dX10_throwsOne_10 : decode cX10_throwsOne 10 = .ok (.putfield 45, 3) := dk_181 0 45 (dk_at dksX10_throwsOne_0 10 rfl rfl)
theorem dX10_throwsOne_13 : decode cX10_throwsOne 13 = .ok (.iload_n 1, 1) := dk_27 (dk_at dksX10_throwsOne_0 13 rfl rfl)
theorem dX10_throwsOne_14 : decode cX10_throwsOne 14 = .ok (.ireturn, 1) := dk_172 (dk_at dksX10_throwsOne_0 14 rfl rfl)
abbrev cX10_takes : ByteArray := prog_17_method_62_code
def yX10_takes : MethodName := ⟨RX10, "takes", "(I)V"⟩
def dkwX10_takes_1 : List UInt8 := [167, 255, 236, 42, 27, 181, 0, 115, 42, 3, 181, 1, 18, 177]
abbrev dktX10_takes_1 : List UInt8 := dkwX10_takes_1 ++ []
def dkwX10_takes_0 : List UInt8 := [3, 61, 28, 27, 162, 0, 21, 42, 180, 0, 28, 28, 42, 180, 0, 25, 28, 46, 79, 132, 2, 1]
abbrev dktX10_takes_0 : List UInt8 := dkwX10_takes_0 ++ dktX10_takes_1
theorem dksX10_takes_0 : cX10_takes.data.toList.drop 0 = dktX10_takes_0 := by decide +kernel
theorem dksX10_takes_1 : cX10_takes.data.toList.drop 22 = dktX10_takes_1 := dk_seg dksX10_takes_0 22 rfl rfl
theorem dX10_takes_0 : decode cX10_takes 0 = .ok (.iconst 0, 1) := dk_3 (dk_at dksX10_takes_0 0 rfl rfl)
theorem dX10_takes_1 : decode cX10_takes 1 = .ok (.istore_n 2, 1) := dk_61 (dk_at dksX10_takes_0 1 rfl rfl)
theorem dX10_takes_2 : decode cX10_takes 2 = .ok (.iload_n 2, 1) := dk_28 (dk_at dksX10_takes_0 2 rfl rfl)
theorem dX10_takes_3 : decode cX10_takes 3 = .ok (.iload_n 1, 1) := dk_27 (dk_at dksX10_takes_0 3 rfl rfl)
theorem dX10_takes_4 : decode cX10_takes 4 = .ok (.if_icmp .ge 21, 3) := dk_162 0 21 (dk_at dksX10_takes_0 4 rfl rfl)
theorem dX10_takes_7 : decode cX10_takes 7 = .ok (.aload_n 0, 1) := dk_42 (dk_at dksX10_takes_0 7 rfl rfl)
theorem dX10_takes_8 : decode cX10_takes 8 = .ok (.getfield 28, 3) := dk_180 0 28 (dk_at dksX10_takes_0 8 rfl rfl)
theorem dX10_takes_11 : decode cX10_takes 11 = .ok (.iload_n 2, 1) := dk_28 (dk_at dksX10_takes_0 11 rfl rfl)
theorem dX10_takes_12 : decode cX10_takes 12 = .ok (.aload_n 0, 1) := dk_42 (dk_at dksX10_takes_0 12 rfl rfl)
theorem dX10_takes_13 : decode cX10_takes 13 = .ok (.getfield 25, 3) := dk_180 0 25 (dk_at dksX10_takes_0 13 rfl rfl)
theorem dX10_takes_16 : decode cX10_takes 16 = .ok (.iload_n 2, 1) := dk_28 (dk_at dksX10_takes_0 16 rfl rfl)
theorem dX10_takes_17 : decode cX10_takes 17 = .ok (.iaload, 1) := dk_46 (dk_at dksX10_takes_0 17 rfl rfl)
theorem dX10_takes_18 : decode cX10_takes 18 = .ok (.iastore, 1) := dk_79 (dk_at dksX10_takes_0 18 rfl rfl)
theorem dX10_takes_19 : decode cX10_takes 19 = .ok (.iinc 2 1, 3) := dk_132 2 1 (dk_at dksX10_takes_0 19 rfl rfl)
theorem dX10_takes_22 : decode cX10_takes 22 = .ok (.goto (-20), 3) := dk_167 255 236 (dk_at dksX10_takes_1 0 rfl rfl)
theorem dX10_takes_25 : decode cX10_takes 25 = .ok (.aload_n 0, 1) := dk_42 (dk_at dksX10_takes_1 3 rfl rfl)
theorem dX10_takes_26 : decode cX10_takes 26 = .ok (.iload_n 1, 1) := dk_27 (dk_at dksX10_takes_1 4 rfl rfl)
theorem dX10_takes_27 : decode cX10_takes 27 = .ok (.putfield 115, 3) := dk_181 0 115 (dk_at dksX10_takes_1 5 rfl rfl)
theorem dX10_takes_30 : decode cX10_takes 30 = .ok (.aload_n 0, 1) := dk_42 (dk_at dksX10_takes_1 8 rfl rfl)
theorem dX10_takes_31 : decode cX10_takes 31 = .ok (.iconst 0, 1) := dk_3 (dk_at dksX10_takes_1 9 rfl rfl)
theorem dX10_takes_32 : decode cX10_takes 32 = .ok (.putfield 274, 3) := dk_181 1 18 (dk_at dksX10_takes_1 10 rfl rfl)
theorem dX10_takes_35 : decode cX10_takes 35 = .ok (.return_, 1) := dk_177 (dk_at dksX10_takes_1 13 rfl rfl)
abbrev cX10_load : ByteArray := prog_17_method_64_code
def yX10_load : MethodName := ⟨RX10, "load", "(I)I"⟩
def dkwX10_load_1 : List UInt8 := [27, 182, 0, 41, 42, 180, 0, 7, 16, 17, 46, 172]
abbrev dktX10_load_1 : List UInt8 := dkwX10_load_1 ++ []
def dkwX10_load_0 : List UInt8 := [42, 27, 3, 5, 184, 0, 53, 154, 0, 7, 4, 167, 0, 4, 3, 182, 1, 24, 153, 0, 5, 3, 172, 42]
abbrev dktX10_load_0 : List UInt8 := dkwX10_load_0 ++ dktX10_load_1
theorem dksX10_load_0 : cX10_load.data.toList.drop 0 = dktX10_load_0 := by decide +kernel
theorem dksX10_load_1 : cX10_load.data.toList.drop 24 = dktX10_load_1 := dk_seg dksX10_load_0 24 rfl rfl
theorem dX10_load_0 : decode cX10_load 0 = .ok (.aload_n 0, 1) := dk_42 (dk_at dksX10_load_0 0 rfl rfl)
theorem dX10_load_1 : decode cX10_load 1 = .ok (.iload_n 1, 1) := dk_27 (dk_at dksX10_load_0 1 rfl rfl)
theorem dX10_load_2 : decode cX10_load 2 = .ok (.iconst 0, 1) := dk_3 (dk_at dksX10_load_0 2 rfl rfl)
theorem dX10_load_3 : decode cX10_load 3 = .ok (.iconst 2, 1) := dk_5 (dk_at dksX10_load_0 3 rfl rfl)
theorem dX10_load_4 : decode cX10_load 4 = .ok (.invokestatic 53, 3) := dk_184 0 53 (dk_at dksX10_load_0 4 rfl rfl)
theorem dX10_load_7 : decode cX10_load 7 = .ok (.ifCond .ne 7, 3) := dk_154 0 7 (dk_at dksX10_load_0 7 rfl rfl)
theorem dX10_load_10 : decode cX10_load 10 = .ok (.iconst 1, 1) := dk_4 (dk_at dksX10_load_0 10 rfl rfl)
theorem dX10_load_11 : decode cX10_load 11 = .ok (.goto 4, 3) := dk_167 0 4 (dk_at dksX10_load_0 11 rfl rfl)
theorem dX10_load_14 : decode cX10_load 14 = .ok (.iconst 0, 1) := dk_3 (dk_at dksX10_load_0 14 rfl rfl)
theorem dX10_load_15 : decode cX10_load 15 = .ok (.invokevirtual 280, 3) := dk_182 1 24 (dk_at dksX10_load_0 15 rfl rfl)
theorem dX10_load_18 : decode cX10_load 18 = .ok (.ifCond .eq 5, 3) := dk_153 0 5 (dk_at dksX10_load_0 18 rfl rfl)
theorem dX10_load_21 : decode cX10_load 21 = .ok (.iconst 0, 1) := dk_3 (dk_at dksX10_load_0 21 rfl rfl)
theorem dX10_load_22 : decode cX10_load 22 = .ok (.ireturn, 1) := dk_172 (dk_at dksX10_load_0 22 rfl rfl)
theorem dX10_load_23 : decode cX10_load 23 = .ok (.aload_n 0, 1) := dk_42 (dk_at dksX10_load_0 23 rfl rfl)
theorem dX10_load_24 : decode cX10_load 24 = .ok (.iload_n 1, 1) := dk_27 (dk_at dksX10_load_1 0 rfl rfl)
theorem dX10_load_25 : decode cX10_load 25 = .ok (.invokevirtual 41, 3) := dk_182 0 41 (dk_at dksX10_load_1 1 rfl rfl)
theorem dX10_load_28 : decode cX10_load 28 = .ok (.aload_n 0, 1) := dk_42 (dk_at dksX10_load_1 4 rfl rfl)
theorem dX10_load_29 : decode cX10_load 29 = .ok (.getfield 7, 3) := dk_180 0 7 (dk_at dksX10_load_1 5 rfl rfl)
theorem dX10_load_32 : decode cX10_load 32 = .ok (.bipush 17, 2) := dk_16 17 (dk_at dksX10_load_1 8 rfl rfl)
theorem dX10_load_34 : decode cX10_load 34 = .ok (.iaload, 1) := dk_46 (dk_at dksX10_load_1 10 rfl rfl)
theorem dX10_load_35 : decode cX10_load 35 = .ok (.ireturn, 1) := dk_172 (dk_at dksX10_load_1 11 rfl rfl)
abbrev cX10_size : ByteArray := prog_17_method_66_code
def yX10_size : MethodName := ⟨RX10, "size", "(I)I"⟩
def dkwX10_size_1 : List UInt8 := [167, 0, 8, 42, 27, 182, 1, 37, 172]
abbrev dktX10_size_1 : List UInt8 := dkwX10_size_1 ++ []
def dkwX10_size_0 : List UInt8 := [42, 27, 3, 16, 13, 184, 0, 53, 154, 0, 7, 4, 167, 0, 4, 3, 182, 1, 24, 153, 0, 7, 3]
abbrev dktX10_size_0 : List UInt8 := dkwX10_size_0 ++ dktX10_size_1
theorem dksX10_size_0 : cX10_size.data.toList.drop 0 = dktX10_size_0 := by decide +kernel
theorem dksX10_size_1 : cX10_size.data.toList.drop 23 = dktX10_size_1 := dk_seg dksX10_size_0 23 rfl rfl
theorem dX10_size_0 : decode cX10_size 0 = .ok (.aload_n 0, 1) := dk_42 (dk_at dksX10_size_0 0 rfl rfl)
theorem dX10_size_1 : decode cX10_size 1 = .ok (.iload_n 1, 1) := dk_27 (dk_at dksX10_size_0 1 rfl rfl)
theorem dX10_size_2 : decode cX10_size 2 = .ok (.iconst 0, 1) := dk_3 (dk_at dksX10_size_0 2 rfl rfl)
theorem dX10_size_3 : decode cX10_size 3 = .ok (.bipush 13, 2) := dk_16 13 (dk_at dksX10_size_0 3 rfl rfl)
theorem dX10_size_5 : decode cX10_size 5 = .ok (.invokestatic 53, 3) := dk_184 0 53 (dk_at dksX10_size_0 5 rfl rfl)
theorem dX10_size_8 : decode cX10_size 8 = .ok (.ifCond .ne 7, 3) := dk_154 0 7 (dk_at dksX10_size_0 8 rfl rfl)
theorem dX10_size_11 : decode cX10_size 11 = .ok (.iconst 1, 1) := dk_4 (dk_at dksX10_size_0 11 rfl rfl)
theorem dX10_size_12 : decode cX10_size 12 = .ok (.goto 4, 3) := dk_167 0 4 (dk_at dksX10_size_0 12 rfl rfl)
theorem dX10_size_15 : decode cX10_size 15 = .ok (.iconst 0, 1) := dk_3 (dk_at dksX10_size_0 15 rfl rfl)
theorem dX10_size_16 : decode cX10_size 16 = .ok (.invokevirtual 280, 3) := dk_182 1 24 (dk_at dksX10_size_0 16 rfl rfl)
theorem dX10_size_19 : decode cX10_size 19 = .ok (.ifCond .eq 7, 3) := dk_153 0 7 (dk_at dksX10_size_0 19 rfl rfl)
theorem dX10_size_22 : decode cX10_size 22 = .ok (.iconst 0, 1) := dk_3 (dk_at dksX10_size_0 22 rfl rfl)
theorem dX10_size_23 : decode cX10_size 23 = .ok (.goto 8, 3) := dk_167 0 8 (dk_at dksX10_size_1 0 rfl rfl)
theorem dX10_size_26 : decode cX10_size 26 = .ok (.aload_n 0, 1) := dk_42 (dk_at dksX10_size_1 3 rfl rfl)
theorem dX10_size_27 : decode cX10_size 27 = .ok (.iload_n 1, 1) := dk_27 (dk_at dksX10_size_1 4 rfl rfl)
theorem dX10_size_28 : decode cX10_size 28 = .ok (.invokevirtual 293, 3) := dk_182 1 37 (dk_at dksX10_size_1 5 rfl rfl)
theorem dX10_size_31 : decode cX10_size 31 = .ok (.ireturn, 1) := dk_172 (dk_at dksX10_size_1 8 rfl rfl)
abbrev cX10_sizeOf : ByteArray := prog_17_method_65_code
def yX10_sizeOf : MethodName := ⟨RX10, "sizeOf", "(I)I"⟩
def dkwX10_sizeOf_5 : List UInt8 := [27, 16, 7, 100, 2, 182, 0, 98, 172]
abbrev dktX10_sizeOf_5 : List UInt8 := dkwX10_sizeOf_5 ++ []
def dkwX10_sizeOf_4 : List UInt8 := [16, 8, 46, 172, 42, 180, 1, 12, 172, 42, 180, 1, 18, 172, 42, 180, 1, 31, 172, 42, 182, 1, 34, 42]
abbrev dktX10_sizeOf_4 : List UInt8 := dkwX10_sizeOf_4 ++ dktX10_sizeOf_5
def dkwX10_sizeOf_3 : List UInt8 := [182, 0, 61, 172, 42, 180, 0, 7, 16, 6, 46, 172, 42, 180, 0, 7, 16, 7, 46, 172, 42, 180, 0, 7]
abbrev dktX10_sizeOf_3 : List UInt8 := dkwX10_sizeOf_3 ++ dktX10_sizeOf_4
def dkwX10_sizeOf_2 : List UInt8 := [42, 180, 0, 7, 3, 46, 172, 42, 180, 0, 7, 8, 46, 172, 42, 180, 0, 7, 16, 17, 46, 172, 42]
abbrev dktX10_sizeOf_2 : List UInt8 := dkwX10_sizeOf_2 ++ dktX10_sizeOf_3
def dkwX10_sizeOf_1 : List UInt8 := [170, 0, 0, 0, 0, 0, 137, 0, 0, 0, 0, 0, 0, 0, 13, 0, 0, 0, 71, 0, 0, 0, 78, 0, 0, 0, 85, 0, 0, 0, 93, 0, 0, 0, 98, 0, 0, 0, 106, 0, 0, 0, 114, 0, 0, 0, 137, 0, 0, 0, 137, 0, 0, 0, 137, 0, 0, 0, 137, 0, 0, 0, 122, 0, 0, 0, 127, 0, 0, 0, 132]
abbrev dktX10_sizeOf_1 : List UInt8 := dkwX10_sizeOf_1 ++ dktX10_sizeOf_2
def dkwX10_sizeOf_0 : List UInt8 := [27]
abbrev dktX10_sizeOf_0 : List UInt8 := dkwX10_sizeOf_0 ++ dktX10_sizeOf_1
theorem dksX10_sizeOf_0 : cX10_sizeOf.data.toList.drop 0 = dktX10_sizeOf_0 := by decide +kernel
theorem dksX10_sizeOf_1 : cX10_sizeOf.data.toList.drop 1 = dktX10_sizeOf_1 := dk_seg dksX10_sizeOf_0 1 rfl rfl
theorem dksX10_sizeOf_2 : cX10_sizeOf.data.toList.drop 72 = dktX10_sizeOf_2 := dk_seg dksX10_sizeOf_1 71 rfl rfl
theorem dksX10_sizeOf_3 : cX10_sizeOf.data.toList.drop 95 = dktX10_sizeOf_3 := dk_seg dksX10_sizeOf_2 23 rfl rfl
theorem dksX10_sizeOf_4 : cX10_sizeOf.data.toList.drop 119 = dktX10_sizeOf_4 := dk_seg dksX10_sizeOf_3 24 rfl rfl
theorem dksX10_sizeOf_5 : cX10_sizeOf.data.toList.drop 143 = dktX10_sizeOf_5 := dk_seg dksX10_sizeOf_4 24 rfl rfl
theorem dX10_sizeOf_0 : decode cX10_sizeOf 0 = .ok (.iload_n 1, 1) := dk_27 (dk_at dksX10_sizeOf_0 0 rfl rfl)
theorem dX10_sizeOf_1 : decode cX10_sizeOf 1 = .ok (.tableswitch 137 0 13 #[71, 78, 85, 93, 98, 106, 114, 137, 137, 137, 137, 122, 127, 132], 71) := by decide +kernel
theorem dX10_sizeOf_72 : decode cX10_sizeOf 72 = .ok (.aload_n 0, 1) := dk_42 (dk_at dksX10_sizeOf_2 0 rfl rfl)
theorem dX10_sizeOf_73 : decode cX10_sizeOf 73 = .ok (.getfield 7, 3) := dk_180 0 7 (dk_at dksX10_sizeOf_2 1 rfl rfl)
theorem dX10_sizeOf_76 : decode cX10_sizeOf 76 = .ok (.iconst 0, 1) := dk_3 (dk_at dksX10_sizeOf_2 4 rfl rfl)
theorem dX10_sizeOf_77 : decode cX10_sizeOf 77 = .ok (.iaload, 1) := dk_46 (dk_at dksX10_sizeOf_2 5 rfl rfl)
theorem dX10_sizeOf_78 : decode cX10_sizeOf 78 = .ok (.ireturn, 1) := dk_172 (dk_at dksX10_sizeOf_2 6 rfl rfl)
theorem dX10_sizeOf_79 : decode cX10_sizeOf 79 = .ok (.aload_n 0, 1) := dk_42 (dk_at dksX10_sizeOf_2 7 rfl rfl)
theorem dX10_sizeOf_80 : decode cX10_sizeOf 80 = .ok (.getfield 7, 3) := dk_180 0 7 (dk_at dksX10_sizeOf_2 8 rfl rfl)
theorem dX10_sizeOf_83 : decode cX10_sizeOf 83 = .ok (.iconst 5, 1) := dk_8 (dk_at dksX10_sizeOf_2 11 rfl rfl)
theorem dX10_sizeOf_84 : decode cX10_sizeOf 84 = .ok (.iaload, 1) := dk_46 (dk_at dksX10_sizeOf_2 12 rfl rfl)
theorem dX10_sizeOf_85 : decode cX10_sizeOf 85 = .ok (.ireturn, 1) := dk_172 (dk_at dksX10_sizeOf_2 13 rfl rfl)
theorem dX10_sizeOf_86 : decode cX10_sizeOf 86 = .ok (.aload_n 0, 1) := dk_42 (dk_at dksX10_sizeOf_2 14 rfl rfl)
theorem dX10_sizeOf_87 : decode cX10_sizeOf 87 = .ok (.getfield 7, 3) := dk_180 0 7 (dk_at dksX10_sizeOf_2 15 rfl rfl)
theorem dX10_sizeOf_90 : decode cX10_sizeOf 90 = .ok (.bipush 17, 2) := dk_16 17 (dk_at dksX10_sizeOf_2 18 rfl rfl)
theorem dX10_sizeOf_92 : decode cX10_sizeOf 92 = .ok (.iaload, 1) := dk_46 (dk_at dksX10_sizeOf_2 20 rfl rfl)
theorem dX10_sizeOf_93 : decode cX10_sizeOf 93 = .ok (.ireturn, 1) := dk_172 (dk_at dksX10_sizeOf_2 21 rfl rfl)
theorem dX10_sizeOf_94 : decode cX10_sizeOf 94 = .ok (.aload_n 0, 1) := dk_42 (dk_at dksX10_sizeOf_2 22 rfl rfl)
theorem dX10_sizeOf_95 : decode cX10_sizeOf 95 = .ok (.invokevirtual 61, 3) := dk_182 0 61 (dk_at dksX10_sizeOf_3 0 rfl rfl)
theorem dX10_sizeOf_98 : decode cX10_sizeOf 98 = .ok (.ireturn, 1) := dk_172 (dk_at dksX10_sizeOf_3 3 rfl rfl)
theorem dX10_sizeOf_99 : decode cX10_sizeOf 99 = .ok (.aload_n 0, 1) := dk_42 (dk_at dksX10_sizeOf_3 4 rfl rfl)
theorem dX10_sizeOf_100 : decode cX10_sizeOf 100 = .ok (.getfield 7, 3) := dk_180 0 7 (dk_at dksX10_sizeOf_3 5 rfl rfl)
theorem dX10_sizeOf_103 : decode cX10_sizeOf 103 = .ok (.bipush 6, 2) := dk_16 6 (dk_at dksX10_sizeOf_3 8 rfl rfl)
theorem dX10_sizeOf_105 : decode cX10_sizeOf 105 = .ok (.iaload, 1) := dk_46 (dk_at dksX10_sizeOf_3 10 rfl rfl)
theorem dX10_sizeOf_106 : decode cX10_sizeOf 106 = .ok (.ireturn, 1) := dk_172 (dk_at dksX10_sizeOf_3 11 rfl rfl)
theorem dX10_sizeOf_107 : decode cX10_sizeOf 107 = .ok (.aload_n 0, 1) := dk_42 (dk_at dksX10_sizeOf_3 12 rfl rfl)
theorem dX10_sizeOf_108 : decode cX10_sizeOf 108 = .ok (.getfield 7, 3) := dk_180 0 7 (dk_at dksX10_sizeOf_3 13 rfl rfl)
theorem dX10_sizeOf_111 : decode cX10_sizeOf 111 = .ok (.bipush 7, 2) := dk_16 7 (dk_at dksX10_sizeOf_3 16 rfl rfl)
theorem dX10_sizeOf_113 : decode cX10_sizeOf 113 = .ok (.iaload, 1) := dk_46 (dk_at dksX10_sizeOf_3 18 rfl rfl)
theorem dX10_sizeOf_114 : decode cX10_sizeOf 114 = .ok (.ireturn, 1) := dk_172 (dk_at dksX10_sizeOf_3 19 rfl rfl)
theorem dX10_sizeOf_115 : decode cX10_sizeOf 115 = .ok (.aload_n 0, 1) := dk_42 (dk_at dksX10_sizeOf_3 20 rfl rfl)
theorem dX10_sizeOf_116 : decode cX10_sizeOf 116 = .ok (.getfield 7, 3) := dk_180 0 7 (dk_at dksX10_sizeOf_3 21 rfl rfl)
theorem dX10_sizeOf_119 : decode cX10_sizeOf 119 = .ok (.bipush 8, 2) := dk_16 8 (dk_at dksX10_sizeOf_4 0 rfl rfl)
theorem dX10_sizeOf_121 : decode cX10_sizeOf 121 = .ok (.iaload, 1) := dk_46 (dk_at dksX10_sizeOf_4 2 rfl rfl)
theorem dX10_sizeOf_122 : decode cX10_sizeOf 122 = .ok (.ireturn, 1) := dk_172 (dk_at dksX10_sizeOf_4 3 rfl rfl)
theorem dX10_sizeOf_123 : decode cX10_sizeOf 123 = .ok (.aload_n 0, 1) := dk_42 (dk_at dksX10_sizeOf_4 4 rfl rfl)
theorem dX10_sizeOf_124 : decode cX10_sizeOf 124 = .ok (.getfield 268, 3) := dk_180 1 12 (dk_at dksX10_sizeOf_4 5 rfl rfl)
theorem dX10_sizeOf_127 : decode cX10_sizeOf 127 = .ok (.ireturn, 1) := dk_172 (dk_at dksX10_sizeOf_4 8 rfl rfl)
theorem dX10_sizeOf_128 : decode cX10_sizeOf 128 = .ok (.aload_n 0, 1) := dk_42 (dk_at dksX10_sizeOf_4 9 rfl rfl)
theorem dX10_sizeOf_129 : decode cX10_sizeOf 129 = .ok (.getfield 274, 3) := dk_180 1 18 (dk_at dksX10_sizeOf_4 10 rfl rfl)
theorem dX10_sizeOf_132 : decode cX10_sizeOf 132 = .ok (.ireturn, 1) := dk_172 (dk_at dksX10_sizeOf_4 13 rfl rfl)
theorem dX10_sizeOf_133 : decode cX10_sizeOf 133 = .ok (.aload_n 0, 1) := dk_42 (dk_at dksX10_sizeOf_4 14 rfl rfl)
theorem dX10_sizeOf_134 : decode cX10_sizeOf 134 = .ok (.getfield 287, 3) := dk_180 1 31 (dk_at dksX10_sizeOf_4 15 rfl rfl)
theorem dX10_sizeOf_137 : decode cX10_sizeOf 137 = .ok (.ireturn, 1) := dk_172 (dk_at dksX10_sizeOf_4 18 rfl rfl)
theorem dX10_sizeOf_138 : decode cX10_sizeOf 138 = .ok (.aload_n 0, 1) := dk_42 (dk_at dksX10_sizeOf_4 19 rfl rfl)
theorem dX10_sizeOf_139 : decode cX10_sizeOf 139 = .ok (.invokevirtual 290, 3) := dk_182 1 34 (dk_at dksX10_sizeOf_4 20 rfl rfl)
theorem dX10_sizeOf_142 : decode cX10_sizeOf 142 = .ok (.aload_n 0, 1) := dk_42 (dk_at dksX10_sizeOf_4 23 rfl rfl)
theorem dX10_sizeOf_143 : decode cX10_sizeOf 143 = .ok (.iload_n 1, 1) := dk_27 (dk_at dksX10_sizeOf_5 0 rfl rfl)
theorem dX10_sizeOf_144 : decode cX10_sizeOf 144 = .ok (.bipush 7, 2) := dk_16 7 (dk_at dksX10_sizeOf_5 1 rfl rfl)
theorem dX10_sizeOf_146 : decode cX10_sizeOf 146 = .ok (.isub, 1) := dk_100 (dk_at dksX10_sizeOf_5 3 rfl rfl)
theorem dX10_sizeOf_147 : decode cX10_sizeOf 147 = .ok (.iconst (-1), 1) := dk_2 (dk_at dksX10_sizeOf_5 4 rfl rfl)
theorem dX10_sizeOf_148 : decode cX10_sizeOf 148 = .ok (.invokevirtual 98, 3) := dk_182 0 98 (dk_at dksX10_sizeOf_5 5 rfl rfl)
theorem dX10_sizeOf_151 : decode cX10_sizeOf 151 = .ok (.ireturn, 1) := dk_172 (dk_at dksX10_sizeOf_5 8 rfl rfl)
abbrev cX10_cases : ByteArray := prog_17_method_15_code
def yX10_cases : MethodName := ⟨RX10, "cases", "()I"⟩
def dkwX10_cases_1 : List UInt8 := [60, 132, 2, 1, 167, 255, 232, 27, 172]
abbrev dktX10_cases_1 : List UInt8 := dkwX10_cases_1 ++ []
def dkwX10_cases_0 : List UInt8 := [4, 60, 3, 61, 28, 42, 180, 0, 7, 3, 46, 162, 0, 20, 27, 42, 180, 0, 7, 4, 28, 96, 46, 104]
abbrev dktX10_cases_0 : List UInt8 := dkwX10_cases_0 ++ dktX10_cases_1
theorem dksX10_cases_0 : cX10_cases.data.toList.drop 0 = dktX10_cases_0 := by decide +kernel
theorem dksX10_cases_1 : cX10_cases.data.toList.drop 24 = dktX10_cases_1 := dk_seg dksX10_cases_0 24 rfl rfl
theorem dX10_cases_0 : decode cX10_cases 0 = .ok (.iconst 1, 1) := dk_4 (dk_at dksX10_cases_0 0 rfl rfl)
theorem dX10_cases_1 : decode cX10_cases 1 = .ok (.istore_n 1, 1) := dk_60 (dk_at dksX10_cases_0 1 rfl rfl)
theorem dX10_cases_2 : decode cX10_cases 2 = .ok (.iconst 0, 1) := dk_3 (dk_at dksX10_cases_0 2 rfl rfl)
theorem dX10_cases_3 : decode cX10_cases 3 = .ok (.istore_n 2, 1) := dk_61 (dk_at dksX10_cases_0 3 rfl rfl)
theorem dX10_cases_4 : decode cX10_cases 4 = .ok (.iload_n 2, 1) := dk_28 (dk_at dksX10_cases_0 4 rfl rfl)
theorem dX10_cases_5 : decode cX10_cases 5 = .ok (.aload_n 0, 1) := dk_42 (dk_at dksX10_cases_0 5 rfl rfl)
theorem dX10_cases_6 : decode cX10_cases 6 = .ok (.getfield 7, 3) := dk_180 0 7 (dk_at dksX10_cases_0 6 rfl rfl)
theorem dX10_cases_9 : decode cX10_cases 9 = .ok (.iconst 0, 1) := dk_3 (dk_at dksX10_cases_0 9 rfl rfl)
theorem dX10_cases_10 : decode cX10_cases 10 = .ok (.iaload, 1) := dk_46 (dk_at dksX10_cases_0 10 rfl rfl)
theorem dX10_cases_11 : decode cX10_cases 11 = .ok (.if_icmp .ge 20, 3) := dk_162 0 20 (dk_at dksX10_cases_0 11 rfl rfl)
theorem dX10_cases_14 : decode cX10_cases 14 = .ok (.iload_n 1, 1) := dk_27 (dk_at dksX10_cases_0 14 rfl rfl)
theorem dX10_cases_15 : decode cX10_cases 15 = .ok (.aload_n 0, 1) := dk_42 (dk_at dksX10_cases_0 15 rfl rfl)
theorem dX10_cases_16 : decode cX10_cases 16 = .ok (.getfield 7, 3) := dk_180 0 7 (dk_at dksX10_cases_0 16 rfl rfl)
theorem dX10_cases_19 : decode cX10_cases 19 = .ok (.iconst 1, 1) := dk_4 (dk_at dksX10_cases_0 19 rfl rfl)
theorem dX10_cases_20 : decode cX10_cases 20 = .ok (.iload_n 2, 1) := dk_28 (dk_at dksX10_cases_0 20 rfl rfl)
theorem dX10_cases_21 : decode cX10_cases 21 = .ok (.iadd, 1) := dk_96 (dk_at dksX10_cases_0 21 rfl rfl)
theorem dX10_cases_22 : decode cX10_cases 22 = .ok (.iaload, 1) := dk_46 (dk_at dksX10_cases_0 22 rfl rfl)
theorem dX10_cases_23 : decode cX10_cases 23 = .ok (.imul, 1) := dk_104 (dk_at dksX10_cases_0 23 rfl rfl)
theorem dX10_cases_24 : decode cX10_cases 24 = .ok (.istore_n 1, 1) := dk_60 (dk_at dksX10_cases_1 0 rfl rfl)
theorem dX10_cases_25 : decode cX10_cases 25 = .ok (.iinc 2 1, 3) := dk_132 2 1 (dk_at dksX10_cases_1 1 rfl rfl)
theorem dX10_cases_28 : decode cX10_cases 28 = .ok (.goto (-24), 3) := dk_167 255 232 (dk_at dksX10_cases_1 4 rfl rfl)
theorem dX10_cases_31 : decode cX10_cases 31 = .ok (.iload_n 1, 1) := dk_27 (dk_at dksX10_cases_1 7 rfl rfl)
theorem dX10_cases_32 : decode cX10_cases 32 = .ok (.ireturn, 1) := dk_172 (dk_at dksX10_cases_1 8 rfl rfl)
abbrev cX10_setsOut : ByteArray := prog_17_method_21_code
def yX10_setsOut : MethodName := ⟨RX10, "setsOut", "()V"⟩
def dkwX10_setsOut_3 : List UInt8 := [177]
abbrev dktX10_setsOut_3 : List UInt8 := dkwX10_setsOut_3 ++ []
def dkwX10_setsOut_2 : List UInt8 := [153, 0, 9, 4, 29, 120, 167, 0, 4, 3, 128, 79, 132, 3, 1, 167, 255, 217, 132, 2, 1, 167, 255, 197]
abbrev dktX10_setsOut_2 : List UInt8 := dkwX10_setsOut_2 ++ dktX10_setsOut_3
def dkwX10_setsOut_1 : List UInt8 := [180, 0, 7, 16, 17, 46, 162, 0, 34, 42, 180, 0, 38, 28, 92, 46, 42, 29, 28, 182, 0, 80]
abbrev dktX10_setsOut_1 : List UInt8 := dkwX10_setsOut_1 ++ dktX10_setsOut_2
def dkwX10_setsOut_0 : List UInt8 := [42, 182, 0, 61, 60, 3, 61, 28, 27, 162, 0, 60, 42, 180, 0, 38, 28, 3, 79, 3, 62, 29, 42]
abbrev dktX10_setsOut_0 : List UInt8 := dkwX10_setsOut_0 ++ dktX10_setsOut_1
theorem dksX10_setsOut_0 : cX10_setsOut.data.toList.drop 0 = dktX10_setsOut_0 := by decide +kernel
theorem dksX10_setsOut_1 : cX10_setsOut.data.toList.drop 23 = dktX10_setsOut_1 := dk_seg dksX10_setsOut_0 23 rfl rfl
theorem dksX10_setsOut_2 : cX10_setsOut.data.toList.drop 45 = dktX10_setsOut_2 := dk_seg dksX10_setsOut_1 22 rfl rfl
theorem dksX10_setsOut_3 : cX10_setsOut.data.toList.drop 69 = dktX10_setsOut_3 := dk_seg dksX10_setsOut_2 24 rfl rfl
theorem dX10_setsOut_0 : decode cX10_setsOut 0 = .ok (.aload_n 0, 1) := dk_42 (dk_at dksX10_setsOut_0 0 rfl rfl)
theorem dX10_setsOut_1 : decode cX10_setsOut 1 = .ok (.invokevirtual 61, 3) := dk_182 0 61 (dk_at dksX10_setsOut_0 1 rfl rfl)
theorem dX10_setsOut_4 : decode cX10_setsOut 4 = .ok (.istore_n 1, 1) := dk_60 (dk_at dksX10_setsOut_0 4 rfl rfl)
theorem dX10_setsOut_5 : decode cX10_setsOut 5 = .ok (.iconst 0, 1) := dk_3 (dk_at dksX10_setsOut_0 5 rfl rfl)
theorem dX10_setsOut_6 : decode cX10_setsOut 6 = .ok (.istore_n 2, 1) := dk_61 (dk_at dksX10_setsOut_0 6 rfl rfl)
theorem dX10_setsOut_7 : decode cX10_setsOut 7 = .ok (.iload_n 2, 1) := dk_28 (dk_at dksX10_setsOut_0 7 rfl rfl)
theorem dX10_setsOut_8 : decode cX10_setsOut 8 = .ok (.iload_n 1, 1) := dk_27 (dk_at dksX10_setsOut_0 8 rfl rfl)
theorem dX10_setsOut_9 : decode cX10_setsOut 9 = .ok (.if_icmp .ge 60, 3) := dk_162 0 60 (dk_at dksX10_setsOut_0 9 rfl rfl)
theorem dX10_setsOut_12 : decode cX10_setsOut 12 = .ok (.aload_n 0, 1) := dk_42 (dk_at dksX10_setsOut_0 12 rfl rfl)
theorem dX10_setsOut_13 : decode cX10_setsOut 13 = .ok (.getfield 38, 3) := dk_180 0 38 (dk_at dksX10_setsOut_0 13 rfl rfl)
theorem dX10_setsOut_16 : decode cX10_setsOut 16 = .ok (.iload_n 2, 1) := dk_28 (dk_at dksX10_setsOut_0 16 rfl rfl)
theorem dX10_setsOut_17 : decode cX10_setsOut 17 = .ok (.iconst 0, 1) := dk_3 (dk_at dksX10_setsOut_0 17 rfl rfl)
theorem dX10_setsOut_18 : decode cX10_setsOut 18 = .ok (.iastore, 1) := dk_79 (dk_at dksX10_setsOut_0 18 rfl rfl)
theorem dX10_setsOut_19 : decode cX10_setsOut 19 = .ok (.iconst 0, 1) := dk_3 (dk_at dksX10_setsOut_0 19 rfl rfl)
theorem dX10_setsOut_20 : decode cX10_setsOut 20 = .ok (.istore_n 3, 1) := dk_62 (dk_at dksX10_setsOut_0 20 rfl rfl)
theorem dX10_setsOut_21 : decode cX10_setsOut 21 = .ok (.iload_n 3, 1) := dk_29 (dk_at dksX10_setsOut_0 21 rfl rfl)
theorem dX10_setsOut_22 : decode cX10_setsOut 22 = .ok (.aload_n 0, 1) := dk_42 (dk_at dksX10_setsOut_0 22 rfl rfl)
theorem dX10_setsOut_23 : decode cX10_setsOut 23 = .ok (.getfield 7, 3) := dk_180 0 7 (dk_at dksX10_setsOut_1 0 rfl rfl)
theorem dX10_setsOut_26 : decode cX10_setsOut 26 = .ok (.bipush 17, 2) := dk_16 17 (dk_at dksX10_setsOut_1 3 rfl rfl)
theorem dX10_setsOut_28 : decode cX10_setsOut 28 = .ok (.iaload, 1) := dk_46 (dk_at dksX10_setsOut_1 5 rfl rfl)
theorem dX10_setsOut_29 : decode cX10_setsOut 29 = .ok (.if_icmp .ge 34, 3) := dk_162 0 34 (dk_at dksX10_setsOut_1 6 rfl rfl)
theorem dX10_setsOut_32 : decode cX10_setsOut 32 = .ok (.aload_n 0, 1) := dk_42 (dk_at dksX10_setsOut_1 9 rfl rfl)
theorem dX10_setsOut_33 : decode cX10_setsOut 33 = .ok (.getfield 38, 3) := dk_180 0 38 (dk_at dksX10_setsOut_1 10 rfl rfl)
theorem dX10_setsOut_36 : decode cX10_setsOut 36 = .ok (.iload_n 2, 1) := dk_28 (dk_at dksX10_setsOut_1 13 rfl rfl)
theorem dX10_setsOut_37 : decode cX10_setsOut 37 = .ok (.dup2, 1) := dk_92 (dk_at dksX10_setsOut_1 14 rfl rfl)
theorem dX10_setsOut_38 : decode cX10_setsOut 38 = .ok (.iaload, 1) := dk_46 (dk_at dksX10_setsOut_1 15 rfl rfl)
theorem dX10_setsOut_39 : decode cX10_setsOut 39 = .ok (.aload_n 0, 1) := dk_42 (dk_at dksX10_setsOut_1 16 rfl rfl)
theorem dX10_setsOut_40 : decode cX10_setsOut 40 = .ok (.iload_n 3, 1) := dk_29 (dk_at dksX10_setsOut_1 17 rfl rfl)
theorem dX10_setsOut_41 : decode cX10_setsOut 41 = .ok (.iload_n 2, 1) := dk_28 (dk_at dksX10_setsOut_1 18 rfl rfl)
theorem dX10_setsOut_42 : decode cX10_setsOut 42 = .ok (.invokevirtual 80, 3) := dk_182 0 80 (dk_at dksX10_setsOut_1 19 rfl rfl)
theorem dX10_setsOut_45 : decode cX10_setsOut 45 = .ok (.ifCond .eq 9, 3) := dk_153 0 9 (dk_at dksX10_setsOut_2 0 rfl rfl)
theorem dX10_setsOut_48 : decode cX10_setsOut 48 = .ok (.iconst 1, 1) := dk_4 (dk_at dksX10_setsOut_2 3 rfl rfl)
theorem dX10_setsOut_49 : decode cX10_setsOut 49 = .ok (.iload_n 3, 1) := dk_29 (dk_at dksX10_setsOut_2 4 rfl rfl)
theorem dX10_setsOut_50 : decode cX10_setsOut 50 = .ok (.ishl, 1) := dk_120 (dk_at dksX10_setsOut_2 5 rfl rfl)
theorem dX10_setsOut_51 : decode cX10_setsOut 51 = .ok (.goto 4, 3) := dk_167 0 4 (dk_at dksX10_setsOut_2 6 rfl rfl)
theorem dX10_setsOut_54 : decode cX10_setsOut 54 = .ok (.iconst 0, 1) := dk_3 (dk_at dksX10_setsOut_2 9 rfl rfl)
theorem dX10_setsOut_55 : decode cX10_setsOut 55 = .ok (.ior, 1) := dk_128 (dk_at dksX10_setsOut_2 10 rfl rfl)
theorem dX10_setsOut_56 : decode cX10_setsOut 56 = .ok (.iastore, 1) := dk_79 (dk_at dksX10_setsOut_2 11 rfl rfl)
theorem dX10_setsOut_57 : decode cX10_setsOut 57 = .ok (.iinc 3 1, 3) := dk_132 3 1 (dk_at dksX10_setsOut_2 12 rfl rfl)
theorem dX10_setsOut_60 : decode cX10_setsOut 60 = .ok (.goto (-39), 3) := dk_167 255 217 (dk_at dksX10_setsOut_2 15 rfl rfl)
theorem dX10_setsOut_63 : decode cX10_setsOut 63 = .ok (.iinc 2 1, 3) := dk_132 2 1 (dk_at dksX10_setsOut_2 18 rfl rfl)
theorem dX10_setsOut_66 : decode cX10_setsOut 66 = .ok (.goto (-59), 3) := dk_167 255 197 (dk_at dksX10_setsOut_2 21 rfl rfl)
theorem dX10_setsOut_69 : decode cX10_setsOut 69 = .ok (.return_, 1) := dk_177 (dk_at dksX10_setsOut_3 0 rfl rfl)
abbrev cX10_holds : ByteArray := prog_17_method_19_code
def yX10_holds : MethodName := ⟨RX10, "holds", "(II)Z"⟩
def dkwX10_holds_8 : List UInt8 := [3, 46, 4, 160, 0, 7, 4, 167, 0, 4, 3, 172]
abbrev dktX10_holds_8 : List UInt8 := dkwX10_holds_8 ++ []
def dkwX10_holds_7 : List UInt8 := [167, 0, 10, 42, 21, 5, 28, 182, 0, 77, 79, 132, 3, 1, 132, 4, 1, 167, 255, 95, 42, 180, 0, 35]
abbrev dktX10_holds_7 : List UInt8 := dkwX10_holds_7 ++ dktX10_holds_8
def dkwX10_holds_6 : List UInt8 := [180, 0, 35, 29, 46, 184, 0, 72, 79, 167, 0, 29, 42, 180, 0, 35, 29, 21, 5, 7, 160, 0, 7, 4]
abbrev dktX10_holds_6 : List UInt8 := dkwX10_holds_6 ++ dktX10_holds_7
def dkwX10_holds_5 : List UInt8 := [167, 0, 60, 132, 3, 255, 42, 180, 0, 35, 29, 4, 100, 42, 180, 0, 35, 29, 4, 100, 46, 42]
abbrev dktX10_holds_5 : List UInt8 := dkwX10_holds_5 ++ dktX10_holds_6
def dkwX10_holds_4 : List UInt8 := [42, 180, 0, 35, 29, 4, 100, 42, 180, 0, 35, 29, 4, 100, 46, 42, 180, 0, 35, 29, 46, 104, 79]
abbrev dktX10_holds_4 : List UInt8 := dkwX10_holds_4 ++ dktX10_holds_5
def dkwX10_holds_3 : List UInt8 := [42, 180, 0, 35, 29, 4, 100, 4, 42, 180, 0, 35, 29, 4, 100, 46, 100, 79, 167, 0, 89, 132, 3, 255]
abbrev dktX10_holds_3 : List UInt8 := dkwX10_holds_3 ++ dktX10_holds_4
def dkwX10_holds_2 : List UInt8 := [170, 0, 0, 0, 0, 0, 108, 0, 0, 0, 1, 0, 0, 0, 3, 0, 0, 0, 27, 0, 0, 0, 48, 0, 0, 0, 77]
abbrev dktX10_holds_2 : List UInt8 := dkwX10_holds_2 ++ dktX10_holds_3
def dkwX10_holds_1 : List UInt8 := [182, 0, 69, 54, 5, 21, 5]
abbrev dktX10_holds_1 : List UInt8 := dkwX10_holds_1 ++ dktX10_holds_2
def dkwX10_holds_0 : List UInt8 := [3, 62, 3, 54, 4, 21, 4, 42, 27, 3, 182, 0, 69, 162, 0, 156, 42, 27, 4, 21, 4, 96]
abbrev dktX10_holds_0 : List UInt8 := dkwX10_holds_0 ++ dktX10_holds_1
theorem dksX10_holds_0 : cX10_holds.data.toList.drop 0 = dktX10_holds_0 := by decide +kernel
theorem dksX10_holds_1 : cX10_holds.data.toList.drop 22 = dktX10_holds_1 := dk_seg dksX10_holds_0 22 rfl rfl
theorem dksX10_holds_2 : cX10_holds.data.toList.drop 29 = dktX10_holds_2 := dk_seg dksX10_holds_1 7 rfl rfl
theorem dksX10_holds_3 : cX10_holds.data.toList.drop 56 = dktX10_holds_3 := dk_seg dksX10_holds_2 27 rfl rfl
theorem dksX10_holds_4 : cX10_holds.data.toList.drop 80 = dktX10_holds_4 := dk_seg dksX10_holds_3 24 rfl rfl
theorem dksX10_holds_5 : cX10_holds.data.toList.drop 103 = dktX10_holds_5 := dk_seg dksX10_holds_4 23 rfl rfl
theorem dksX10_holds_6 : cX10_holds.data.toList.drop 125 = dktX10_holds_6 := dk_seg dksX10_holds_5 22 rfl rfl
theorem dksX10_holds_7 : cX10_holds.data.toList.drop 149 = dktX10_holds_7 := dk_seg dksX10_holds_6 24 rfl rfl
theorem dksX10_holds_8 : cX10_holds.data.toList.drop 173 = dktX10_holds_8 := dk_seg dksX10_holds_7 24 rfl rfl
theorem dX10_holds_0 : decode cX10_holds 0 = .ok (.iconst 0, 1) := dk_3 (dk_at dksX10_holds_0 0 rfl rfl)
theorem dX10_holds_1 : decode cX10_holds 1 = .ok (.istore_n 3, 1) := dk_62 (dk_at dksX10_holds_0 1 rfl rfl)
theorem dX10_holds_2 : decode cX10_holds 2 = .ok (.iconst 0, 1) := dk_3 (dk_at dksX10_holds_0 2 rfl rfl)
theorem dX10_holds_3 : decode cX10_holds 3 = .ok (.istore 4, 2) := dk_54 4 (dk_at dksX10_holds_0 3 rfl rfl)
theorem dX10_holds_5 : decode cX10_holds 5 = .ok (.iload 4, 2) := dk_21 4 (dk_at dksX10_holds_0 5 rfl rfl)
theorem dX10_holds_7 : decode cX10_holds 7 = .ok (.aload_n 0, 1) := dk_42 (dk_at dksX10_holds_0 7 rfl rfl)
theorem dX10_holds_8 : decode cX10_holds 8 = .ok (.iload_n 1, 1) := dk_27 (dk_at dksX10_holds_0 8 rfl rfl)
theorem dX10_holds_9 : decode cX10_holds 9 = .ok (.iconst 0, 1) := dk_3 (dk_at dksX10_holds_0 9 rfl rfl)
theorem dX10_holds_10 : decode cX10_holds 10 = .ok (.invokevirtual 69, 3) := dk_182 0 69 (dk_at dksX10_holds_0 10 rfl rfl)
theorem dX10_holds_13 : decode cX10_holds 13 = .ok (.if_icmp .ge 156, 3) := dk_162 0 156 (dk_at dksX10_holds_0 13 rfl rfl)
theorem dX10_holds_16 : decode cX10_holds 16 = .ok (.aload_n 0, 1) := dk_42 (dk_at dksX10_holds_0 16 rfl rfl)
theorem dX10_holds_17 : decode cX10_holds 17 = .ok (.iload_n 1, 1) := dk_27 (dk_at dksX10_holds_0 17 rfl rfl)
theorem dX10_holds_18 : decode cX10_holds 18 = .ok (.iconst 1, 1) := dk_4 (dk_at dksX10_holds_0 18 rfl rfl)
theorem dX10_holds_19 : decode cX10_holds 19 = .ok (.iload 4, 2) := dk_21 4 (dk_at dksX10_holds_0 19 rfl rfl)
theorem dX10_holds_21 : decode cX10_holds 21 = .ok (.iadd, 1) := dk_96 (dk_at dksX10_holds_0 21 rfl rfl)
theorem dX10_holds_22 : decode cX10_holds 22 = .ok (.invokevirtual 69, 3) := dk_182 0 69 (dk_at dksX10_holds_1 0 rfl rfl)
theorem dX10_holds_25 : decode cX10_holds 25 = .ok (.istore 5, 2) := dk_54 5 (dk_at dksX10_holds_1 3 rfl rfl)
theorem dX10_holds_27 : decode cX10_holds 27 = .ok (.iload 5, 2) := dk_21 5 (dk_at dksX10_holds_1 5 rfl rfl)
theorem dX10_holds_29 : decode cX10_holds 29 = .ok (.tableswitch 108 1 3 #[27, 48, 77], 27) := by decide +kernel
theorem dX10_holds_56 : decode cX10_holds 56 = .ok (.aload_n 0, 1) := dk_42 (dk_at dksX10_holds_3 0 rfl rfl)
theorem dX10_holds_57 : decode cX10_holds 57 = .ok (.getfield 35, 3) := dk_180 0 35 (dk_at dksX10_holds_3 1 rfl rfl)
theorem dX10_holds_60 : decode cX10_holds 60 = .ok (.iload_n 3, 1) := dk_29 (dk_at dksX10_holds_3 4 rfl rfl)
theorem dX10_holds_61 : decode cX10_holds 61 = .ok (.iconst 1, 1) := dk_4 (dk_at dksX10_holds_3 5 rfl rfl)
theorem dX10_holds_62 : decode cX10_holds 62 = .ok (.isub, 1) := dk_100 (dk_at dksX10_holds_3 6 rfl rfl)
theorem dX10_holds_63 : decode cX10_holds 63 = .ok (.iconst 1, 1) := dk_4 (dk_at dksX10_holds_3 7 rfl rfl)
theorem dX10_holds_64 : decode cX10_holds 64 = .ok (.aload_n 0, 1) := dk_42 (dk_at dksX10_holds_3 8 rfl rfl)
theorem dX10_holds_65 : decode cX10_holds 65 = .ok (.getfield 35, 3) := dk_180 0 35 (dk_at dksX10_holds_3 9 rfl rfl)
theorem dX10_holds_68 : decode cX10_holds 68 = .ok (.iload_n 3, 1) := dk_29 (dk_at dksX10_holds_3 12 rfl rfl)
theorem dX10_holds_69 : decode cX10_holds 69 = .ok (.iconst 1, 1) := dk_4 (dk_at dksX10_holds_3 13 rfl rfl)
theorem dX10_holds_70 : decode cX10_holds 70 = .ok (.isub, 1) := dk_100 (dk_at dksX10_holds_3 14 rfl rfl)
theorem dX10_holds_71 : decode cX10_holds 71 = .ok (.iaload, 1) := dk_46 (dk_at dksX10_holds_3 15 rfl rfl)
theorem dX10_holds_72 : decode cX10_holds 72 = .ok (.isub, 1) := dk_100 (dk_at dksX10_holds_3 16 rfl rfl)
theorem dX10_holds_73 : decode cX10_holds 73 = .ok (.iastore, 1) := dk_79 (dk_at dksX10_holds_3 17 rfl rfl)
theorem dX10_holds_74 : decode cX10_holds 74 = .ok (.goto 89, 3) := dk_167 0 89 (dk_at dksX10_holds_3 18 rfl rfl)
theorem dX10_holds_77 : decode cX10_holds 77 = .ok (.iinc 3 (-1), 3) := dk_132 3 255 (dk_at dksX10_holds_3 21 rfl rfl)
theorem dX10_holds_80 : decode cX10_holds 80 = .ok (.aload_n 0, 1) := dk_42 (dk_at dksX10_holds_4 0 rfl rfl)
theorem dX10_holds_81 : decode cX10_holds 81 = .ok (.getfield 35, 3) := dk_180 0 35 (dk_at dksX10_holds_4 1 rfl rfl)
theorem dX10_holds_84 : decode cX10_holds 84 = .ok (.iload_n 3, 1) := dk_29 (dk_at dksX10_holds_4 4 rfl rfl)
theorem dX10_holds_85 : decode cX10_holds 85 = .ok (.iconst 1, 1) := dk_4 (dk_at dksX10_holds_4 5 rfl rfl)
theorem dX10_holds_86 : decode cX10_holds 86 = .ok (.isub, 1) := dk_100 (dk_at dksX10_holds_4 6 rfl rfl)
theorem dX10_holds_87 : decode cX10_holds 87 = .ok (.aload_n 0, 1) := dk_42 (dk_at dksX10_holds_4 7 rfl rfl)
theorem dX10_holds_88 : decode cX10_holds 88 = .ok (.getfield 35, 3) := dk_180 0 35 (dk_at dksX10_holds_4 8 rfl rfl)
theorem dX10_holds_91 : decode cX10_holds 91 = .ok (.iload_n 3, 1) := dk_29 (dk_at dksX10_holds_4 11 rfl rfl)
theorem dX10_holds_92 : decode cX10_holds 92 = .ok (.iconst 1, 1) := dk_4 (dk_at dksX10_holds_4 12 rfl rfl)
theorem dX10_holds_93 : decode cX10_holds 93 = .ok (.isub, 1) := dk_100 (dk_at dksX10_holds_4 13 rfl rfl)
theorem dX10_holds_94 : decode cX10_holds 94 = .ok (.iaload, 1) := dk_46 (dk_at dksX10_holds_4 14 rfl rfl)
theorem dX10_holds_95 : decode cX10_holds 95 = .ok (.aload_n 0, 1) := dk_42 (dk_at dksX10_holds_4 15 rfl rfl)
theorem dX10_holds_96 : decode cX10_holds 96 = .ok (.getfield 35, 3) := dk_180 0 35 (dk_at dksX10_holds_4 16 rfl rfl)
theorem dX10_holds_99 : decode cX10_holds 99 = .ok (.iload_n 3, 1) := dk_29 (dk_at dksX10_holds_4 19 rfl rfl)
theorem dX10_holds_100 : decode cX10_holds 100 = .ok (.iaload, 1) := dk_46 (dk_at dksX10_holds_4 20 rfl rfl)
theorem dX10_holds_101 : decode cX10_holds 101 = .ok (.imul, 1) := dk_104 (dk_at dksX10_holds_4 21 rfl rfl)
theorem dX10_holds_102 : decode cX10_holds 102 = .ok (.iastore, 1) := dk_79 (dk_at dksX10_holds_4 22 rfl rfl)
theorem dX10_holds_103 : decode cX10_holds 103 = .ok (.goto 60, 3) := dk_167 0 60 (dk_at dksX10_holds_5 0 rfl rfl)
theorem dX10_holds_106 : decode cX10_holds 106 = .ok (.iinc 3 (-1), 3) := dk_132 3 255 (dk_at dksX10_holds_5 3 rfl rfl)
theorem dX10_holds_109 : decode cX10_holds 109 = .ok (.aload_n 0, 1) := dk_42 (dk_at dksX10_holds_5 6 rfl rfl)
theorem dX10_holds_110 : decode cX10_holds 110 = .ok (.getfield 35, 3) := dk_180 0 35 (dk_at dksX10_holds_5 7 rfl rfl)
theorem dX10_holds_113 : decode cX10_holds 113 = .ok (.iload_n 3, 1) := dk_29 (dk_at dksX10_holds_5 10 rfl rfl)
theorem dX10_holds_114 : decode cX10_holds 114 = .ok (.iconst 1, 1) := dk_4 (dk_at dksX10_holds_5 11 rfl rfl)
theorem dX10_holds_115 : decode cX10_holds 115 = .ok (.isub, 1) := dk_100 (dk_at dksX10_holds_5 12 rfl rfl)
theorem dX10_holds_116 : decode cX10_holds 116 = .ok (.aload_n 0, 1) := dk_42 (dk_at dksX10_holds_5 13 rfl rfl)
theorem dX10_holds_117 : decode cX10_holds 117 = .ok (.getfield 35, 3) := dk_180 0 35 (dk_at dksX10_holds_5 14 rfl rfl)
theorem dX10_holds_120 : decode cX10_holds 120 = .ok (.iload_n 3, 1) := dk_29 (dk_at dksX10_holds_5 17 rfl rfl)
theorem dX10_holds_121 : decode cX10_holds 121 = .ok (.iconst 1, 1) := dk_4 (dk_at dksX10_holds_5 18 rfl rfl)
theorem dX10_holds_122 : decode cX10_holds 122 = .ok (.isub, 1) := dk_100 (dk_at dksX10_holds_5 19 rfl rfl)
theorem dX10_holds_123 : decode cX10_holds 123 = .ok (.iaload, 1) := dk_46 (dk_at dksX10_holds_5 20 rfl rfl)
theorem dX10_holds_124 : decode cX10_holds 124 = .ok (.aload_n 0, 1) := dk_42 (dk_at dksX10_holds_5 21 rfl rfl)
theorem dX10_holds_125 : decode cX10_holds 125 = .ok (.getfield 35, 3) := dk_180 0 35 (dk_at dksX10_holds_6 0 rfl rfl)
theorem dX10_holds_128 : decode cX10_holds 128 = .ok (.iload_n 3, 1) := dk_29 (dk_at dksX10_holds_6 3 rfl rfl)
theorem dX10_holds_129 : decode cX10_holds 129 = .ok (.iaload, 1) := dk_46 (dk_at dksX10_holds_6 4 rfl rfl)
theorem dX10_holds_130 : decode cX10_holds 130 = .ok (.invokestatic 72, 3) := dk_184 0 72 (dk_at dksX10_holds_6 5 rfl rfl)
theorem dX10_holds_133 : decode cX10_holds 133 = .ok (.iastore, 1) := dk_79 (dk_at dksX10_holds_6 8 rfl rfl)
theorem dX10_holds_134 : decode cX10_holds 134 = .ok (.goto 29, 3) := dk_167 0 29 (dk_at dksX10_holds_6 9 rfl rfl)
theorem dX10_holds_137 : decode cX10_holds 137 = .ok (.aload_n 0, 1) := dk_42 (dk_at dksX10_holds_6 12 rfl rfl)
theorem dX10_holds_138 : decode cX10_holds 138 = .ok (.getfield 35, 3) := dk_180 0 35 (dk_at dksX10_holds_6 13 rfl rfl)
theorem dX10_holds_141 : decode cX10_holds 141 = .ok (.iload_n 3, 1) := dk_29 (dk_at dksX10_holds_6 16 rfl rfl)
theorem dX10_holds_142 : decode cX10_holds 142 = .ok (.iload 5, 2) := dk_21 5 (dk_at dksX10_holds_6 17 rfl rfl)
theorem dX10_holds_144 : decode cX10_holds 144 = .ok (.iconst 4, 1) := dk_7 (dk_at dksX10_holds_6 19 rfl rfl)
theorem dX10_holds_145 : decode cX10_holds 145 = .ok (.if_icmp .ne 7, 3) := dk_160 0 7 (dk_at dksX10_holds_6 20 rfl rfl)
theorem dX10_holds_148 : decode cX10_holds 148 = .ok (.iconst 1, 1) := dk_4 (dk_at dksX10_holds_6 23 rfl rfl)
theorem dX10_holds_149 : decode cX10_holds 149 = .ok (.goto 10, 3) := dk_167 0 10 (dk_at dksX10_holds_7 0 rfl rfl)
theorem dX10_holds_152 : decode cX10_holds 152 = .ok (.aload_n 0, 1) := dk_42 (dk_at dksX10_holds_7 3 rfl rfl)
theorem dX10_holds_153 : decode cX10_holds 153 = .ok (.iload 5, 2) := dk_21 5 (dk_at dksX10_holds_7 4 rfl rfl)
theorem dX10_holds_155 : decode cX10_holds 155 = .ok (.iload_n 2, 1) := dk_28 (dk_at dksX10_holds_7 6 rfl rfl)
theorem dX10_holds_156 : decode cX10_holds 156 = .ok (.invokevirtual 77, 3) := dk_182 0 77 (dk_at dksX10_holds_7 7 rfl rfl)
theorem dX10_holds_159 : decode cX10_holds 159 = .ok (.iastore, 1) := dk_79 (dk_at dksX10_holds_7 10 rfl rfl)
theorem dX10_holds_160 : decode cX10_holds 160 = .ok (.iinc 3 1, 3) := dk_132 3 1 (dk_at dksX10_holds_7 11 rfl rfl)
theorem dX10_holds_163 : decode cX10_holds 163 = .ok (.iinc 4 1, 3) := dk_132 4 1 (dk_at dksX10_holds_7 14 rfl rfl)
theorem dX10_holds_166 : decode cX10_holds 166 = .ok (.goto (-161), 3) := dk_167 255 95 (dk_at dksX10_holds_7 17 rfl rfl)
theorem dX10_holds_169 : decode cX10_holds 169 = .ok (.aload_n 0, 1) := dk_42 (dk_at dksX10_holds_7 20 rfl rfl)
theorem dX10_holds_170 : decode cX10_holds 170 = .ok (.getfield 35, 3) := dk_180 0 35 (dk_at dksX10_holds_7 21 rfl rfl)
theorem dX10_holds_173 : decode cX10_holds 173 = .ok (.iconst 0, 1) := dk_3 (dk_at dksX10_holds_8 0 rfl rfl)
theorem dX10_holds_174 : decode cX10_holds 174 = .ok (.iaload, 1) := dk_46 (dk_at dksX10_holds_8 1 rfl rfl)
theorem dX10_holds_175 : decode cX10_holds 175 = .ok (.iconst 1, 1) := dk_4 (dk_at dksX10_holds_8 2 rfl rfl)
theorem dX10_holds_176 : decode cX10_holds 176 = .ok (.if_icmp .ne 7, 3) := dk_160 0 7 (dk_at dksX10_holds_8 3 rfl rfl)
theorem dX10_holds_179 : decode cX10_holds 179 = .ok (.iconst 1, 1) := dk_4 (dk_at dksX10_holds_8 6 rfl rfl)
theorem dX10_holds_180 : decode cX10_holds 180 = .ok (.goto 4, 3) := dk_167 0 4 (dk_at dksX10_holds_8 7 rfl rfl)
theorem dX10_holds_183 : decode cX10_holds 183 = .ok (.iconst 0, 1) := dk_3 (dk_at dksX10_holds_8 10 rfl rfl)
theorem dX10_holds_184 : decode cX10_holds 184 = .ok (.ireturn, 1) := dk_172 (dk_at dksX10_holds_8 11 rfl rfl)
abbrev cX10_of : ByteArray := prog_17_method_14_code
def yX10_of : MethodName := ⟨RX10, "of", "(II)I"⟩
def dkwX10_of_0 : List UInt8 := [42, 180, 0, 7, 27, 184, 0, 57, 28, 96, 46, 172]
abbrev dktX10_of_0 : List UInt8 := dkwX10_of_0 ++ []
theorem dksX10_of_0 : cX10_of.data.toList.drop 0 = dktX10_of_0 := by decide +kernel
theorem dX10_of_0 : decode cX10_of 0 = .ok (.aload_n 0, 1) := dk_42 (dk_at dksX10_of_0 0 rfl rfl)
theorem dX10_of_1 : decode cX10_of 1 = .ok (.getfield 7, 3) := dk_180 0 7 (dk_at dksX10_of_0 1 rfl rfl)
theorem dX10_of_4 : decode cX10_of 4 = .ok (.iload_n 1, 1) := dk_27 (dk_at dksX10_of_0 4 rfl rfl)
theorem dX10_of_5 : decode cX10_of 5 = .ok (.invokestatic 57, 3) := dk_184 0 57 (dk_at dksX10_of_0 5 rfl rfl)
theorem dX10_of_8 : decode cX10_of 8 = .ok (.iload_n 2, 1) := dk_28 (dk_at dksX10_of_0 8 rfl rfl)
theorem dX10_of_9 : decode cX10_of 9 = .ok (.iadd, 1) := dk_96 (dk_at dksX10_of_0 9 rfl rfl)
theorem dX10_of_10 : decode cX10_of 10 = .ok (.iaload, 1) := dk_46 (dk_at dksX10_of_0 10 rfl rfl)
theorem dX10_of_11 : decode cX10_of 11 = .ok (.ireturn, 1) := dk_172 (dk_at dksX10_of_0 11 rfl rfl)
abbrev cX10_compares : ByteArray := prog_17_method_18_code
def yX10_compares : MethodName := ⟨RX10, "compares", "(II)I"⟩
def dkwX10_compares_3 : List UInt8 := [3, 172]
abbrev dktX10_compares_3 : List UInt8 := dkwX10_compares_3 ++ []
def dkwX10_compares_2 : List UInt8 := [160, 0, 13, 21, 4, 21, 5, 162, 0, 17, 167, 0, 10, 21, 4, 21, 5, 164, 0, 7, 4, 167, 0, 4]
abbrev dktX10_compares_2 : List UInt8 := dkwX10_compares_2 ++ dktX10_compares_3
def dkwX10_compares_1 : List UInt8 := [7, 112, 54, 6, 21, 6, 154, 0, 13, 21, 4, 21, 5, 160, 0, 33, 167, 0, 26, 21, 6, 4]
abbrev dktX10_compares_1 : List UInt8 := dkwX10_compares_1 ++ dktX10_compares_2
def dkwX10_compares_0 : List UInt8 := [27, 16, 10, 100, 62, 42, 28, 29, 16, 16, 108, 182, 0, 65, 54, 4, 29, 7, 112, 54, 5, 29, 7, 108]
abbrev dktX10_compares_0 : List UInt8 := dkwX10_compares_0 ++ dktX10_compares_1
theorem dksX10_compares_0 : cX10_compares.data.toList.drop 0 = dktX10_compares_0 := by decide +kernel
theorem dksX10_compares_1 : cX10_compares.data.toList.drop 24 = dktX10_compares_1 := dk_seg dksX10_compares_0 24 rfl rfl
theorem dksX10_compares_2 : cX10_compares.data.toList.drop 46 = dktX10_compares_2 := dk_seg dksX10_compares_1 22 rfl rfl
theorem dksX10_compares_3 : cX10_compares.data.toList.drop 70 = dktX10_compares_3 := dk_seg dksX10_compares_2 24 rfl rfl
theorem dX10_compares_0 : decode cX10_compares 0 = .ok (.iload_n 1, 1) := dk_27 (dk_at dksX10_compares_0 0 rfl rfl)
theorem dX10_compares_1 : decode cX10_compares 1 = .ok (.bipush 10, 2) := dk_16 10 (dk_at dksX10_compares_0 1 rfl rfl)
theorem dX10_compares_3 : decode cX10_compares 3 = .ok (.isub, 1) := dk_100 (dk_at dksX10_compares_0 3 rfl rfl)
theorem dX10_compares_4 : decode cX10_compares 4 = .ok (.istore_n 3, 1) := dk_62 (dk_at dksX10_compares_0 4 rfl rfl)
theorem dX10_compares_5 : decode cX10_compares 5 = .ok (.aload_n 0, 1) := dk_42 (dk_at dksX10_compares_0 5 rfl rfl)
theorem dX10_compares_6 : decode cX10_compares 6 = .ok (.iload_n 2, 1) := dk_28 (dk_at dksX10_compares_0 6 rfl rfl)
theorem dX10_compares_7 : decode cX10_compares 7 = .ok (.iload_n 3, 1) := dk_29 (dk_at dksX10_compares_0 7 rfl rfl)
theorem dX10_compares_8 : decode cX10_compares 8 = .ok (.bipush 16, 2) := dk_16 16 (dk_at dksX10_compares_0 8 rfl rfl)
theorem dX10_compares_10 : decode cX10_compares 10 = .ok (.idiv, 1) := dk_108 (dk_at dksX10_compares_0 10 rfl rfl)
theorem dX10_compares_11 : decode cX10_compares 11 = .ok (.invokevirtual 65, 3) := dk_182 0 65 (dk_at dksX10_compares_0 11 rfl rfl)
theorem dX10_compares_14 : decode cX10_compares 14 = .ok (.istore 4, 2) := dk_54 4 (dk_at dksX10_compares_0 14 rfl rfl)
theorem dX10_compares_16 : decode cX10_compares 16 = .ok (.iload_n 3, 1) := dk_29 (dk_at dksX10_compares_0 16 rfl rfl)
theorem dX10_compares_17 : decode cX10_compares 17 = .ok (.iconst 4, 1) := dk_7 (dk_at dksX10_compares_0 17 rfl rfl)
theorem dX10_compares_18 : decode cX10_compares 18 = .ok (.irem, 1) := dk_112 (dk_at dksX10_compares_0 18 rfl rfl)
theorem dX10_compares_19 : decode cX10_compares 19 = .ok (.istore 5, 2) := dk_54 5 (dk_at dksX10_compares_0 19 rfl rfl)
theorem dX10_compares_21 : decode cX10_compares 21 = .ok (.iload_n 3, 1) := dk_29 (dk_at dksX10_compares_0 21 rfl rfl)
theorem dX10_compares_22 : decode cX10_compares 22 = .ok (.iconst 4, 1) := dk_7 (dk_at dksX10_compares_0 22 rfl rfl)
theorem dX10_compares_23 : decode cX10_compares 23 = .ok (.idiv, 1) := dk_108 (dk_at dksX10_compares_0 23 rfl rfl)
theorem dX10_compares_24 : decode cX10_compares 24 = .ok (.iconst 4, 1) := dk_7 (dk_at dksX10_compares_1 0 rfl rfl)
theorem dX10_compares_25 : decode cX10_compares 25 = .ok (.irem, 1) := dk_112 (dk_at dksX10_compares_1 1 rfl rfl)
theorem dX10_compares_26 : decode cX10_compares 26 = .ok (.istore 6, 2) := dk_54 6 (dk_at dksX10_compares_1 2 rfl rfl)
theorem dX10_compares_28 : decode cX10_compares 28 = .ok (.iload 6, 2) := dk_21 6 (dk_at dksX10_compares_1 4 rfl rfl)
theorem dX10_compares_30 : decode cX10_compares 30 = .ok (.ifCond .ne 13, 3) := dk_154 0 13 (dk_at dksX10_compares_1 6 rfl rfl)
theorem dX10_compares_33 : decode cX10_compares 33 = .ok (.iload 4, 2) := dk_21 4 (dk_at dksX10_compares_1 9 rfl rfl)
theorem dX10_compares_35 : decode cX10_compares 35 = .ok (.iload 5, 2) := dk_21 5 (dk_at dksX10_compares_1 11 rfl rfl)
theorem dX10_compares_37 : decode cX10_compares 37 = .ok (.if_icmp .ne 33, 3) := dk_160 0 33 (dk_at dksX10_compares_1 13 rfl rfl)
theorem dX10_compares_40 : decode cX10_compares 40 = .ok (.goto 26, 3) := dk_167 0 26 (dk_at dksX10_compares_1 16 rfl rfl)
theorem dX10_compares_43 : decode cX10_compares 43 = .ok (.iload 6, 2) := dk_21 6 (dk_at dksX10_compares_1 19 rfl rfl)
theorem dX10_compares_45 : decode cX10_compares 45 = .ok (.iconst 1, 1) := dk_4 (dk_at dksX10_compares_1 21 rfl rfl)
theorem dX10_compares_46 : decode cX10_compares 46 = .ok (.if_icmp .ne 13, 3) := dk_160 0 13 (dk_at dksX10_compares_2 0 rfl rfl)
theorem dX10_compares_49 : decode cX10_compares 49 = .ok (.iload 4, 2) := dk_21 4 (dk_at dksX10_compares_2 3 rfl rfl)
theorem dX10_compares_51 : decode cX10_compares 51 = .ok (.iload 5, 2) := dk_21 5 (dk_at dksX10_compares_2 5 rfl rfl)
theorem dX10_compares_53 : decode cX10_compares 53 = .ok (.if_icmp .ge 17, 3) := dk_162 0 17 (dk_at dksX10_compares_2 7 rfl rfl)
theorem dX10_compares_56 : decode cX10_compares 56 = .ok (.goto 10, 3) := dk_167 0 10 (dk_at dksX10_compares_2 10 rfl rfl)
theorem dX10_compares_59 : decode cX10_compares 59 = .ok (.iload 4, 2) := dk_21 4 (dk_at dksX10_compares_2 13 rfl rfl)
theorem dX10_compares_61 : decode cX10_compares 61 = .ok (.iload 5, 2) := dk_21 5 (dk_at dksX10_compares_2 15 rfl rfl)
theorem dX10_compares_63 : decode cX10_compares 63 = .ok (.if_icmp .le 7, 3) := dk_164 0 7 (dk_at dksX10_compares_2 17 rfl rfl)
theorem dX10_compares_66 : decode cX10_compares 66 = .ok (.iconst 1, 1) := dk_4 (dk_at dksX10_compares_2 20 rfl rfl)
theorem dX10_compares_67 : decode cX10_compares 67 = .ok (.goto 4, 3) := dk_167 0 4 (dk_at dksX10_compares_2 21 rfl rfl)
theorem dX10_compares_70 : decode cX10_compares 70 = .ok (.iconst 0, 1) := dk_3 (dk_at dksX10_compares_3 0 rfl rfl)
theorem dX10_compares_71 : decode cX10_compares 71 = .ok (.ireturn, 1) := dk_172 (dk_at dksX10_compares_3 1 rfl rfl)
abbrev cX10_valueOf : ByteArray := prog_17_method_17_code
def yX10_valueOf : MethodName := ⟨RX10, "valueOf", "(II)I"⟩
def dkwX10_valueOf_1 : List UInt8 := [132, 4, 1, 167, 255, 235, 29, 42, 180, 0, 7, 4, 28, 96, 46, 112, 172]
abbrev dktX10_valueOf_1 : List UInt8 := dkwX10_valueOf_1 ++ []
def dkwX10_valueOf_0 : List UInt8 := [27, 62, 3, 54, 4, 21, 4, 28, 162, 0, 21, 29, 42, 180, 0, 7, 4, 21, 4, 96, 46, 108, 62]
abbrev dktX10_valueOf_0 : List UInt8 := dkwX10_valueOf_0 ++ dktX10_valueOf_1
theorem dksX10_valueOf_0 : cX10_valueOf.data.toList.drop 0 = dktX10_valueOf_0 := by decide +kernel
theorem dksX10_valueOf_1 : cX10_valueOf.data.toList.drop 23 = dktX10_valueOf_1 := dk_seg dksX10_valueOf_0 23 rfl rfl
theorem dX10_valueOf_0 : decode cX10_valueOf 0 = .ok (.iload_n 1, 1) := dk_27 (dk_at dksX10_valueOf_0 0 rfl rfl)
theorem dX10_valueOf_1 : decode cX10_valueOf 1 = .ok (.istore_n 3, 1) := dk_62 (dk_at dksX10_valueOf_0 1 rfl rfl)
theorem dX10_valueOf_2 : decode cX10_valueOf 2 = .ok (.iconst 0, 1) := dk_3 (dk_at dksX10_valueOf_0 2 rfl rfl)
theorem dX10_valueOf_3 : decode cX10_valueOf 3 = .ok (.istore 4, 2) := dk_54 4 (dk_at dksX10_valueOf_0 3 rfl rfl)
theorem dX10_valueOf_5 : decode cX10_valueOf 5 = .ok (.iload 4, 2) := dk_21 4 (dk_at dksX10_valueOf_0 5 rfl rfl)
theorem dX10_valueOf_7 : decode cX10_valueOf 7 = .ok (.iload_n 2, 1) := dk_28 (dk_at dksX10_valueOf_0 7 rfl rfl)
theorem dX10_valueOf_8 : decode cX10_valueOf 8 = .ok (.if_icmp .ge 21, 3) := dk_162 0 21 (dk_at dksX10_valueOf_0 8 rfl rfl)
theorem dX10_valueOf_11 : decode cX10_valueOf 11 = .ok (.iload_n 3, 1) := dk_29 (dk_at dksX10_valueOf_0 11 rfl rfl)
theorem dX10_valueOf_12 : decode cX10_valueOf 12 = .ok (.aload_n 0, 1) := dk_42 (dk_at dksX10_valueOf_0 12 rfl rfl)
theorem dX10_valueOf_13 : decode cX10_valueOf 13 = .ok (.getfield 7, 3) := dk_180 0 7 (dk_at dksX10_valueOf_0 13 rfl rfl)
theorem dX10_valueOf_16 : decode cX10_valueOf 16 = .ok (.iconst 1, 1) := dk_4 (dk_at dksX10_valueOf_0 16 rfl rfl)
theorem dX10_valueOf_17 : decode cX10_valueOf 17 = .ok (.iload 4, 2) := dk_21 4 (dk_at dksX10_valueOf_0 17 rfl rfl)
theorem dX10_valueOf_19 : decode cX10_valueOf 19 = .ok (.iadd, 1) := dk_96 (dk_at dksX10_valueOf_0 19 rfl rfl)
theorem dX10_valueOf_20 : decode cX10_valueOf 20 = .ok (.iaload, 1) := dk_46 (dk_at dksX10_valueOf_0 20 rfl rfl)
theorem dX10_valueOf_21 : decode cX10_valueOf 21 = .ok (.idiv, 1) := dk_108 (dk_at dksX10_valueOf_0 21 rfl rfl)
theorem dX10_valueOf_22 : decode cX10_valueOf 22 = .ok (.istore_n 3, 1) := dk_62 (dk_at dksX10_valueOf_0 22 rfl rfl)
theorem dX10_valueOf_23 : decode cX10_valueOf 23 = .ok (.iinc 4 1, 3) := dk_132 4 1 (dk_at dksX10_valueOf_1 0 rfl rfl)
theorem dX10_valueOf_26 : decode cX10_valueOf 26 = .ok (.goto (-21), 3) := dk_167 255 235 (dk_at dksX10_valueOf_1 3 rfl rfl)
theorem dX10_valueOf_29 : decode cX10_valueOf 29 = .ok (.iload_n 3, 1) := dk_29 (dk_at dksX10_valueOf_1 6 rfl rfl)
theorem dX10_valueOf_30 : decode cX10_valueOf 30 = .ok (.aload_n 0, 1) := dk_42 (dk_at dksX10_valueOf_1 7 rfl rfl)
theorem dX10_valueOf_31 : decode cX10_valueOf 31 = .ok (.getfield 7, 3) := dk_180 0 7 (dk_at dksX10_valueOf_1 8 rfl rfl)
theorem dX10_valueOf_34 : decode cX10_valueOf 34 = .ok (.iconst 1, 1) := dk_4 (dk_at dksX10_valueOf_1 11 rfl rfl)
theorem dX10_valueOf_35 : decode cX10_valueOf 35 = .ok (.iload_n 2, 1) := dk_28 (dk_at dksX10_valueOf_1 12 rfl rfl)
theorem dX10_valueOf_36 : decode cX10_valueOf 36 = .ok (.iadd, 1) := dk_96 (dk_at dksX10_valueOf_1 13 rfl rfl)
theorem dX10_valueOf_37 : decode cX10_valueOf 37 = .ok (.iaload, 1) := dk_46 (dk_at dksX10_valueOf_1 14 rfl rfl)
theorem dX10_valueOf_38 : decode cX10_valueOf 38 = .ok (.irem, 1) := dk_112 (dk_at dksX10_valueOf_1 15 rfl rfl)
theorem dX10_valueOf_39 : decode cX10_valueOf 39 = .ok (.ireturn, 1) := dk_172 (dk_at dksX10_valueOf_1 16 rfl rfl)
abbrev cX10_many : ByteArray := prog_17_method_27_code
def yX10_many : MethodName := ⟨RX10, "many", "(II)I"⟩
def dkwX10_many_3 : List UInt8 := [29, 172]
abbrev dktX10_many_3 : List UInt8 := dkwX10_many_3 ++ []
def dkwX10_many_2 : List UInt8 := [29, 42, 21, 6, 182, 0, 95, 27, 160, 0, 7, 4, 167, 0, 4, 3, 96, 62, 132, 5, 1, 167, 255, 198]
abbrev dktX10_many_2 : List UInt8 := dkwX10_many_2 ++ dktX10_many_3
def dkwX10_many_1 : List UInt8 := [180, 0, 38, 21, 5, 46, 167, 0, 16, 42, 180, 0, 38, 21, 5, 46, 4, 28, 120, 2, 130, 126, 54, 6]
abbrev dktX10_many_1 : List UInt8 := dkwX10_many_1 ++ dktX10_many_2
def dkwX10_many_0 : List UInt8 := [3, 62, 42, 182, 0, 61, 54, 4, 3, 54, 5, 21, 5, 21, 4, 162, 0, 57, 28, 2, 160, 0, 13, 42]
abbrev dktX10_many_0 : List UInt8 := dkwX10_many_0 ++ dktX10_many_1
theorem dksX10_many_0 : cX10_many.data.toList.drop 0 = dktX10_many_0 := by decide +kernel
theorem dksX10_many_1 : cX10_many.data.toList.drop 24 = dktX10_many_1 := dk_seg dksX10_many_0 24 rfl rfl
theorem dksX10_many_2 : cX10_many.data.toList.drop 48 = dktX10_many_2 := dk_seg dksX10_many_1 24 rfl rfl
theorem dksX10_many_3 : cX10_many.data.toList.drop 72 = dktX10_many_3 := dk_seg dksX10_many_2 24 rfl rfl
theorem dX10_many_0 : decode cX10_many 0 = .ok (.iconst 0, 1) := dk_3 (dk_at dksX10_many_0 0 rfl rfl)
theorem dX10_many_1 : decode cX10_many 1 = .ok (.istore_n 3, 1) := dk_62 (dk_at dksX10_many_0 1 rfl rfl)
theorem dX10_many_2 : decode cX10_many 2 = .ok (.aload_n 0, 1) := dk_42 (dk_at dksX10_many_0 2 rfl rfl)
theorem dX10_many_3 : decode cX10_many 3 = .ok (.invokevirtual 61, 3) := dk_182 0 61 (dk_at dksX10_many_0 3 rfl rfl)
theorem dX10_many_6 : decode cX10_many 6 = .ok (.istore 4, 2) := dk_54 4 (dk_at dksX10_many_0 6 rfl rfl)
theorem dX10_many_8 : decode cX10_many 8 = .ok (.iconst 0, 1) := dk_3 (dk_at dksX10_many_0 8 rfl rfl)
theorem dX10_many_9 : decode cX10_many 9 = .ok (.istore 5, 2) := dk_54 5 (dk_at dksX10_many_0 9 rfl rfl)
theorem dX10_many_11 : decode cX10_many 11 = .ok (.iload 5, 2) := dk_21 5 (dk_at dksX10_many_0 11 rfl rfl)
theorem dX10_many_13 : decode cX10_many 13 = .ok (.iload 4, 2) := dk_21 4 (dk_at dksX10_many_0 13 rfl rfl)
theorem dX10_many_15 : decode cX10_many 15 = .ok (.if_icmp .ge 57, 3) := dk_162 0 57 (dk_at dksX10_many_0 15 rfl rfl)
theorem dX10_many_18 : decode cX10_many 18 = .ok (.iload_n 2, 1) := dk_28 (dk_at dksX10_many_0 18 rfl rfl)
theorem dX10_many_19 : decode cX10_many 19 = .ok (.iconst (-1), 1) := dk_2 (dk_at dksX10_many_0 19 rfl rfl)
theorem dX10_many_20 : decode cX10_many 20 = .ok (.if_icmp .ne 13, 3) := dk_160 0 13 (dk_at dksX10_many_0 20 rfl rfl)
theorem dX10_many_23 : decode cX10_many 23 = .ok (.aload_n 0, 1) := dk_42 (dk_at dksX10_many_0 23 rfl rfl)
theorem dX10_many_24 : decode cX10_many 24 = .ok (.getfield 38, 3) := dk_180 0 38 (dk_at dksX10_many_1 0 rfl rfl)
theorem dX10_many_27 : decode cX10_many 27 = .ok (.iload 5, 2) := dk_21 5 (dk_at dksX10_many_1 3 rfl rfl)
theorem dX10_many_29 : decode cX10_many 29 = .ok (.iaload, 1) := dk_46 (dk_at dksX10_many_1 5 rfl rfl)
theorem dX10_many_30 : decode cX10_many 30 = .ok (.goto 16, 3) := dk_167 0 16 (dk_at dksX10_many_1 6 rfl rfl)
theorem dX10_many_33 : decode cX10_many 33 = .ok (.aload_n 0, 1) := dk_42 (dk_at dksX10_many_1 9 rfl rfl)
theorem dX10_many_34 : decode cX10_many 34 = .ok (.getfield 38, 3) := dk_180 0 38 (dk_at dksX10_many_1 10 rfl rfl)
theorem dX10_many_37 : decode cX10_many 37 = .ok (.iload 5, 2) := dk_21 5 (dk_at dksX10_many_1 13 rfl rfl)
theorem dX10_many_39 : decode cX10_many 39 = .ok (.iaload, 1) := dk_46 (dk_at dksX10_many_1 15 rfl rfl)
theorem dX10_many_40 : decode cX10_many 40 = .ok (.iconst 1, 1) := dk_4 (dk_at dksX10_many_1 16 rfl rfl)
theorem dX10_many_41 : decode cX10_many 41 = .ok (.iload_n 2, 1) := dk_28 (dk_at dksX10_many_1 17 rfl rfl)
theorem dX10_many_42 : decode cX10_many 42 = .ok (.ishl, 1) := dk_120 (dk_at dksX10_many_1 18 rfl rfl)
theorem dX10_many_43 : decode cX10_many 43 = .ok (.iconst (-1), 1) := dk_2 (dk_at dksX10_many_1 19 rfl rfl)
theorem dX10_many_44 : decode cX10_many 44 = .ok (.ixor, 1) := dk_130 (dk_at dksX10_many_1 20 rfl rfl)
theorem dX10_many_45 : decode cX10_many 45 = .ok (.iand, 1) := dk_126 (dk_at dksX10_many_1 21 rfl rfl)
theorem dX10_many_46 : decode cX10_many 46 = .ok (.istore 6, 2) := dk_54 6 (dk_at dksX10_many_1 22 rfl rfl)
theorem dX10_many_48 : decode cX10_many 48 = .ok (.iload_n 3, 1) := dk_29 (dk_at dksX10_many_2 0 rfl rfl)
theorem dX10_many_49 : decode cX10_many 49 = .ok (.aload_n 0, 1) := dk_42 (dk_at dksX10_many_2 1 rfl rfl)
theorem dX10_many_50 : decode cX10_many 50 = .ok (.iload 6, 2) := dk_21 6 (dk_at dksX10_many_2 2 rfl rfl)
theorem dX10_many_52 : decode cX10_many 52 = .ok (.invokevirtual 95, 3) := dk_182 0 95 (dk_at dksX10_many_2 4 rfl rfl)
theorem dX10_many_55 : decode cX10_many 55 = .ok (.iload_n 1, 1) := dk_27 (dk_at dksX10_many_2 7 rfl rfl)
theorem dX10_many_56 : decode cX10_many 56 = .ok (.if_icmp .ne 7, 3) := dk_160 0 7 (dk_at dksX10_many_2 8 rfl rfl)
theorem dX10_many_59 : decode cX10_many 59 = .ok (.iconst 1, 1) := dk_4 (dk_at dksX10_many_2 11 rfl rfl)
theorem dX10_many_60 : decode cX10_many 60 = .ok (.goto 4, 3) := dk_167 0 4 (dk_at dksX10_many_2 12 rfl rfl)
theorem dX10_many_63 : decode cX10_many 63 = .ok (.iconst 0, 1) := dk_3 (dk_at dksX10_many_2 15 rfl rfl)
theorem dX10_many_64 : decode cX10_many 64 = .ok (.iadd, 1) := dk_96 (dk_at dksX10_many_2 16 rfl rfl)
theorem dX10_many_65 : decode cX10_many 65 = .ok (.istore_n 3, 1) := dk_62 (dk_at dksX10_many_2 17 rfl rfl)
theorem dX10_many_66 : decode cX10_many 66 = .ok (.iinc 5 1, 3) := dk_132 5 1 (dk_at dksX10_many_2 18 rfl rfl)
theorem dX10_many_69 : decode cX10_many 69 = .ok (.goto (-58), 3) := dk_167 255 198 (dk_at dksX10_many_2 21 rfl rfl)
theorem dX10_many_72 : decode cX10_many 72 = .ok (.iload_n 3, 1) := dk_29 (dk_at dksX10_many_3 0 rfl rfl)
theorem dX10_many_73 : decode cX10_many 73 = .ok (.ireturn, 1) := dk_172 (dk_at dksX10_many_3 1 rfl rfl)
abbrev cX10_verdictOf : ByteArray := prog_17_method_25_code
def yX10_verdictOf : MethodName := ⟨RX10, "verdictOf", "(I)I"⟩
def dkwX10_verdictOf_1 : List UInt8 := [42, 28, 28, 184, 0, 89, 182, 0, 92, 2, 160, 0, 7, 3, 167, 0, 4, 6, 172]
abbrev dktX10_verdictOf_1 : List UInt8 := dkwX10_verdictOf_1 ++ []
def dkwX10_verdictOf_0 : List UInt8 := [42, 27, 182, 0, 86, 61, 27, 153, 0, 7, 28, 154, 0, 13, 27, 154, 0, 7, 4, 167, 0, 4, 5, 172]
abbrev dktX10_verdictOf_0 : List UInt8 := dkwX10_verdictOf_0 ++ dktX10_verdictOf_1
theorem dksX10_verdictOf_0 : cX10_verdictOf.data.toList.drop 0 = dktX10_verdictOf_0 := by decide +kernel
theorem dksX10_verdictOf_1 : cX10_verdictOf.data.toList.drop 24 = dktX10_verdictOf_1 := dk_seg dksX10_verdictOf_0 24 rfl rfl
theorem dX10_verdictOf_0 : decode cX10_verdictOf 0 = .ok (.aload_n 0, 1) := dk_42 (dk_at dksX10_verdictOf_0 0 rfl rfl)
theorem dX10_verdictOf_1 : decode cX10_verdictOf 1 = .ok (.iload_n 1, 1) := dk_27 (dk_at dksX10_verdictOf_0 1 rfl rfl)
theorem dX10_verdictOf_2 : decode cX10_verdictOf 2 = .ok (.invokevirtual 86, 3) := dk_182 0 86 (dk_at dksX10_verdictOf_0 2 rfl rfl)
theorem dX10_verdictOf_5 : decode cX10_verdictOf 5 = .ok (.istore_n 2, 1) := dk_61 (dk_at dksX10_verdictOf_0 5 rfl rfl)
theorem dX10_verdictOf_6 : decode cX10_verdictOf 6 = .ok (.iload_n 1, 1) := dk_27 (dk_at dksX10_verdictOf_0 6 rfl rfl)
theorem dX10_verdictOf_7 : decode cX10_verdictOf 7 = .ok (.ifCond .eq 7, 3) := dk_153 0 7 (dk_at dksX10_verdictOf_0 7 rfl rfl)
theorem dX10_verdictOf_10 : decode cX10_verdictOf 10 = .ok (.iload_n 2, 1) := dk_28 (dk_at dksX10_verdictOf_0 10 rfl rfl)
theorem dX10_verdictOf_11 : decode cX10_verdictOf 11 = .ok (.ifCond .ne 13, 3) := dk_154 0 13 (dk_at dksX10_verdictOf_0 11 rfl rfl)
theorem dX10_verdictOf_14 : decode cX10_verdictOf 14 = .ok (.iload_n 1, 1) := dk_27 (dk_at dksX10_verdictOf_0 14 rfl rfl)
theorem dX10_verdictOf_15 : decode cX10_verdictOf 15 = .ok (.ifCond .ne 7, 3) := dk_154 0 7 (dk_at dksX10_verdictOf_0 15 rfl rfl)
theorem dX10_verdictOf_18 : decode cX10_verdictOf 18 = .ok (.iconst 1, 1) := dk_4 (dk_at dksX10_verdictOf_0 18 rfl rfl)
theorem dX10_verdictOf_19 : decode cX10_verdictOf 19 = .ok (.goto 4, 3) := dk_167 0 4 (dk_at dksX10_verdictOf_0 19 rfl rfl)
theorem dX10_verdictOf_22 : decode cX10_verdictOf 22 = .ok (.iconst 2, 1) := dk_5 (dk_at dksX10_verdictOf_0 22 rfl rfl)
theorem dX10_verdictOf_23 : decode cX10_verdictOf 23 = .ok (.ireturn, 1) := dk_172 (dk_at dksX10_verdictOf_0 23 rfl rfl)
theorem dX10_verdictOf_24 : decode cX10_verdictOf 24 = .ok (.aload_n 0, 1) := dk_42 (dk_at dksX10_verdictOf_1 0 rfl rfl)
theorem dX10_verdictOf_25 : decode cX10_verdictOf 25 = .ok (.iload_n 2, 1) := dk_28 (dk_at dksX10_verdictOf_1 1 rfl rfl)
theorem dX10_verdictOf_26 : decode cX10_verdictOf 26 = .ok (.iload_n 2, 1) := dk_28 (dk_at dksX10_verdictOf_1 2 rfl rfl)
theorem dX10_verdictOf_27 : decode cX10_verdictOf 27 = .ok (.invokestatic 89, 3) := dk_184 0 89 (dk_at dksX10_verdictOf_1 3 rfl rfl)
theorem dX10_verdictOf_30 : decode cX10_verdictOf 30 = .ok (.invokevirtual 92, 3) := dk_182 0 92 (dk_at dksX10_verdictOf_1 6 rfl rfl)
theorem dX10_verdictOf_33 : decode cX10_verdictOf 33 = .ok (.iconst (-1), 1) := dk_2 (dk_at dksX10_verdictOf_1 9 rfl rfl)
theorem dX10_verdictOf_34 : decode cX10_verdictOf 34 = .ok (.if_icmp .ne 7, 3) := dk_160 0 7 (dk_at dksX10_verdictOf_1 10 rfl rfl)
theorem dX10_verdictOf_37 : decode cX10_verdictOf 37 = .ok (.iconst 0, 1) := dk_3 (dk_at dksX10_verdictOf_1 13 rfl rfl)
theorem dX10_verdictOf_38 : decode cX10_verdictOf 38 = .ok (.goto 4, 3) := dk_167 0 4 (dk_at dksX10_verdictOf_1 14 rfl rfl)
theorem dX10_verdictOf_41 : decode cX10_verdictOf 41 = .ok (.iconst 3, 1) := dk_6 (dk_at dksX10_verdictOf_1 17 rfl rfl)
theorem dX10_verdictOf_42 : decode cX10_verdictOf 42 = .ok (.ireturn, 1) := dk_172 (dk_at dksX10_verdictOf_1 18 rfl rfl)
abbrev cX10_unbeaten : ByteArray := prog_17_method_22_code
def yX10_unbeaten : MethodName := ⟨RX10, "unbeaten", "(I)I"⟩
def dkwX10_unbeaten_2 : List UInt8 := [172]
abbrev dktX10_unbeaten_2 : List UInt8 := dkwX10_unbeaten_2 ++ []
def dkwX10_unbeaten_1 : List UInt8 := [42, 29, 16, 33, 182, 0, 69, 167, 0, 4, 3, 128, 61, 132, 3, 1, 167, 255, 220, 27, 28, 2, 130, 126]
abbrev dktX10_unbeaten_1 : List UInt8 := dkwX10_unbeaten_1 ++ dktX10_unbeaten_2
def dkwX10_unbeaten_0 : List UInt8 := [3, 61, 3, 62, 29, 42, 180, 0, 7, 16, 17, 46, 162, 0, 31, 28, 27, 29, 184, 0, 49, 153, 0, 13]
abbrev dktX10_unbeaten_0 : List UInt8 := dkwX10_unbeaten_0 ++ dktX10_unbeaten_1
theorem dksX10_unbeaten_0 : cX10_unbeaten.data.toList.drop 0 = dktX10_unbeaten_0 := by decide +kernel
theorem dksX10_unbeaten_1 : cX10_unbeaten.data.toList.drop 24 = dktX10_unbeaten_1 := dk_seg dksX10_unbeaten_0 24 rfl rfl
theorem dksX10_unbeaten_2 : cX10_unbeaten.data.toList.drop 48 = dktX10_unbeaten_2 := dk_seg dksX10_unbeaten_1 24 rfl rfl
theorem dX10_unbeaten_0 : decode cX10_unbeaten 0 = .ok (.iconst 0, 1) := dk_3 (dk_at dksX10_unbeaten_0 0 rfl rfl)
theorem dX10_unbeaten_1 : decode cX10_unbeaten 1 = .ok (.istore_n 2, 1) := dk_61 (dk_at dksX10_unbeaten_0 1 rfl rfl)
theorem dX10_unbeaten_2 : decode cX10_unbeaten 2 = .ok (.iconst 0, 1) := dk_3 (dk_at dksX10_unbeaten_0 2 rfl rfl)
theorem dX10_unbeaten_3 : decode cX10_unbeaten 3 = .ok (.istore_n 3, 1) := dk_62 (dk_at dksX10_unbeaten_0 3 rfl rfl)
theorem dX10_unbeaten_4 : decode cX10_unbeaten 4 = .ok (.iload_n 3, 1) := dk_29 (dk_at dksX10_unbeaten_0 4 rfl rfl)
theorem dX10_unbeaten_5 : decode cX10_unbeaten 5 = .ok (.aload_n 0, 1) := dk_42 (dk_at dksX10_unbeaten_0 5 rfl rfl)
theorem dX10_unbeaten_6 : decode cX10_unbeaten 6 = .ok (.getfield 7, 3) := dk_180 0 7 (dk_at dksX10_unbeaten_0 6 rfl rfl)
theorem dX10_unbeaten_9 : decode cX10_unbeaten 9 = .ok (.bipush 17, 2) := dk_16 17 (dk_at dksX10_unbeaten_0 9 rfl rfl)
theorem dX10_unbeaten_11 : decode cX10_unbeaten 11 = .ok (.iaload, 1) := dk_46 (dk_at dksX10_unbeaten_0 11 rfl rfl)
theorem dX10_unbeaten_12 : decode cX10_unbeaten 12 = .ok (.if_icmp .ge 31, 3) := dk_162 0 31 (dk_at dksX10_unbeaten_0 12 rfl rfl)
theorem dX10_unbeaten_15 : decode cX10_unbeaten 15 = .ok (.iload_n 2, 1) := dk_28 (dk_at dksX10_unbeaten_0 15 rfl rfl)
theorem dX10_unbeaten_16 : decode cX10_unbeaten 16 = .ok (.iload_n 1, 1) := dk_27 (dk_at dksX10_unbeaten_0 16 rfl rfl)
theorem dX10_unbeaten_17 : decode cX10_unbeaten 17 = .ok (.iload_n 3, 1) := dk_29 (dk_at dksX10_unbeaten_0 17 rfl rfl)
theorem dX10_unbeaten_18 : decode cX10_unbeaten 18 = .ok (.invokestatic 49, 3) := dk_184 0 49 (dk_at dksX10_unbeaten_0 18 rfl rfl)
theorem dX10_unbeaten_21 : decode cX10_unbeaten 21 = .ok (.ifCond .eq 13, 3) := dk_153 0 13 (dk_at dksX10_unbeaten_0 21 rfl rfl)
theorem dX10_unbeaten_24 : decode cX10_unbeaten 24 = .ok (.aload_n 0, 1) := dk_42 (dk_at dksX10_unbeaten_1 0 rfl rfl)
theorem dX10_unbeaten_25 : decode cX10_unbeaten 25 = .ok (.iload_n 3, 1) := dk_29 (dk_at dksX10_unbeaten_1 1 rfl rfl)
theorem dX10_unbeaten_26 : decode cX10_unbeaten 26 = .ok (.bipush 33, 2) := dk_16 33 (dk_at dksX10_unbeaten_1 2 rfl rfl)
theorem dX10_unbeaten_28 : decode cX10_unbeaten 28 = .ok (.invokevirtual 69, 3) := dk_182 0 69 (dk_at dksX10_unbeaten_1 4 rfl rfl)
theorem dX10_unbeaten_31 : decode cX10_unbeaten 31 = .ok (.goto 4, 3) := dk_167 0 4 (dk_at dksX10_unbeaten_1 7 rfl rfl)
theorem dX10_unbeaten_34 : decode cX10_unbeaten 34 = .ok (.iconst 0, 1) := dk_3 (dk_at dksX10_unbeaten_1 10 rfl rfl)
theorem dX10_unbeaten_35 : decode cX10_unbeaten 35 = .ok (.ior, 1) := dk_128 (dk_at dksX10_unbeaten_1 11 rfl rfl)
theorem dX10_unbeaten_36 : decode cX10_unbeaten 36 = .ok (.istore_n 2, 1) := dk_61 (dk_at dksX10_unbeaten_1 12 rfl rfl)
theorem dX10_unbeaten_37 : decode cX10_unbeaten 37 = .ok (.iinc 3 1, 3) := dk_132 3 1 (dk_at dksX10_unbeaten_1 13 rfl rfl)
theorem dX10_unbeaten_40 : decode cX10_unbeaten 40 = .ok (.goto (-36), 3) := dk_167 255 220 (dk_at dksX10_unbeaten_1 16 rfl rfl)
theorem dX10_unbeaten_43 : decode cX10_unbeaten 43 = .ok (.iload_n 1, 1) := dk_27 (dk_at dksX10_unbeaten_1 19 rfl rfl)
theorem dX10_unbeaten_44 : decode cX10_unbeaten 44 = .ok (.iload_n 2, 1) := dk_28 (dk_at dksX10_unbeaten_1 20 rfl rfl)
theorem dX10_unbeaten_45 : decode cX10_unbeaten 45 = .ok (.iconst (-1), 1) := dk_2 (dk_at dksX10_unbeaten_1 21 rfl rfl)
theorem dX10_unbeaten_46 : decode cX10_unbeaten 46 = .ok (.ixor, 1) := dk_130 (dk_at dksX10_unbeaten_1 22 rfl rfl)
theorem dX10_unbeaten_47 : decode cX10_unbeaten 47 = .ok (.iand, 1) := dk_126 (dk_at dksX10_unbeaten_1 23 rfl rfl)
theorem dX10_unbeaten_48 : decode cX10_unbeaten 48 = .ok (.ireturn, 1) := dk_172 (dk_at dksX10_unbeaten_2 0 rfl rfl)
abbrev cX10_least : ByteArray := prog_17_method_9_code
def yX10_least : MethodName := ⟨RX10, "least", "(I)I"⟩
def dkwX10_least_1 : List UInt8 := [2, 172]
abbrev dktX10_least_1 : List UInt8 := dkwX10_least_1 ++ []
def dkwX10_least_0 : List UInt8 := [3, 60, 27, 16, 31, 162, 0, 19, 26, 27, 184, 0, 49, 153, 0, 5, 27, 172, 132, 1, 1, 167, 255, 237]
abbrev dktX10_least_0 : List UInt8 := dkwX10_least_0 ++ dktX10_least_1
theorem dksX10_least_0 : cX10_least.data.toList.drop 0 = dktX10_least_0 := by decide +kernel
theorem dksX10_least_1 : cX10_least.data.toList.drop 24 = dktX10_least_1 := dk_seg dksX10_least_0 24 rfl rfl
theorem dX10_least_0 : decode cX10_least 0 = .ok (.iconst 0, 1) := dk_3 (dk_at dksX10_least_0 0 rfl rfl)
theorem dX10_least_1 : decode cX10_least 1 = .ok (.istore_n 1, 1) := dk_60 (dk_at dksX10_least_0 1 rfl rfl)
theorem dX10_least_2 : decode cX10_least 2 = .ok (.iload_n 1, 1) := dk_27 (dk_at dksX10_least_0 2 rfl rfl)
theorem dX10_least_3 : decode cX10_least 3 = .ok (.bipush 31, 2) := dk_16 31 (dk_at dksX10_least_0 3 rfl rfl)
theorem dX10_least_5 : decode cX10_least 5 = .ok (.if_icmp .ge 19, 3) := dk_162 0 19 (dk_at dksX10_least_0 5 rfl rfl)
theorem dX10_least_8 : decode cX10_least 8 = .ok (.iload_n 0, 1) := dk_26 (dk_at dksX10_least_0 8 rfl rfl)
theorem dX10_least_9 : decode cX10_least 9 = .ok (.iload_n 1, 1) := dk_27 (dk_at dksX10_least_0 9 rfl rfl)
theorem dX10_least_10 : decode cX10_least 10 = .ok (.invokestatic 49, 3) := dk_184 0 49 (dk_at dksX10_least_0 10 rfl rfl)
theorem dX10_least_13 : decode cX10_least 13 = .ok (.ifCond .eq 5, 3) := dk_153 0 5 (dk_at dksX10_least_0 13 rfl rfl)
theorem dX10_least_16 : decode cX10_least 16 = .ok (.iload_n 1, 1) := dk_27 (dk_at dksX10_least_0 16 rfl rfl)
theorem dX10_least_17 : decode cX10_least 17 = .ok (.ireturn, 1) := dk_172 (dk_at dksX10_least_0 17 rfl rfl)
theorem dX10_least_18 : decode cX10_least 18 = .ok (.iinc 1 1, 3) := dk_132 1 1 (dk_at dksX10_least_0 18 rfl rfl)
theorem dX10_least_21 : decode cX10_least 21 = .ok (.goto (-19), 3) := dk_167 255 237 (dk_at dksX10_least_0 21 rfl rfl)
theorem dX10_least_24 : decode cX10_least 24 = .ok (.iconst (-1), 1) := dk_2 (dk_at dksX10_least_1 0 rfl rfl)
theorem dX10_least_25 : decode cX10_least 25 = .ok (.ireturn, 1) := dk_172 (dk_at dksX10_least_1 1 rfl rfl)
abbrev cX10_other : ByteArray := prog_17_method_24_code
def yX10_other : MethodName := ⟨RX10, "other", "(II)I"⟩
def dkwX10_other_1 : List UInt8 := [182, 0, 83, 154, 0, 5, 29, 172, 132, 3, 1, 167, 255, 223, 2, 172]
abbrev dktX10_other_1 : List UInt8 := dkwX10_other_1 ++ []
def dkwX10_other_0 : List UInt8 := [3, 62, 29, 42, 180, 0, 7, 16, 17, 46, 162, 0, 28, 27, 29, 184, 0, 49, 153, 0, 14, 42, 29, 28]
abbrev dktX10_other_0 : List UInt8 := dkwX10_other_0 ++ dktX10_other_1
theorem dksX10_other_0 : cX10_other.data.toList.drop 0 = dktX10_other_0 := by decide +kernel
theorem dksX10_other_1 : cX10_other.data.toList.drop 24 = dktX10_other_1 := dk_seg dksX10_other_0 24 rfl rfl
theorem dX10_other_0 : decode cX10_other 0 = .ok (.iconst 0, 1) := dk_3 (dk_at dksX10_other_0 0 rfl rfl)
theorem dX10_other_1 : decode cX10_other 1 = .ok (.istore_n 3, 1) := dk_62 (dk_at dksX10_other_0 1 rfl rfl)
theorem dX10_other_2 : decode cX10_other 2 = .ok (.iload_n 3, 1) := dk_29 (dk_at dksX10_other_0 2 rfl rfl)
theorem dX10_other_3 : decode cX10_other 3 = .ok (.aload_n 0, 1) := dk_42 (dk_at dksX10_other_0 3 rfl rfl)
theorem dX10_other_4 : decode cX10_other 4 = .ok (.getfield 7, 3) := dk_180 0 7 (dk_at dksX10_other_0 4 rfl rfl)
theorem dX10_other_7 : decode cX10_other 7 = .ok (.bipush 17, 2) := dk_16 17 (dk_at dksX10_other_0 7 rfl rfl)
theorem dX10_other_9 : decode cX10_other 9 = .ok (.iaload, 1) := dk_46 (dk_at dksX10_other_0 9 rfl rfl)
theorem dX10_other_10 : decode cX10_other 10 = .ok (.if_icmp .ge 28, 3) := dk_162 0 28 (dk_at dksX10_other_0 10 rfl rfl)
theorem dX10_other_13 : decode cX10_other 13 = .ok (.iload_n 1, 1) := dk_27 (dk_at dksX10_other_0 13 rfl rfl)
theorem dX10_other_14 : decode cX10_other 14 = .ok (.iload_n 3, 1) := dk_29 (dk_at dksX10_other_0 14 rfl rfl)
theorem dX10_other_15 : decode cX10_other 15 = .ok (.invokestatic 49, 3) := dk_184 0 49 (dk_at dksX10_other_0 15 rfl rfl)
theorem dX10_other_18 : decode cX10_other 18 = .ok (.ifCond .eq 14, 3) := dk_153 0 14 (dk_at dksX10_other_0 18 rfl rfl)
theorem dX10_other_21 : decode cX10_other 21 = .ok (.aload_n 0, 1) := dk_42 (dk_at dksX10_other_0 21 rfl rfl)
theorem dX10_other_22 : decode cX10_other 22 = .ok (.iload_n 3, 1) := dk_29 (dk_at dksX10_other_0 22 rfl rfl)
theorem dX10_other_23 : decode cX10_other 23 = .ok (.iload_n 2, 1) := dk_28 (dk_at dksX10_other_0 23 rfl rfl)
theorem dX10_other_24 : decode cX10_other 24 = .ok (.invokevirtual 83, 3) := dk_182 0 83 (dk_at dksX10_other_1 0 rfl rfl)
theorem dX10_other_27 : decode cX10_other 27 = .ok (.ifCond .ne 5, 3) := dk_154 0 5 (dk_at dksX10_other_1 3 rfl rfl)
theorem dX10_other_30 : decode cX10_other 30 = .ok (.iload_n 3, 1) := dk_29 (dk_at dksX10_other_1 6 rfl rfl)
theorem dX10_other_31 : decode cX10_other 31 = .ok (.ireturn, 1) := dk_172 (dk_at dksX10_other_1 7 rfl rfl)
theorem dX10_other_32 : decode cX10_other 32 = .ok (.iinc 3 1, 3) := dk_132 3 1 (dk_at dksX10_other_1 8 rfl rfl)
theorem dX10_other_35 : decode cX10_other 35 = .ok (.goto (-33), 3) := dk_167 255 223 (dk_at dksX10_other_1 11 rfl rfl)
theorem dX10_other_38 : decode cX10_other 38 = .ok (.iconst (-1), 1) := dk_2 (dk_at dksX10_other_1 14 rfl rfl)
theorem dX10_other_39 : decode cX10_other 39 = .ok (.ireturn, 1) := dk_172 (dk_at dksX10_other_1 15 rfl rfl)
abbrev cX10_isSame : ByteArray := prog_17_method_23_code
def yX10_isSame : MethodName := ⟨RX10, "isSame", "(II)Z"⟩
def dkwX10_isSame_2 : List UInt8 := [132, 4, 1, 167, 255, 214, 29, 172]
abbrev dktX10_isSame_2 : List UInt8 := dkwX10_isSame_2 ++ []
def dkwX10_isSame_1 : List UInt8 := [182, 0, 69, 42, 28, 16, 29, 21, 4, 96, 182, 0, 69, 160, 0, 7, 4, 167, 0, 4, 3, 62]
abbrev dktX10_isSame_1 : List UInt8 := dkwX10_isSame_1 ++ dktX10_isSame_2
def dkwX10_isSame_0 : List UInt8 := [4, 62, 3, 54, 4, 21, 4, 7, 162, 0, 42, 29, 153, 0, 30, 42, 27, 16, 29, 21, 4, 96]
abbrev dktX10_isSame_0 : List UInt8 := dkwX10_isSame_0 ++ dktX10_isSame_1
theorem dksX10_isSame_0 : cX10_isSame.data.toList.drop 0 = dktX10_isSame_0 := by decide +kernel
theorem dksX10_isSame_1 : cX10_isSame.data.toList.drop 22 = dktX10_isSame_1 := dk_seg dksX10_isSame_0 22 rfl rfl
theorem dksX10_isSame_2 : cX10_isSame.data.toList.drop 44 = dktX10_isSame_2 := dk_seg dksX10_isSame_1 22 rfl rfl
theorem dX10_isSame_0 : decode cX10_isSame 0 = .ok (.iconst 1, 1) := dk_4 (dk_at dksX10_isSame_0 0 rfl rfl)
theorem dX10_isSame_1 : decode cX10_isSame 1 = .ok (.istore_n 3, 1) := dk_62 (dk_at dksX10_isSame_0 1 rfl rfl)
theorem dX10_isSame_2 : decode cX10_isSame 2 = .ok (.iconst 0, 1) := dk_3 (dk_at dksX10_isSame_0 2 rfl rfl)
theorem dX10_isSame_3 : decode cX10_isSame 3 = .ok (.istore 4, 2) := dk_54 4 (dk_at dksX10_isSame_0 3 rfl rfl)
theorem dX10_isSame_5 : decode cX10_isSame 5 = .ok (.iload 4, 2) := dk_21 4 (dk_at dksX10_isSame_0 5 rfl rfl)
theorem dX10_isSame_7 : decode cX10_isSame 7 = .ok (.iconst 4, 1) := dk_7 (dk_at dksX10_isSame_0 7 rfl rfl)
theorem dX10_isSame_8 : decode cX10_isSame 8 = .ok (.if_icmp .ge 42, 3) := dk_162 0 42 (dk_at dksX10_isSame_0 8 rfl rfl)
theorem dX10_isSame_11 : decode cX10_isSame 11 = .ok (.iload_n 3, 1) := dk_29 (dk_at dksX10_isSame_0 11 rfl rfl)
theorem dX10_isSame_12 : decode cX10_isSame 12 = .ok (.ifCond .eq 30, 3) := dk_153 0 30 (dk_at dksX10_isSame_0 12 rfl rfl)
theorem dX10_isSame_15 : decode cX10_isSame 15 = .ok (.aload_n 0, 1) := dk_42 (dk_at dksX10_isSame_0 15 rfl rfl)
theorem dX10_isSame_16 : decode cX10_isSame 16 = .ok (.iload_n 1, 1) := dk_27 (dk_at dksX10_isSame_0 16 rfl rfl)
theorem dX10_isSame_17 : decode cX10_isSame 17 = .ok (.bipush 29, 2) := dk_16 29 (dk_at dksX10_isSame_0 17 rfl rfl)
theorem dX10_isSame_19 : decode cX10_isSame 19 = .ok (.iload 4, 2) := dk_21 4 (dk_at dksX10_isSame_0 19 rfl rfl)
theorem dX10_isSame_21 : decode cX10_isSame 21 = .ok (.iadd, 1) := dk_96 (dk_at dksX10_isSame_0 21 rfl rfl)
theorem dX10_isSame_22 : decode cX10_isSame 22 = .ok (.invokevirtual 69, 3) := dk_182 0 69 (dk_at dksX10_isSame_1 0 rfl rfl)
theorem dX10_isSame_25 : decode cX10_isSame 25 = .ok (.aload_n 0, 1) := dk_42 (dk_at dksX10_isSame_1 3 rfl rfl)
theorem dX10_isSame_26 : decode cX10_isSame 26 = .ok (.iload_n 2, 1) := dk_28 (dk_at dksX10_isSame_1 4 rfl rfl)
theorem dX10_isSame_27 : decode cX10_isSame 27 = .ok (.bipush 29, 2) := dk_16 29 (dk_at dksX10_isSame_1 5 rfl rfl)
theorem dX10_isSame_29 : decode cX10_isSame 29 = .ok (.iload 4, 2) := dk_21 4 (dk_at dksX10_isSame_1 7 rfl rfl)
theorem dX10_isSame_31 : decode cX10_isSame 31 = .ok (.iadd, 1) := dk_96 (dk_at dksX10_isSame_1 9 rfl rfl)
theorem dX10_isSame_32 : decode cX10_isSame 32 = .ok (.invokevirtual 69, 3) := dk_182 0 69 (dk_at dksX10_isSame_1 10 rfl rfl)
theorem dX10_isSame_35 : decode cX10_isSame 35 = .ok (.if_icmp .ne 7, 3) := dk_160 0 7 (dk_at dksX10_isSame_1 13 rfl rfl)
theorem dX10_isSame_38 : decode cX10_isSame 38 = .ok (.iconst 1, 1) := dk_4 (dk_at dksX10_isSame_1 16 rfl rfl)
theorem dX10_isSame_39 : decode cX10_isSame 39 = .ok (.goto 4, 3) := dk_167 0 4 (dk_at dksX10_isSame_1 17 rfl rfl)
theorem dX10_isSame_42 : decode cX10_isSame 42 = .ok (.iconst 0, 1) := dk_3 (dk_at dksX10_isSame_1 20 rfl rfl)
theorem dX10_isSame_43 : decode cX10_isSame 43 = .ok (.istore_n 3, 1) := dk_62 (dk_at dksX10_isSame_1 21 rfl rfl)
theorem dX10_isSame_44 : decode cX10_isSame 44 = .ok (.iinc 4 1, 3) := dk_132 4 1 (dk_at dksX10_isSame_2 0 rfl rfl)
theorem dX10_isSame_47 : decode cX10_isSame 47 = .ok (.goto (-42), 3) := dk_167 255 214 (dk_at dksX10_isSame_2 3 rfl rfl)
theorem dX10_isSame_50 : decode cX10_isSame 50 = .ok (.iload_n 3, 1) := dk_29 (dk_at dksX10_isSame_2 6 rfl rfl)
theorem dX10_isSame_51 : decode cX10_isSame 51 = .ok (.ireturn, 1) := dk_172 (dk_at dksX10_isSame_2 7 rfl rfl)
abbrev cX10_values : ByteArray := prog_17_method_67_code
def yX10_values : MethodName := ⟨RX10, "values", "(I)I"⟩
def dkwX10_values_1 : List UInt8 := [42, 180, 0, 7, 4, 27, 96, 46, 172]
abbrev dktX10_values_1 : List UInt8 := dkwX10_values_1 ++ []
def dkwX10_values_0 : List UInt8 := [42, 42, 27, 182, 0, 176, 154, 0, 7, 4, 167, 0, 4, 3, 182, 1, 24, 153, 0, 7, 3, 167, 0, 11]
abbrev dktX10_values_0 : List UInt8 := dkwX10_values_0 ++ dktX10_values_1
theorem dksX10_values_0 : cX10_values.data.toList.drop 0 = dktX10_values_0 := by decide +kernel
theorem dksX10_values_1 : cX10_values.data.toList.drop 24 = dktX10_values_1 := dk_seg dksX10_values_0 24 rfl rfl
theorem dX10_values_0 : decode cX10_values 0 = .ok (.aload_n 0, 1) := dk_42 (dk_at dksX10_values_0 0 rfl rfl)
theorem dX10_values_1 : decode cX10_values 1 = .ok (.aload_n 0, 1) := dk_42 (dk_at dksX10_values_0 1 rfl rfl)
theorem dX10_values_2 : decode cX10_values 2 = .ok (.iload_n 1, 1) := dk_27 (dk_at dksX10_values_0 2 rfl rfl)
theorem dX10_values_3 : decode cX10_values 3 = .ok (.invokevirtual 176, 3) := dk_182 0 176 (dk_at dksX10_values_0 3 rfl rfl)
theorem dX10_values_6 : decode cX10_values 6 = .ok (.ifCond .ne 7, 3) := dk_154 0 7 (dk_at dksX10_values_0 6 rfl rfl)
theorem dX10_values_9 : decode cX10_values 9 = .ok (.iconst 1, 1) := dk_4 (dk_at dksX10_values_0 9 rfl rfl)
theorem dX10_values_10 : decode cX10_values 10 = .ok (.goto 4, 3) := dk_167 0 4 (dk_at dksX10_values_0 10 rfl rfl)
theorem dX10_values_13 : decode cX10_values 13 = .ok (.iconst 0, 1) := dk_3 (dk_at dksX10_values_0 13 rfl rfl)
theorem dX10_values_14 : decode cX10_values 14 = .ok (.invokevirtual 280, 3) := dk_182 1 24 (dk_at dksX10_values_0 14 rfl rfl)
theorem dX10_values_17 : decode cX10_values 17 = .ok (.ifCond .eq 7, 3) := dk_153 0 7 (dk_at dksX10_values_0 17 rfl rfl)
theorem dX10_values_20 : decode cX10_values 20 = .ok (.iconst 0, 1) := dk_3 (dk_at dksX10_values_0 20 rfl rfl)
theorem dX10_values_21 : decode cX10_values 21 = .ok (.goto 11, 3) := dk_167 0 11 (dk_at dksX10_values_0 21 rfl rfl)
theorem dX10_values_24 : decode cX10_values 24 = .ok (.aload_n 0, 1) := dk_42 (dk_at dksX10_values_1 0 rfl rfl)
theorem dX10_values_25 : decode cX10_values 25 = .ok (.getfield 7, 3) := dk_180 0 7 (dk_at dksX10_values_1 1 rfl rfl)
theorem dX10_values_28 : decode cX10_values 28 = .ok (.iconst 1, 1) := dk_4 (dk_at dksX10_values_1 4 rfl rfl)
theorem dX10_values_29 : decode cX10_values 29 = .ok (.iload_n 1, 1) := dk_27 (dk_at dksX10_values_1 5 rfl rfl)
theorem dX10_values_30 : decode cX10_values 30 = .ok (.iadd, 1) := dk_96 (dk_at dksX10_values_1 6 rfl rfl)
theorem dX10_values_31 : decode cX10_values 31 = .ok (.iaload, 1) := dk_46 (dk_at dksX10_values_1 7 rfl rfl)
theorem dX10_values_32 : decode cX10_values 32 = .ok (.ireturn, 1) := dk_172 (dk_at dksX10_values_1 8 rfl rfl)
abbrev cX10_valueIn : ByteArray := prog_17_method_68_code
def yX10_valueIn : MethodName := ⟨RX10, "valueIn", "(II)I"⟩
def dkwX10_valueIn_1 : List UInt8 := [167, 0, 4, 3, 182, 1, 43, 153, 0, 7, 3, 167, 0, 9, 42, 27, 28, 182, 0, 65, 172]
abbrev dktX10_valueIn_1 : List UInt8 := dkwX10_valueIn_1 ++ []
def dkwX10_valueIn_0 : List UInt8 := [42, 42, 27, 182, 1, 40, 154, 0, 7, 4, 167, 0, 4, 3, 42, 28, 182, 0, 176, 154, 0, 7, 4]
abbrev dktX10_valueIn_0 : List UInt8 := dkwX10_valueIn_0 ++ dktX10_valueIn_1
theorem dksX10_valueIn_0 : cX10_valueIn.data.toList.drop 0 = dktX10_valueIn_0 := by decide +kernel
theorem dksX10_valueIn_1 : cX10_valueIn.data.toList.drop 23 = dktX10_valueIn_1 := dk_seg dksX10_valueIn_0 23 rfl rfl
theorem dX10_valueIn_0 : decode cX10_valueIn 0 = .ok (.aload_n 0, 1) := dk_42 (dk_at dksX10_valueIn_0 0 rfl rfl)
theorem dX10_valueIn_1 : decode cX10_valueIn 1 = .ok (.aload_n 0, 1) := dk_42 (dk_at dksX10_valueIn_0 1 rfl rfl)
theorem dX10_valueIn_2 : decode cX10_valueIn 2 = .ok (.iload_n 1, 1) := dk_27 (dk_at dksX10_valueIn_0 2 rfl rfl)
theorem dX10_valueIn_3 : decode cX10_valueIn 3 = .ok (.invokevirtual 296, 3) := dk_182 1 40 (dk_at dksX10_valueIn_0 3 rfl rfl)
theorem dX10_valueIn_6 : decode cX10_valueIn 6 = .ok (.ifCond .ne 7, 3) := dk_154 0 7 (dk_at dksX10_valueIn_0 6 rfl rfl)
theorem dX10_valueIn_9 : decode cX10_valueIn 9 = .ok (.iconst 1, 1) := dk_4 (dk_at dksX10_valueIn_0 9 rfl rfl)
theorem dX10_valueIn_10 : decode cX10_valueIn 10 = .ok (.goto 4, 3) := dk_167 0 4 (dk_at dksX10_valueIn_0 10 rfl rfl)
theorem dX10_valueIn_13 : decode cX10_valueIn 13 = .ok (.iconst 0, 1) := dk_3 (dk_at dksX10_valueIn_0 13 rfl rfl)
theorem dX10_valueIn_14 : decode cX10_valueIn 14 = .ok (.aload_n 0, 1) := dk_42 (dk_at dksX10_valueIn_0 14 rfl rfl)
theorem dX10_valueIn_15 : decode cX10_valueIn 15 = .ok (.iload_n 2, 1) := dk_28 (dk_at dksX10_valueIn_0 15 rfl rfl)
theorem dX10_valueIn_16 : decode cX10_valueIn 16 = .ok (.invokevirtual 176, 3) := dk_182 0 176 (dk_at dksX10_valueIn_0 16 rfl rfl)
theorem dX10_valueIn_19 : decode cX10_valueIn 19 = .ok (.ifCond .ne 7, 3) := dk_154 0 7 (dk_at dksX10_valueIn_0 19 rfl rfl)
theorem dX10_valueIn_22 : decode cX10_valueIn 22 = .ok (.iconst 1, 1) := dk_4 (dk_at dksX10_valueIn_0 22 rfl rfl)
theorem dX10_valueIn_23 : decode cX10_valueIn 23 = .ok (.goto 4, 3) := dk_167 0 4 (dk_at dksX10_valueIn_1 0 rfl rfl)
theorem dX10_valueIn_26 : decode cX10_valueIn 26 = .ok (.iconst 0, 1) := dk_3 (dk_at dksX10_valueIn_1 3 rfl rfl)
theorem dX10_valueIn_27 : decode cX10_valueIn 27 = .ok (.invokevirtual 299, 3) := dk_182 1 43 (dk_at dksX10_valueIn_1 4 rfl rfl)
theorem dX10_valueIn_30 : decode cX10_valueIn 30 = .ok (.ifCond .eq 7, 3) := dk_153 0 7 (dk_at dksX10_valueIn_1 7 rfl rfl)
theorem dX10_valueIn_33 : decode cX10_valueIn 33 = .ok (.iconst 0, 1) := dk_3 (dk_at dksX10_valueIn_1 10 rfl rfl)
theorem dX10_valueIn_34 : decode cX10_valueIn 34 = .ok (.goto 9, 3) := dk_167 0 9 (dk_at dksX10_valueIn_1 11 rfl rfl)
theorem dX10_valueIn_37 : decode cX10_valueIn 37 = .ok (.aload_n 0, 1) := dk_42 (dk_at dksX10_valueIn_1 14 rfl rfl)
theorem dX10_valueIn_38 : decode cX10_valueIn 38 = .ok (.iload_n 1, 1) := dk_27 (dk_at dksX10_valueIn_1 15 rfl rfl)
theorem dX10_valueIn_39 : decode cX10_valueIn 39 = .ok (.iload_n 2, 1) := dk_28 (dk_at dksX10_valueIn_1 16 rfl rfl)
theorem dX10_valueIn_40 : decode cX10_valueIn 40 = .ok (.invokevirtual 65, 3) := dk_182 0 65 (dk_at dksX10_valueIn_1 17 rfl rfl)
theorem dX10_valueIn_43 : decode cX10_valueIn 43 = .ok (.ireturn, 1) := dk_172 (dk_at dksX10_valueIn_1 20 rfl rfl)
abbrev cX10_isCase : ByteArray := prog_17_method_16_code
def yX10_isCase : MethodName := ⟨RX10, "isCase", "(I)Z"⟩
def dkwX10_isCase_0 : List UInt8 := [27, 3, 42, 182, 0, 61, 4, 100, 184, 0, 53, 172]
abbrev dktX10_isCase_0 : List UInt8 := dkwX10_isCase_0 ++ []
theorem dksX10_isCase_0 : cX10_isCase.data.toList.drop 0 = dktX10_isCase_0 := by decide +kernel
theorem dX10_isCase_0 : decode cX10_isCase 0 = .ok (.iload_n 1, 1) := dk_27 (dk_at dksX10_isCase_0 0 rfl rfl)
theorem dX10_isCase_1 : decode cX10_isCase 1 = .ok (.iconst 0, 1) := dk_3 (dk_at dksX10_isCase_0 1 rfl rfl)
theorem dX10_isCase_2 : decode cX10_isCase 2 = .ok (.aload_n 0, 1) := dk_42 (dk_at dksX10_isCase_0 2 rfl rfl)
theorem dX10_isCase_3 : decode cX10_isCase 3 = .ok (.invokevirtual 61, 3) := dk_182 0 61 (dk_at dksX10_isCase_0 3 rfl rfl)
theorem dX10_isCase_6 : decode cX10_isCase 6 = .ok (.iconst 1, 1) := dk_4 (dk_at dksX10_isCase_0 6 rfl rfl)
theorem dX10_isCase_7 : decode cX10_isCase 7 = .ok (.isub, 1) := dk_100 (dk_at dksX10_isCase_0 7 rfl rfl)
theorem dX10_isCase_8 : decode cX10_isCase 8 = .ok (.invokestatic 53, 3) := dk_184 0 53 (dk_at dksX10_isCase_0 8 rfl rfl)
theorem dX10_isCase_11 : decode cX10_isCase 11 = .ok (.ireturn, 1) := dk_172 (dk_at dksX10_isCase_0 11 rfl rfl)
abbrev cX10_throwsOne_2 : ByteArray := prog_17_method_5_code
def yX10_throwsOne_2 : MethodName := ⟨RX10, "throwsOne", "(ZZ)Z"⟩
def dkwX10_throwsOne_2_1 : List UInt8 := [154, 0, 7, 28, 153, 0, 7, 4, 167, 0, 4, 3, 172]
abbrev dktX10_throwsOne_2_1 : List UInt8 := dkwX10_throwsOne_2_1 ++ []
def dkwX10_throwsOne_2_0 : List UInt8 := [42, 27, 153, 0, 7, 4, 167, 0, 12, 28, 153, 0, 7, 5, 167, 0, 4, 3, 181, 0, 45, 27]
abbrev dktX10_throwsOne_2_0 : List UInt8 := dkwX10_throwsOne_2_0 ++ dktX10_throwsOne_2_1
theorem dksX10_throwsOne_2_0 : cX10_throwsOne_2.data.toList.drop 0 = dktX10_throwsOne_2_0 := by decide +kernel
theorem dksX10_throwsOne_2_1 : cX10_throwsOne_2.data.toList.drop 22 = dktX10_throwsOne_2_1 := dk_seg dksX10_throwsOne_2_0 22 rfl rfl
theorem dX10_throwsOne_2_0 : decode cX10_throwsOne_2 0 = .ok (.aload_n 0, 1) := dk_42 (dk_at dksX10_throwsOne_2_0 0 rfl rfl)
theorem dX10_throwsOne_2_1 : decode cX10_throwsOne_2 1 = .ok (.iload_n 1, 1) := dk_27 (dk_at dksX10_throwsOne_2_0 1 rfl rfl)
theorem dX10_throwsOne_2_2 : decode cX10_throwsOne_2 2 = .ok (.ifCond .eq 7, 3) := dk_153 0 7 (dk_at dksX10_throwsOne_2_0 2 rfl rfl)
theorem dX10_throwsOne_2_5 : decode cX10_throwsOne_2 5 = .ok (.iconst 1, 1) := dk_4 (dk_at dksX10_throwsOne_2_0 5 rfl rfl)
theorem dX10_throwsOne_2_6 : decode cX10_throwsOne_2 6 = .ok (.goto 12, 3) := dk_167 0 12 (dk_at dksX10_throwsOne_2_0 6 rfl rfl)
theorem dX10_throwsOne_2_9 : decode cX10_throwsOne_2 9 = .ok (.iload_n 2, 1) := dk_28 (dk_at dksX10_throwsOne_2_0 9 rfl rfl)
theorem dX10_throwsOne_2_10 : decode cX10_throwsOne_2 10 = .ok (.ifCond .eq 7, 3) := dk_153 0 7 (dk_at dksX10_throwsOne_2_0 10 rfl rfl)
theorem dX10_throwsOne_2_13 : decode cX10_throwsOne_2 13 = .ok (.iconst 2, 1) := dk_5 (dk_at dksX10_throwsOne_2_0 13 rfl rfl)
theorem dX10_throwsOne_2_14 : decode cX10_throwsOne_2 14 = .ok (.goto 4, 3) := dk_167 0 4 (dk_at dksX10_throwsOne_2_0 14 rfl rfl)
theorem dX10_throwsOne_2_17 : decode cX10_throwsOne_2 17 = .ok (.iconst 0, 1) := dk_3 (dk_at dksX10_throwsOne_2_0 17 rfl rfl)
theorem dX10_throwsOne_2_18 : decode cX10_throwsOne_2 18 = .ok (.putfield 45, 3) := dk_181 0 45 (dk_at dksX10_throwsOne_2_0 18 rfl rfl)
theorem dX10_throwsOne_2_21 : decode cX10_throwsOne_2 21 = .ok (.iload_n 1, 1) := dk_27 (dk_at dksX10_throwsOne_2_0 21 rfl rfl)
theorem dX10_throwsOne_2_22 : decode cX10_throwsOne_2 22 = .ok (.ifCond .ne 7, 3) := dk_154 0 7 (dk_at dksX10_throwsOne_2_1 0 rfl rfl)
theorem dX10_throwsOne_2_25 : decode cX10_throwsOne_2 25 = .ok (.iload_n 2, 1) := dk_28 (dk_at dksX10_throwsOne_2_1 3 rfl rfl)
theorem dX10_throwsOne_2_26 : decode cX10_throwsOne_2 26 = .ok (.ifCond .eq 7, 3) := dk_153 0 7 (dk_at dksX10_throwsOne_2_1 4 rfl rfl)
theorem dX10_throwsOne_2_29 : decode cX10_throwsOne_2 29 = .ok (.iconst 1, 1) := dk_4 (dk_at dksX10_throwsOne_2_1 7 rfl rfl)
theorem dX10_throwsOne_2_30 : decode cX10_throwsOne_2 30 = .ok (.goto 4, 3) := dk_167 0 4 (dk_at dksX10_throwsOne_2_1 8 rfl rfl)
theorem dX10_throwsOne_2_33 : decode cX10_throwsOne_2 33 = .ok (.iconst 0, 1) := dk_3 (dk_at dksX10_throwsOne_2_1 11 rfl rfl)
theorem dX10_throwsOne_2_34 : decode cX10_throwsOne_2 34 = .ok (.ireturn, 1) := dk_172 (dk_at dksX10_throwsOne_2_1 12 rfl rfl)
abbrev cX10_heir : ByteArray := prog_17_method_72_code
def yX10_heir : MethodName := ⟨RX10, "heir", "(II)I"⟩
def dkwX10_heir_1 : List UInt8 := [4, 167, 0, 4, 3, 182, 1, 43, 153, 0, 7, 3, 167, 0, 9, 42, 27, 28, 182, 1, 62, 172]
abbrev dktX10_heir_1 : List UInt8 := dkwX10_heir_1 ++ []
def dkwX10_heir_0 : List UInt8 := [42, 42, 27, 182, 1, 59, 154, 0, 7, 4, 167, 0, 4, 3, 28, 3, 16, 6, 184, 0, 53, 154, 0, 7]
abbrev dktX10_heir_0 : List UInt8 := dkwX10_heir_0 ++ dktX10_heir_1
theorem dksX10_heir_0 : cX10_heir.data.toList.drop 0 = dktX10_heir_0 := by decide +kernel
theorem dksX10_heir_1 : cX10_heir.data.toList.drop 24 = dktX10_heir_1 := dk_seg dksX10_heir_0 24 rfl rfl
theorem dX10_heir_0 : decode cX10_heir 0 = .ok (.aload_n 0, 1) := dk_42 (dk_at dksX10_heir_0 0 rfl rfl)
theorem dX10_heir_1 : decode cX10_heir 1 = .ok (.aload_n 0, 1) := dk_42 (dk_at dksX10_heir_0 1 rfl rfl)
theorem dX10_heir_2 : decode cX10_heir 2 = .ok (.iload_n 1, 1) := dk_27 (dk_at dksX10_heir_0 2 rfl rfl)
theorem dX10_heir_3 : decode cX10_heir 3 = .ok (.invokevirtual 315, 3) := dk_182 1 59 (dk_at dksX10_heir_0 3 rfl rfl)
theorem dX10_heir_6 : decode cX10_heir 6 = .ok (.ifCond .ne 7, 3) := dk_154 0 7 (dk_at dksX10_heir_0 6 rfl rfl)
theorem dX10_heir_9 : decode cX10_heir 9 = .ok (.iconst 1, 1) := dk_4 (dk_at dksX10_heir_0 9 rfl rfl)
theorem dX10_heir_10 : decode cX10_heir 10 = .ok (.goto 4, 3) := dk_167 0 4 (dk_at dksX10_heir_0 10 rfl rfl)
theorem dX10_heir_13 : decode cX10_heir 13 = .ok (.iconst 0, 1) := dk_3 (dk_at dksX10_heir_0 13 rfl rfl)
theorem dX10_heir_14 : decode cX10_heir 14 = .ok (.iload_n 2, 1) := dk_28 (dk_at dksX10_heir_0 14 rfl rfl)
theorem dX10_heir_15 : decode cX10_heir 15 = .ok (.iconst 0, 1) := dk_3 (dk_at dksX10_heir_0 15 rfl rfl)
theorem dX10_heir_16 : decode cX10_heir 16 = .ok (.bipush 6, 2) := dk_16 6 (dk_at dksX10_heir_0 16 rfl rfl)
theorem dX10_heir_18 : decode cX10_heir 18 = .ok (.invokestatic 53, 3) := dk_184 0 53 (dk_at dksX10_heir_0 18 rfl rfl)
theorem dX10_heir_21 : decode cX10_heir 21 = .ok (.ifCond .ne 7, 3) := dk_154 0 7 (dk_at dksX10_heir_0 21 rfl rfl)
theorem dX10_heir_24 : decode cX10_heir 24 = .ok (.iconst 1, 1) := dk_4 (dk_at dksX10_heir_1 0 rfl rfl)
theorem dX10_heir_25 : decode cX10_heir 25 = .ok (.goto 4, 3) := dk_167 0 4 (dk_at dksX10_heir_1 1 rfl rfl)
theorem dX10_heir_28 : decode cX10_heir 28 = .ok (.iconst 0, 1) := dk_3 (dk_at dksX10_heir_1 4 rfl rfl)
theorem dX10_heir_29 : decode cX10_heir 29 = .ok (.invokevirtual 299, 3) := dk_182 1 43 (dk_at dksX10_heir_1 5 rfl rfl)
theorem dX10_heir_32 : decode cX10_heir 32 = .ok (.ifCond .eq 7, 3) := dk_153 0 7 (dk_at dksX10_heir_1 8 rfl rfl)
theorem dX10_heir_35 : decode cX10_heir 35 = .ok (.iconst 0, 1) := dk_3 (dk_at dksX10_heir_1 11 rfl rfl)
theorem dX10_heir_36 : decode cX10_heir 36 = .ok (.goto 9, 3) := dk_167 0 9 (dk_at dksX10_heir_1 12 rfl rfl)
theorem dX10_heir_39 : decode cX10_heir 39 = .ok (.aload_n 0, 1) := dk_42 (dk_at dksX10_heir_1 15 rfl rfl)
theorem dX10_heir_40 : decode cX10_heir 40 = .ok (.iload_n 1, 1) := dk_27 (dk_at dksX10_heir_1 16 rfl rfl)
theorem dX10_heir_41 : decode cX10_heir 41 = .ok (.iload_n 2, 1) := dk_28 (dk_at dksX10_heir_1 17 rfl rfl)
theorem dX10_heir_42 : decode cX10_heir 42 = .ok (.invokevirtual 318, 3) := dk_182 1 62 (dk_at dksX10_heir_1 18 rfl rfl)
theorem dX10_heir_45 : decode cX10_heir 45 = .ok (.ireturn, 1) := dk_172 (dk_at dksX10_heir_1 21 rfl rfl)
abbrev cX10_isHeir : ByteArray := prog_17_method_11_code
def yX10_isHeir : MethodName := ⟨RX10, "isHeir", "(I)Z"⟩
def dkwX10_isHeir_0 : List UInt8 := [27, 3, 42, 180, 0, 7, 8, 46, 4, 100, 184, 0, 53, 172]
abbrev dktX10_isHeir_0 : List UInt8 := dkwX10_isHeir_0 ++ []
theorem dksX10_isHeir_0 : cX10_isHeir.data.toList.drop 0 = dktX10_isHeir_0 := by decide +kernel
theorem dX10_isHeir_0 : decode cX10_isHeir 0 = .ok (.iload_n 1, 1) := dk_27 (dk_at dksX10_isHeir_0 0 rfl rfl)
theorem dX10_isHeir_1 : decode cX10_isHeir 1 = .ok (.iconst 0, 1) := dk_3 (dk_at dksX10_isHeir_0 1 rfl rfl)
theorem dX10_isHeir_2 : decode cX10_isHeir 2 = .ok (.aload_n 0, 1) := dk_42 (dk_at dksX10_isHeir_0 2 rfl rfl)
theorem dX10_isHeir_3 : decode cX10_isHeir 3 = .ok (.getfield 7, 3) := dk_180 0 7 (dk_at dksX10_isHeir_0 3 rfl rfl)
theorem dX10_isHeir_6 : decode cX10_isHeir 6 = .ok (.iconst 5, 1) := dk_8 (dk_at dksX10_isHeir_0 6 rfl rfl)
theorem dX10_isHeir_7 : decode cX10_isHeir 7 = .ok (.iaload, 1) := dk_46 (dk_at dksX10_isHeir_0 7 rfl rfl)
theorem dX10_isHeir_8 : decode cX10_isHeir 8 = .ok (.iconst 1, 1) := dk_4 (dk_at dksX10_isHeir_0 8 rfl rfl)
theorem dX10_isHeir_9 : decode cX10_isHeir 9 = .ok (.isub, 1) := dk_100 (dk_at dksX10_isHeir_0 9 rfl rfl)
theorem dX10_isHeir_10 : decode cX10_isHeir 10 = .ok (.invokestatic 53, 3) := dk_184 0 53 (dk_at dksX10_isHeir_0 10 rfl rfl)
theorem dX10_isHeir_13 : decode cX10_isHeir 13 = .ok (.ireturn, 1) := dk_172 (dk_at dksX10_isHeir_0 13 rfl rfl)
abbrev cX10_heirTold : ByteArray := prog_17_method_71_code
def yX10_heirTold : MethodName := ⟨RX10, "heirTold", "(II)I"⟩
def dkwX10_heirTold_6 : List UInt8 := [182, 0, 104, 172, 42, 27, 28, 16, 6, 160, 0, 7, 4, 167, 0, 4, 3, 182, 1, 55, 172]
abbrev dktX10_heirTold_6 : List UInt8 := dkwX10_heirTold_6 ++ []
def dkwX10_heirTold_5 : List UInt8 := [160, 0, 7, 3, 167, 0, 23, 42, 42, 42, 42, 180, 0, 7, 16, 8, 46, 182, 1, 52, 182, 1, 46, 27]
abbrev dktX10_heirTold_5 : List UInt8 := dkwX10_heirTold_5 ++ dktX10_heirTold_6
def dkwX10_heirTold_4 : List UInt8 := [182, 1, 46, 27, 182, 0, 101, 172, 42, 42, 42, 180, 0, 7, 16, 8, 46, 182, 1, 52, 182, 1, 46, 2]
abbrev dktX10_heirTold_4 : List UInt8 := dkwX10_heirTold_4 ++ dktX10_heirTold_5
def dkwX10_heirTold_3 : List UInt8 := [160, 0, 7, 4, 167, 0, 4, 3, 172, 42, 42, 42, 42, 180, 0, 7, 16, 8, 46, 182, 1, 52]
abbrev dktX10_heirTold_3 : List UInt8 := dkwX10_heirTold_3 ++ dktX10_heirTold_4
def dkwX10_heirTold_2 : List UInt8 := [42, 180, 0, 7, 16, 9, 5, 27, 104, 96, 28, 96, 46, 172, 42, 180, 0, 7, 16, 6, 46, 27]
abbrev dktX10_heirTold_2 : List UInt8 := dkwX10_heirTold_2 ++ dktX10_heirTold_3
def dkwX10_heirTold_1 : List UInt8 := [170, 0, 0, 0, 0, 0, 131, 0, 0, 0, 0, 0, 0, 0, 4, 0, 0, 0, 35, 0, 0, 0, 35, 0, 0, 0, 49, 0, 0, 0, 66, 0, 0, 0, 87]
abbrev dktX10_heirTold_1 : List UInt8 := dkwX10_heirTold_1 ++ dktX10_heirTold_2
def dkwX10_heirTold_0 : List UInt8 := [28]
abbrev dktX10_heirTold_0 : List UInt8 := dkwX10_heirTold_0 ++ dktX10_heirTold_1
theorem dksX10_heirTold_0 : cX10_heirTold.data.toList.drop 0 = dktX10_heirTold_0 := by decide +kernel
theorem dksX10_heirTold_1 : cX10_heirTold.data.toList.drop 1 = dktX10_heirTold_1 := dk_seg dksX10_heirTold_0 1 rfl rfl
theorem dksX10_heirTold_2 : cX10_heirTold.data.toList.drop 36 = dktX10_heirTold_2 := dk_seg dksX10_heirTold_1 35 rfl rfl
theorem dksX10_heirTold_3 : cX10_heirTold.data.toList.drop 58 = dktX10_heirTold_3 := dk_seg dksX10_heirTold_2 22 rfl rfl
theorem dksX10_heirTold_4 : cX10_heirTold.data.toList.drop 80 = dktX10_heirTold_4 := dk_seg dksX10_heirTold_3 22 rfl rfl
theorem dksX10_heirTold_5 : cX10_heirTold.data.toList.drop 104 = dktX10_heirTold_5 := dk_seg dksX10_heirTold_4 24 rfl rfl
theorem dksX10_heirTold_6 : cX10_heirTold.data.toList.drop 128 = dktX10_heirTold_6 := dk_seg dksX10_heirTold_5 24 rfl rfl
theorem dX10_heirTold_0 : decode cX10_heirTold 0 = .ok (.iload_n 2, 1) := dk_28 (dk_at dksX10_heirTold_0 0 rfl rfl)
theorem dX10_heirTold_1 : decode cX10_heirTold 1 = .ok (.tableswitch 131 0 4 #[35, 35, 49, 66, 87], 35) := by decide +kernel
theorem dX10_heirTold_36 : decode cX10_heirTold 36 = .ok (.aload_n 0, 1) := dk_42 (dk_at dksX10_heirTold_2 0 rfl rfl)
theorem dX10_heirTold_37 : decode cX10_heirTold 37 = .ok (.getfield 7, 3) := dk_180 0 7 (dk_at dksX10_heirTold_2 1 rfl rfl)
theorem dX10_heirTold_40 : decode cX10_heirTold 40 = .ok (.bipush 9, 2) := dk_16 9 (dk_at dksX10_heirTold_2 4 rfl rfl)
theorem dX10_heirTold_42 : decode cX10_heirTold 42 = .ok (.iconst 2, 1) := dk_5 (dk_at dksX10_heirTold_2 6 rfl rfl)
theorem dX10_heirTold_43 : decode cX10_heirTold 43 = .ok (.iload_n 1, 1) := dk_27 (dk_at dksX10_heirTold_2 7 rfl rfl)
theorem dX10_heirTold_44 : decode cX10_heirTold 44 = .ok (.imul, 1) := dk_104 (dk_at dksX10_heirTold_2 8 rfl rfl)
theorem dX10_heirTold_45 : decode cX10_heirTold 45 = .ok (.iadd, 1) := dk_96 (dk_at dksX10_heirTold_2 9 rfl rfl)
theorem dX10_heirTold_46 : decode cX10_heirTold 46 = .ok (.iload_n 2, 1) := dk_28 (dk_at dksX10_heirTold_2 10 rfl rfl)
theorem dX10_heirTold_47 : decode cX10_heirTold 47 = .ok (.iadd, 1) := dk_96 (dk_at dksX10_heirTold_2 11 rfl rfl)
theorem dX10_heirTold_48 : decode cX10_heirTold 48 = .ok (.iaload, 1) := dk_46 (dk_at dksX10_heirTold_2 12 rfl rfl)
theorem dX10_heirTold_49 : decode cX10_heirTold 49 = .ok (.ireturn, 1) := dk_172 (dk_at dksX10_heirTold_2 13 rfl rfl)
theorem dX10_heirTold_50 : decode cX10_heirTold 50 = .ok (.aload_n 0, 1) := dk_42 (dk_at dksX10_heirTold_2 14 rfl rfl)
theorem dX10_heirTold_51 : decode cX10_heirTold 51 = .ok (.getfield 7, 3) := dk_180 0 7 (dk_at dksX10_heirTold_2 15 rfl rfl)
theorem dX10_heirTold_54 : decode cX10_heirTold 54 = .ok (.bipush 6, 2) := dk_16 6 (dk_at dksX10_heirTold_2 18 rfl rfl)
theorem dX10_heirTold_56 : decode cX10_heirTold 56 = .ok (.iaload, 1) := dk_46 (dk_at dksX10_heirTold_2 20 rfl rfl)
theorem dX10_heirTold_57 : decode cX10_heirTold 57 = .ok (.iload_n 1, 1) := dk_27 (dk_at dksX10_heirTold_2 21 rfl rfl)
theorem dX10_heirTold_58 : decode cX10_heirTold 58 = .ok (.if_icmp .ne 7, 3) := dk_160 0 7 (dk_at dksX10_heirTold_3 0 rfl rfl)
theorem dX10_heirTold_61 : decode cX10_heirTold 61 = .ok (.iconst 1, 1) := dk_4 (dk_at dksX10_heirTold_3 3 rfl rfl)
theorem dX10_heirTold_62 : decode cX10_heirTold 62 = .ok (.goto 4, 3) := dk_167 0 4 (dk_at dksX10_heirTold_3 4 rfl rfl)
theorem dX10_heirTold_65 : decode cX10_heirTold 65 = .ok (.iconst 0, 1) := dk_3 (dk_at dksX10_heirTold_3 7 rfl rfl)
theorem dX10_heirTold_66 : decode cX10_heirTold 66 = .ok (.ireturn, 1) := dk_172 (dk_at dksX10_heirTold_3 8 rfl rfl)
theorem dX10_heirTold_67 : decode cX10_heirTold 67 = .ok (.aload_n 0, 1) := dk_42 (dk_at dksX10_heirTold_3 9 rfl rfl)
theorem dX10_heirTold_68 : decode cX10_heirTold 68 = .ok (.aload_n 0, 1) := dk_42 (dk_at dksX10_heirTold_3 10 rfl rfl)
theorem dX10_heirTold_69 : decode cX10_heirTold 69 = .ok (.aload_n 0, 1) := dk_42 (dk_at dksX10_heirTold_3 11 rfl rfl)
theorem dX10_heirTold_70 : decode cX10_heirTold 70 = .ok (.aload_n 0, 1) := dk_42 (dk_at dksX10_heirTold_3 12 rfl rfl)
theorem dX10_heirTold_71 : decode cX10_heirTold 71 = .ok (.getfield 7, 3) := dk_180 0 7 (dk_at dksX10_heirTold_3 13 rfl rfl)
theorem dX10_heirTold_74 : decode cX10_heirTold 74 = .ok (.bipush 8, 2) := dk_16 8 (dk_at dksX10_heirTold_3 16 rfl rfl)
theorem dX10_heirTold_76 : decode cX10_heirTold 76 = .ok (.iaload, 1) := dk_46 (dk_at dksX10_heirTold_3 18 rfl rfl)
theorem dX10_heirTold_77 : decode cX10_heirTold 77 = .ok (.invokevirtual 308, 3) := dk_182 1 52 (dk_at dksX10_heirTold_3 19 rfl rfl)
theorem dX10_heirTold_80 : decode cX10_heirTold 80 = .ok (.invokevirtual 302, 3) := dk_182 1 46 (dk_at dksX10_heirTold_4 0 rfl rfl)
theorem dX10_heirTold_83 : decode cX10_heirTold 83 = .ok (.iload_n 1, 1) := dk_27 (dk_at dksX10_heirTold_4 3 rfl rfl)
theorem dX10_heirTold_84 : decode cX10_heirTold 84 = .ok (.invokevirtual 101, 3) := dk_182 0 101 (dk_at dksX10_heirTold_4 4 rfl rfl)
theorem dX10_heirTold_87 : decode cX10_heirTold 87 = .ok (.ireturn, 1) := dk_172 (dk_at dksX10_heirTold_4 7 rfl rfl)
theorem dX10_heirTold_88 : decode cX10_heirTold 88 = .ok (.aload_n 0, 1) := dk_42 (dk_at dksX10_heirTold_4 8 rfl rfl)
theorem dX10_heirTold_89 : decode cX10_heirTold 89 = .ok (.aload_n 0, 1) := dk_42 (dk_at dksX10_heirTold_4 9 rfl rfl)
theorem dX10_heirTold_90 : decode cX10_heirTold 90 = .ok (.aload_n 0, 1) := dk_42 (dk_at dksX10_heirTold_4 10 rfl rfl)
theorem dX10_heirTold_91 : decode cX10_heirTold 91 = .ok (.getfield 7, 3) := dk_180 0 7 (dk_at dksX10_heirTold_4 11 rfl rfl)
theorem dX10_heirTold_94 : decode cX10_heirTold 94 = .ok (.bipush 8, 2) := dk_16 8 (dk_at dksX10_heirTold_4 14 rfl rfl)
theorem dX10_heirTold_96 : decode cX10_heirTold 96 = .ok (.iaload, 1) := dk_46 (dk_at dksX10_heirTold_4 16 rfl rfl)
theorem dX10_heirTold_97 : decode cX10_heirTold 97 = .ok (.invokevirtual 308, 3) := dk_182 1 52 (dk_at dksX10_heirTold_4 17 rfl rfl)
theorem dX10_heirTold_100 : decode cX10_heirTold 100 = .ok (.invokevirtual 302, 3) := dk_182 1 46 (dk_at dksX10_heirTold_4 20 rfl rfl)
theorem dX10_heirTold_103 : decode cX10_heirTold 103 = .ok (.iconst (-1), 1) := dk_2 (dk_at dksX10_heirTold_4 23 rfl rfl)
theorem dX10_heirTold_104 : decode cX10_heirTold 104 = .ok (.if_icmp .ne 7, 3) := dk_160 0 7 (dk_at dksX10_heirTold_5 0 rfl rfl)
theorem dX10_heirTold_107 : decode cX10_heirTold 107 = .ok (.iconst 0, 1) := dk_3 (dk_at dksX10_heirTold_5 3 rfl rfl)
theorem dX10_heirTold_108 : decode cX10_heirTold 108 = .ok (.goto 23, 3) := dk_167 0 23 (dk_at dksX10_heirTold_5 4 rfl rfl)
theorem dX10_heirTold_111 : decode cX10_heirTold 111 = .ok (.aload_n 0, 1) := dk_42 (dk_at dksX10_heirTold_5 7 rfl rfl)
theorem dX10_heirTold_112 : decode cX10_heirTold 112 = .ok (.aload_n 0, 1) := dk_42 (dk_at dksX10_heirTold_5 8 rfl rfl)
theorem dX10_heirTold_113 : decode cX10_heirTold 113 = .ok (.aload_n 0, 1) := dk_42 (dk_at dksX10_heirTold_5 9 rfl rfl)
theorem dX10_heirTold_114 : decode cX10_heirTold 114 = .ok (.aload_n 0, 1) := dk_42 (dk_at dksX10_heirTold_5 10 rfl rfl)
theorem dX10_heirTold_115 : decode cX10_heirTold 115 = .ok (.getfield 7, 3) := dk_180 0 7 (dk_at dksX10_heirTold_5 11 rfl rfl)
theorem dX10_heirTold_118 : decode cX10_heirTold 118 = .ok (.bipush 8, 2) := dk_16 8 (dk_at dksX10_heirTold_5 14 rfl rfl)
theorem dX10_heirTold_120 : decode cX10_heirTold 120 = .ok (.iaload, 1) := dk_46 (dk_at dksX10_heirTold_5 16 rfl rfl)
theorem dX10_heirTold_121 : decode cX10_heirTold 121 = .ok (.invokevirtual 308, 3) := dk_182 1 52 (dk_at dksX10_heirTold_5 17 rfl rfl)
theorem dX10_heirTold_124 : decode cX10_heirTold 124 = .ok (.invokevirtual 302, 3) := dk_182 1 46 (dk_at dksX10_heirTold_5 20 rfl rfl)
theorem dX10_heirTold_127 : decode cX10_heirTold 127 = .ok (.iload_n 1, 1) := dk_27 (dk_at dksX10_heirTold_5 23 rfl rfl)
theorem dX10_heirTold_128 : decode cX10_heirTold 128 = .ok (.invokevirtual 104, 3) := dk_182 0 104 (dk_at dksX10_heirTold_6 0 rfl rfl)
theorem dX10_heirTold_131 : decode cX10_heirTold 131 = .ok (.ireturn, 1) := dk_172 (dk_at dksX10_heirTold_6 3 rfl rfl)
theorem dX10_heirTold_132 : decode cX10_heirTold 132 = .ok (.aload_n 0, 1) := dk_42 (dk_at dksX10_heirTold_6 4 rfl rfl)
theorem dX10_heirTold_133 : decode cX10_heirTold 133 = .ok (.iload_n 1, 1) := dk_27 (dk_at dksX10_heirTold_6 5 rfl rfl)
theorem dX10_heirTold_134 : decode cX10_heirTold 134 = .ok (.iload_n 2, 1) := dk_28 (dk_at dksX10_heirTold_6 6 rfl rfl)
theorem dX10_heirTold_135 : decode cX10_heirTold 135 = .ok (.bipush 6, 2) := dk_16 6 (dk_at dksX10_heirTold_6 7 rfl rfl)
theorem dX10_heirTold_137 : decode cX10_heirTold 137 = .ok (.if_icmp .ne 7, 3) := dk_160 0 7 (dk_at dksX10_heirTold_6 9 rfl rfl)
theorem dX10_heirTold_140 : decode cX10_heirTold 140 = .ok (.iconst 1, 1) := dk_4 (dk_at dksX10_heirTold_6 12 rfl rfl)
theorem dX10_heirTold_141 : decode cX10_heirTold 141 = .ok (.goto 4, 3) := dk_167 0 4 (dk_at dksX10_heirTold_6 13 rfl rfl)
theorem dX10_heirTold_144 : decode cX10_heirTold 144 = .ok (.iconst 0, 1) := dk_3 (dk_at dksX10_heirTold_6 16 rfl rfl)
theorem dX10_heirTold_145 : decode cX10_heirTold 145 = .ok (.invokevirtual 311, 3) := dk_182 1 55 (dk_at dksX10_heirTold_6 17 rfl rfl)
theorem dX10_heirTold_148 : decode cX10_heirTold 148 = .ok (.ireturn, 1) := dk_172 (dk_at dksX10_heirTold_6 20 rfl rfl)
abbrev cX10_setOf : ByteArray := prog_17_method_69_code
def yX10_setOf : MethodName := ⟨RX10, "setOf", "(I)I"⟩
def dkwX10_setOf_1 : List UInt8 := [153, 0, 9, 4, 29, 120, 167, 0, 4, 3, 128, 61, 132, 3, 1, 167, 255, 223, 28, 172]
abbrev dktX10_setOf_1 : List UInt8 := dkwX10_setOf_1 ++ []
def dkwX10_setOf_0 : List UInt8 := [3, 61, 3, 62, 29, 42, 180, 0, 7, 16, 17, 46, 162, 0, 28, 28, 42, 29, 27, 182, 0, 80]
abbrev dktX10_setOf_0 : List UInt8 := dkwX10_setOf_0 ++ dktX10_setOf_1
theorem dksX10_setOf_0 : cX10_setOf.data.toList.drop 0 = dktX10_setOf_0 := by decide +kernel
theorem dksX10_setOf_1 : cX10_setOf.data.toList.drop 22 = dktX10_setOf_1 := dk_seg dksX10_setOf_0 22 rfl rfl
theorem dX10_setOf_0 : decode cX10_setOf 0 = .ok (.iconst 0, 1) := dk_3 (dk_at dksX10_setOf_0 0 rfl rfl)
theorem dX10_setOf_1 : decode cX10_setOf 1 = .ok (.istore_n 2, 1) := dk_61 (dk_at dksX10_setOf_0 1 rfl rfl)
theorem dX10_setOf_2 : decode cX10_setOf 2 = .ok (.iconst 0, 1) := dk_3 (dk_at dksX10_setOf_0 2 rfl rfl)
theorem dX10_setOf_3 : decode cX10_setOf 3 = .ok (.istore_n 3, 1) := dk_62 (dk_at dksX10_setOf_0 3 rfl rfl)
theorem dX10_setOf_4 : decode cX10_setOf 4 = .ok (.iload_n 3, 1) := dk_29 (dk_at dksX10_setOf_0 4 rfl rfl)
theorem dX10_setOf_5 : decode cX10_setOf 5 = .ok (.aload_n 0, 1) := dk_42 (dk_at dksX10_setOf_0 5 rfl rfl)
theorem dX10_setOf_6 : decode cX10_setOf 6 = .ok (.getfield 7, 3) := dk_180 0 7 (dk_at dksX10_setOf_0 6 rfl rfl)
theorem dX10_setOf_9 : decode cX10_setOf 9 = .ok (.bipush 17, 2) := dk_16 17 (dk_at dksX10_setOf_0 9 rfl rfl)
theorem dX10_setOf_11 : decode cX10_setOf 11 = .ok (.iaload, 1) := dk_46 (dk_at dksX10_setOf_0 11 rfl rfl)
theorem dX10_setOf_12 : decode cX10_setOf 12 = .ok (.if_icmp .ge 28, 3) := dk_162 0 28 (dk_at dksX10_setOf_0 12 rfl rfl)
theorem dX10_setOf_15 : decode cX10_setOf 15 = .ok (.iload_n 2, 1) := dk_28 (dk_at dksX10_setOf_0 15 rfl rfl)
theorem dX10_setOf_16 : decode cX10_setOf 16 = .ok (.aload_n 0, 1) := dk_42 (dk_at dksX10_setOf_0 16 rfl rfl)
theorem dX10_setOf_17 : decode cX10_setOf 17 = .ok (.iload_n 3, 1) := dk_29 (dk_at dksX10_setOf_0 17 rfl rfl)
theorem dX10_setOf_18 : decode cX10_setOf 18 = .ok (.iload_n 1, 1) := dk_27 (dk_at dksX10_setOf_0 18 rfl rfl)
theorem dX10_setOf_19 : decode cX10_setOf 19 = .ok (.invokevirtual 80, 3) := dk_182 0 80 (dk_at dksX10_setOf_0 19 rfl rfl)
theorem dX10_setOf_22 : decode cX10_setOf 22 = .ok (.ifCond .eq 9, 3) := dk_153 0 9 (dk_at dksX10_setOf_1 0 rfl rfl)
theorem dX10_setOf_25 : decode cX10_setOf 25 = .ok (.iconst 1, 1) := dk_4 (dk_at dksX10_setOf_1 3 rfl rfl)
theorem dX10_setOf_26 : decode cX10_setOf 26 = .ok (.iload_n 3, 1) := dk_29 (dk_at dksX10_setOf_1 4 rfl rfl)
theorem dX10_setOf_27 : decode cX10_setOf 27 = .ok (.ishl, 1) := dk_120 (dk_at dksX10_setOf_1 5 rfl rfl)
theorem dX10_setOf_28 : decode cX10_setOf 28 = .ok (.goto 4, 3) := dk_167 0 4 (dk_at dksX10_setOf_1 6 rfl rfl)
theorem dX10_setOf_31 : decode cX10_setOf 31 = .ok (.iconst 0, 1) := dk_3 (dk_at dksX10_setOf_1 9 rfl rfl)
theorem dX10_setOf_32 : decode cX10_setOf 32 = .ok (.ior, 1) := dk_128 (dk_at dksX10_setOf_1 10 rfl rfl)
theorem dX10_setOf_33 : decode cX10_setOf 33 = .ok (.istore_n 2, 1) := dk_61 (dk_at dksX10_setOf_1 11 rfl rfl)
theorem dX10_setOf_34 : decode cX10_setOf 34 = .ok (.iinc 3 1, 3) := dk_132 3 1 (dk_at dksX10_setOf_1 12 rfl rfl)
theorem dX10_setOf_37 : decode cX10_setOf 37 = .ok (.goto (-33), 3) := dk_167 255 223 (dk_at dksX10_setOf_1 15 rfl rfl)
theorem dX10_setOf_40 : decode cX10_setOf 40 = .ok (.iload_n 2, 1) := dk_28 (dk_at dksX10_setOf_1 18 rfl rfl)
theorem dX10_setOf_41 : decode cX10_setOf 41 = .ok (.ireturn, 1) := dk_172 (dk_at dksX10_setOf_1 19 rfl rfl)
abbrev cX10_settles : ByteArray := prog_17_method_26_code
def yX10_settles : MethodName := ⟨RX10, "settles", "(I)I"⟩
def dkwX10_settles_0 : List UInt8 := [42, 27, 182, 0, 95, 154, 0, 14, 42, 27, 182, 0, 86, 184, 0, 89, 167, 0, 4, 2, 172]
abbrev dktX10_settles_0 : List UInt8 := dkwX10_settles_0 ++ []
theorem dksX10_settles_0 : cX10_settles.data.toList.drop 0 = dktX10_settles_0 := by decide +kernel
theorem dX10_settles_0 : decode cX10_settles 0 = .ok (.aload_n 0, 1) := dk_42 (dk_at dksX10_settles_0 0 rfl rfl)
theorem dX10_settles_1 : decode cX10_settles 1 = .ok (.iload_n 1, 1) := dk_27 (dk_at dksX10_settles_0 1 rfl rfl)
theorem dX10_settles_2 : decode cX10_settles 2 = .ok (.invokevirtual 95, 3) := dk_182 0 95 (dk_at dksX10_settles_0 2 rfl rfl)
theorem dX10_settles_5 : decode cX10_settles 5 = .ok (.ifCond .ne 14, 3) := dk_154 0 14 (dk_at dksX10_settles_0 5 rfl rfl)
theorem dX10_settles_8 : decode cX10_settles 8 = .ok (.aload_n 0, 1) := dk_42 (dk_at dksX10_settles_0 8 rfl rfl)
theorem dX10_settles_9 : decode cX10_settles 9 = .ok (.iload_n 1, 1) := dk_27 (dk_at dksX10_settles_0 9 rfl rfl)
theorem dX10_settles_10 : decode cX10_settles 10 = .ok (.invokevirtual 86, 3) := dk_182 0 86 (dk_at dksX10_settles_0 10 rfl rfl)
theorem dX10_settles_13 : decode cX10_settles 13 = .ok (.invokestatic 89, 3) := dk_184 0 89 (dk_at dksX10_settles_0 13 rfl rfl)
theorem dX10_settles_16 : decode cX10_settles 16 = .ok (.goto 4, 3) := dk_167 0 4 (dk_at dksX10_settles_0 16 rfl rfl)
theorem dX10_settles_19 : decode cX10_settles 19 = .ok (.iconst (-1), 1) := dk_2 (dk_at dksX10_settles_0 19 rfl rfl)
theorem dX10_settles_20 : decode cX10_settles 20 = .ok (.ireturn, 1) := dk_172 (dk_at dksX10_settles_0 20 rfl rfl)
abbrev cX10_part : ByteArray := prog_17_method_29_code
def yX10_part : MethodName := ⟨RX10, "part", "(II)I"⟩
def dkwX10_part_4 : List UInt8 := [108, 100, 62, 132, 4, 1, 167, 255, 207, 29, 172]
abbrev dktX10_part_4 : List UInt8 := dkwX10_part_4 ++ []
def dkwX10_part_3 : List UInt8 := [167, 0, 25, 42, 180, 0, 7, 16, 7, 46, 42, 27, 16, 29, 21, 4, 96, 182, 0, 69, 104, 17, 108, 72]
abbrev dktX10_part_3 : List UInt8 := dkwX10_part_3 ++ dktX10_part_4
def dkwX10_part_2 : List UInt8 := [3, 54, 4, 21, 4, 42, 180, 0, 7, 8, 46, 162, 0, 44, 29, 21, 4, 28, 160, 0, 7, 3]
abbrev dktX10_part_2 : List UInt8 := dkwX10_part_2 ++ dktX10_part_3
def dkwX10_part_1 : List UInt8 := [46, 42, 27, 16, 29, 28, 96, 182, 0, 69, 104, 17, 108, 72, 108, 172, 42, 180, 0, 7, 16, 7, 46, 62]
abbrev dktX10_part_1 : List UInt8 := dkwX10_part_1 ++ dktX10_part_2
def dkwX10_part_0 : List UInt8 := [27, 2, 160, 0, 5, 3, 172, 28, 42, 180, 0, 7, 16, 6, 46, 159, 0, 25, 42, 180, 0, 7, 16, 7]
abbrev dktX10_part_0 : List UInt8 := dkwX10_part_0 ++ dktX10_part_1
theorem dksX10_part_0 : cX10_part.data.toList.drop 0 = dktX10_part_0 := by decide +kernel
theorem dksX10_part_1 : cX10_part.data.toList.drop 24 = dktX10_part_1 := dk_seg dksX10_part_0 24 rfl rfl
theorem dksX10_part_2 : cX10_part.data.toList.drop 48 = dktX10_part_2 := dk_seg dksX10_part_1 24 rfl rfl
theorem dksX10_part_3 : cX10_part.data.toList.drop 70 = dktX10_part_3 := dk_seg dksX10_part_2 22 rfl rfl
theorem dksX10_part_4 : cX10_part.data.toList.drop 94 = dktX10_part_4 := dk_seg dksX10_part_3 24 rfl rfl
theorem dX10_part_0 : decode cX10_part 0 = .ok (.iload_n 1, 1) := dk_27 (dk_at dksX10_part_0 0 rfl rfl)
theorem dX10_part_1 : decode cX10_part 1 = .ok (.iconst (-1), 1) := dk_2 (dk_at dksX10_part_0 1 rfl rfl)
theorem dX10_part_2 : decode cX10_part 2 = .ok (.if_icmp .ne 5, 3) := dk_160 0 5 (dk_at dksX10_part_0 2 rfl rfl)
theorem dX10_part_5 : decode cX10_part 5 = .ok (.iconst 0, 1) := dk_3 (dk_at dksX10_part_0 5 rfl rfl)
theorem dX10_part_6 : decode cX10_part 6 = .ok (.ireturn, 1) := dk_172 (dk_at dksX10_part_0 6 rfl rfl)
theorem dX10_part_7 : decode cX10_part 7 = .ok (.iload_n 2, 1) := dk_28 (dk_at dksX10_part_0 7 rfl rfl)
theorem dX10_part_8 : decode cX10_part 8 = .ok (.aload_n 0, 1) := dk_42 (dk_at dksX10_part_0 8 rfl rfl)
theorem dX10_part_9 : decode cX10_part 9 = .ok (.getfield 7, 3) := dk_180 0 7 (dk_at dksX10_part_0 9 rfl rfl)
theorem dX10_part_12 : decode cX10_part 12 = .ok (.bipush 6, 2) := dk_16 6 (dk_at dksX10_part_0 12 rfl rfl)
theorem dX10_part_14 : decode cX10_part 14 = .ok (.iaload, 1) := dk_46 (dk_at dksX10_part_0 14 rfl rfl)
theorem dX10_part_15 : decode cX10_part 15 = .ok (.if_icmp .eq 25, 3) := dk_159 0 25 (dk_at dksX10_part_0 15 rfl rfl)
theorem dX10_part_18 : decode cX10_part 18 = .ok (.aload_n 0, 1) := dk_42 (dk_at dksX10_part_0 18 rfl rfl)
theorem dX10_part_19 : decode cX10_part 19 = .ok (.getfield 7, 3) := dk_180 0 7 (dk_at dksX10_part_0 19 rfl rfl)
theorem dX10_part_22 : decode cX10_part 22 = .ok (.bipush 7, 2) := dk_16 7 (dk_at dksX10_part_0 22 rfl rfl)
theorem dX10_part_24 : decode cX10_part 24 = .ok (.iaload, 1) := dk_46 (dk_at dksX10_part_1 0 rfl rfl)
theorem dX10_part_25 : decode cX10_part 25 = .ok (.aload_n 0, 1) := dk_42 (dk_at dksX10_part_1 1 rfl rfl)
theorem dX10_part_26 : decode cX10_part 26 = .ok (.iload_n 1, 1) := dk_27 (dk_at dksX10_part_1 2 rfl rfl)
theorem dX10_part_27 : decode cX10_part 27 = .ok (.bipush 29, 2) := dk_16 29 (dk_at dksX10_part_1 3 rfl rfl)
theorem dX10_part_29 : decode cX10_part 29 = .ok (.iload_n 2, 1) := dk_28 (dk_at dksX10_part_1 5 rfl rfl)
theorem dX10_part_30 : decode cX10_part 30 = .ok (.iadd, 1) := dk_96 (dk_at dksX10_part_1 6 rfl rfl)
theorem dX10_part_31 : decode cX10_part 31 = .ok (.invokevirtual 69, 3) := dk_182 0 69 (dk_at dksX10_part_1 7 rfl rfl)
theorem dX10_part_34 : decode cX10_part 34 = .ok (.imul, 1) := dk_104 (dk_at dksX10_part_1 10 rfl rfl)
theorem dX10_part_35 : decode cX10_part 35 = .ok (.sipush 27720, 3) := dk_17 108 72 (dk_at dksX10_part_1 11 rfl rfl)
theorem dX10_part_38 : decode cX10_part 38 = .ok (.idiv, 1) := dk_108 (dk_at dksX10_part_1 14 rfl rfl)
theorem dX10_part_39 : decode cX10_part 39 = .ok (.ireturn, 1) := dk_172 (dk_at dksX10_part_1 15 rfl rfl)
theorem dX10_part_40 : decode cX10_part 40 = .ok (.aload_n 0, 1) := dk_42 (dk_at dksX10_part_1 16 rfl rfl)
theorem dX10_part_41 : decode cX10_part 41 = .ok (.getfield 7, 3) := dk_180 0 7 (dk_at dksX10_part_1 17 rfl rfl)
theorem dX10_part_44 : decode cX10_part 44 = .ok (.bipush 7, 2) := dk_16 7 (dk_at dksX10_part_1 20 rfl rfl)
theorem dX10_part_46 : decode cX10_part 46 = .ok (.iaload, 1) := dk_46 (dk_at dksX10_part_1 22 rfl rfl)
theorem dX10_part_47 : decode cX10_part 47 = .ok (.istore_n 3, 1) := dk_62 (dk_at dksX10_part_1 23 rfl rfl)
theorem dX10_part_48 : decode cX10_part 48 = .ok (.iconst 0, 1) := dk_3 (dk_at dksX10_part_2 0 rfl rfl)
theorem dX10_part_49 : decode cX10_part 49 = .ok (.istore 4, 2) := dk_54 4 (dk_at dksX10_part_2 1 rfl rfl)
theorem dX10_part_51 : decode cX10_part 51 = .ok (.iload 4, 2) := dk_21 4 (dk_at dksX10_part_2 3 rfl rfl)
theorem dX10_part_53 : decode cX10_part 53 = .ok (.aload_n 0, 1) := dk_42 (dk_at dksX10_part_2 5 rfl rfl)
theorem dX10_part_54 : decode cX10_part 54 = .ok (.getfield 7, 3) := dk_180 0 7 (dk_at dksX10_part_2 6 rfl rfl)
theorem dX10_part_57 : decode cX10_part 57 = .ok (.iconst 5, 1) := dk_8 (dk_at dksX10_part_2 9 rfl rfl)
theorem dX10_part_58 : decode cX10_part 58 = .ok (.iaload, 1) := dk_46 (dk_at dksX10_part_2 10 rfl rfl)
theorem dX10_part_59 : decode cX10_part 59 = .ok (.if_icmp .ge 44, 3) := dk_162 0 44 (dk_at dksX10_part_2 11 rfl rfl)
theorem dX10_part_62 : decode cX10_part 62 = .ok (.iload_n 3, 1) := dk_29 (dk_at dksX10_part_2 14 rfl rfl)
theorem dX10_part_63 : decode cX10_part 63 = .ok (.iload 4, 2) := dk_21 4 (dk_at dksX10_part_2 15 rfl rfl)
theorem dX10_part_65 : decode cX10_part 65 = .ok (.iload_n 2, 1) := dk_28 (dk_at dksX10_part_2 17 rfl rfl)
theorem dX10_part_66 : decode cX10_part 66 = .ok (.if_icmp .ne 7, 3) := dk_160 0 7 (dk_at dksX10_part_2 18 rfl rfl)
theorem dX10_part_69 : decode cX10_part 69 = .ok (.iconst 0, 1) := dk_3 (dk_at dksX10_part_2 21 rfl rfl)
theorem dX10_part_70 : decode cX10_part 70 = .ok (.goto 25, 3) := dk_167 0 25 (dk_at dksX10_part_3 0 rfl rfl)
theorem dX10_part_73 : decode cX10_part 73 = .ok (.aload_n 0, 1) := dk_42 (dk_at dksX10_part_3 3 rfl rfl)
theorem dX10_part_74 : decode cX10_part 74 = .ok (.getfield 7, 3) := dk_180 0 7 (dk_at dksX10_part_3 4 rfl rfl)
theorem dX10_part_77 : decode cX10_part 77 = .ok (.bipush 7, 2) := dk_16 7 (dk_at dksX10_part_3 7 rfl rfl)
theorem dX10_part_79 : decode cX10_part 79 = .ok (.iaload, 1) := dk_46 (dk_at dksX10_part_3 9 rfl rfl)
theorem dX10_part_80 : decode cX10_part 80 = .ok (.aload_n 0, 1) := dk_42 (dk_at dksX10_part_3 10 rfl rfl)
theorem dX10_part_81 : decode cX10_part 81 = .ok (.iload_n 1, 1) := dk_27 (dk_at dksX10_part_3 11 rfl rfl)
theorem dX10_part_82 : decode cX10_part 82 = .ok (.bipush 29, 2) := dk_16 29 (dk_at dksX10_part_3 12 rfl rfl)
theorem dX10_part_84 : decode cX10_part 84 = .ok (.iload 4, 2) := dk_21 4 (dk_at dksX10_part_3 14 rfl rfl)
theorem dX10_part_86 : decode cX10_part 86 = .ok (.iadd, 1) := dk_96 (dk_at dksX10_part_3 16 rfl rfl)
theorem dX10_part_87 : decode cX10_part 87 = .ok (.invokevirtual 69, 3) := dk_182 0 69 (dk_at dksX10_part_3 17 rfl rfl)
theorem dX10_part_90 : decode cX10_part 90 = .ok (.imul, 1) := dk_104 (dk_at dksX10_part_3 20 rfl rfl)
theorem dX10_part_91 : decode cX10_part 91 = .ok (.sipush 27720, 3) := dk_17 108 72 (dk_at dksX10_part_3 21 rfl rfl)
theorem dX10_part_94 : decode cX10_part 94 = .ok (.idiv, 1) := dk_108 (dk_at dksX10_part_4 0 rfl rfl)
theorem dX10_part_95 : decode cX10_part 95 = .ok (.isub, 1) := dk_100 (dk_at dksX10_part_4 1 rfl rfl)
theorem dX10_part_96 : decode cX10_part 96 = .ok (.istore_n 3, 1) := dk_62 (dk_at dksX10_part_4 2 rfl rfl)
theorem dX10_part_97 : decode cX10_part 97 = .ok (.iinc 4 1, 3) := dk_132 4 1 (dk_at dksX10_part_4 3 rfl rfl)
theorem dX10_part_100 : decode cX10_part 100 = .ok (.goto (-49), 3) := dk_167 255 207 (dk_at dksX10_part_4 6 rfl rfl)
theorem dX10_part_103 : decode cX10_part 103 = .ok (.iload_n 3, 1) := dk_29 (dk_at dksX10_part_4 9 rfl rfl)
theorem dX10_part_104 : decode cX10_part 104 = .ok (.ireturn, 1) := dk_172 (dk_at dksX10_part_4 10 rfl rfl)
abbrev cX10_duty : ByteArray := prog_17_method_30_code
def yX10_duty : MethodName := ⟨RX10, "duty", "(II)I"⟩
def dkwX10_duty_1 : List UInt8 := [42, 180, 0, 7, 16, 9, 5, 28, 104, 96, 4, 96, 46, 104, 16, 100, 108, 167, 0, 4, 3, 172]
abbrev dktX10_duty_1 : List UInt8 := dkwX10_duty_1 ++ []
def dkwX10_duty_0 : List UInt8 := [42, 27, 28, 182, 0, 101, 42, 180, 0, 7, 16, 9, 5, 28, 104, 96, 46, 100, 62, 29, 158, 0, 24, 29]
abbrev dktX10_duty_0 : List UInt8 := dkwX10_duty_0 ++ dktX10_duty_1
theorem dksX10_duty_0 : cX10_duty.data.toList.drop 0 = dktX10_duty_0 := by decide +kernel
theorem dksX10_duty_1 : cX10_duty.data.toList.drop 24 = dktX10_duty_1 := dk_seg dksX10_duty_0 24 rfl rfl
theorem dX10_duty_0 : decode cX10_duty 0 = .ok (.aload_n 0, 1) := dk_42 (dk_at dksX10_duty_0 0 rfl rfl)
theorem dX10_duty_1 : decode cX10_duty 1 = .ok (.iload_n 1, 1) := dk_27 (dk_at dksX10_duty_0 1 rfl rfl)
theorem dX10_duty_2 : decode cX10_duty 2 = .ok (.iload_n 2, 1) := dk_28 (dk_at dksX10_duty_0 2 rfl rfl)
theorem dX10_duty_3 : decode cX10_duty 3 = .ok (.invokevirtual 101, 3) := dk_182 0 101 (dk_at dksX10_duty_0 3 rfl rfl)
theorem dX10_duty_6 : decode cX10_duty 6 = .ok (.aload_n 0, 1) := dk_42 (dk_at dksX10_duty_0 6 rfl rfl)
theorem dX10_duty_7 : decode cX10_duty 7 = .ok (.getfield 7, 3) := dk_180 0 7 (dk_at dksX10_duty_0 7 rfl rfl)
theorem dX10_duty_10 : decode cX10_duty 10 = .ok (.bipush 9, 2) := dk_16 9 (dk_at dksX10_duty_0 10 rfl rfl)
theorem dX10_duty_12 : decode cX10_duty 12 = .ok (.iconst 2, 1) := dk_5 (dk_at dksX10_duty_0 12 rfl rfl)
theorem dX10_duty_13 : decode cX10_duty 13 = .ok (.iload_n 2, 1) := dk_28 (dk_at dksX10_duty_0 13 rfl rfl)
theorem dX10_duty_14 : decode cX10_duty 14 = .ok (.imul, 1) := dk_104 (dk_at dksX10_duty_0 14 rfl rfl)
theorem dX10_duty_15 : decode cX10_duty 15 = .ok (.iadd, 1) := dk_96 (dk_at dksX10_duty_0 15 rfl rfl)
theorem dX10_duty_16 : decode cX10_duty 16 = .ok (.iaload, 1) := dk_46 (dk_at dksX10_duty_0 16 rfl rfl)
theorem dX10_duty_17 : decode cX10_duty 17 = .ok (.isub, 1) := dk_100 (dk_at dksX10_duty_0 17 rfl rfl)
theorem dX10_duty_18 : decode cX10_duty 18 = .ok (.istore_n 3, 1) := dk_62 (dk_at dksX10_duty_0 18 rfl rfl)
theorem dX10_duty_19 : decode cX10_duty 19 = .ok (.iload_n 3, 1) := dk_29 (dk_at dksX10_duty_0 19 rfl rfl)
theorem dX10_duty_20 : decode cX10_duty 20 = .ok (.ifCond .le 24, 3) := dk_158 0 24 (dk_at dksX10_duty_0 20 rfl rfl)
theorem dX10_duty_23 : decode cX10_duty 23 = .ok (.iload_n 3, 1) := dk_29 (dk_at dksX10_duty_0 23 rfl rfl)
theorem dX10_duty_24 : decode cX10_duty 24 = .ok (.aload_n 0, 1) := dk_42 (dk_at dksX10_duty_1 0 rfl rfl)
theorem dX10_duty_25 : decode cX10_duty 25 = .ok (.getfield 7, 3) := dk_180 0 7 (dk_at dksX10_duty_1 1 rfl rfl)
theorem dX10_duty_28 : decode cX10_duty 28 = .ok (.bipush 9, 2) := dk_16 9 (dk_at dksX10_duty_1 4 rfl rfl)
theorem dX10_duty_30 : decode cX10_duty 30 = .ok (.iconst 2, 1) := dk_5 (dk_at dksX10_duty_1 6 rfl rfl)
theorem dX10_duty_31 : decode cX10_duty 31 = .ok (.iload_n 2, 1) := dk_28 (dk_at dksX10_duty_1 7 rfl rfl)
theorem dX10_duty_32 : decode cX10_duty 32 = .ok (.imul, 1) := dk_104 (dk_at dksX10_duty_1 8 rfl rfl)
theorem dX10_duty_33 : decode cX10_duty 33 = .ok (.iadd, 1) := dk_96 (dk_at dksX10_duty_1 9 rfl rfl)
theorem dX10_duty_34 : decode cX10_duty 34 = .ok (.iconst 1, 1) := dk_4 (dk_at dksX10_duty_1 10 rfl rfl)
theorem dX10_duty_35 : decode cX10_duty 35 = .ok (.iadd, 1) := dk_96 (dk_at dksX10_duty_1 11 rfl rfl)
theorem dX10_duty_36 : decode cX10_duty 36 = .ok (.iaload, 1) := dk_46 (dk_at dksX10_duty_1 12 rfl rfl)
theorem dX10_duty_37 : decode cX10_duty 37 = .ok (.imul, 1) := dk_104 (dk_at dksX10_duty_1 13 rfl rfl)
theorem dX10_duty_38 : decode cX10_duty 38 = .ok (.bipush 100, 2) := dk_16 100 (dk_at dksX10_duty_1 14 rfl rfl)
theorem dX10_duty_40 : decode cX10_duty 40 = .ok (.idiv, 1) := dk_108 (dk_at dksX10_duty_1 16 rfl rfl)
theorem dX10_duty_41 : decode cX10_duty 41 = .ok (.goto 4, 3) := dk_167 0 4 (dk_at dksX10_duty_1 17 rfl rfl)
theorem dX10_duty_44 : decode cX10_duty 44 = .ok (.iconst 0, 1) := dk_3 (dk_at dksX10_duty_1 20 rfl rfl)
theorem dX10_duty_45 : decode cX10_duty 45 = .ok (.ireturn, 1) := dk_172 (dk_at dksX10_duty_1 21 rfl rfl)
abbrev cX10_extreme : ByteArray := prog_17_method_70_code
def yX10_extreme : MethodName := ⟨RX10, "extreme", "(IZ)I"⟩
def dkwX10_extreme_3 : List UInt8 := [184, 0, 72, 167, 0, 9, 29, 21, 7, 184, 1, 49, 62, 132, 5, 1, 167, 255, 185, 29, 172]
abbrev dktX10_extreme_3 : List UInt8 := dkwX10_extreme_3 ++ []
def dkwX10_extreme_2 : List UInt8 := [182, 0, 101, 54, 7, 29, 2, 160, 0, 8, 21, 7, 167, 0, 22, 28, 153, 0, 12, 29, 21, 7]
abbrev dktX10_extreme_2 : List UInt8 := dkwX10_extreme_2 ++ dktX10_extreme_3
def dkwX10_extreme_1 : List UInt8 := [180, 0, 38, 21, 5, 46, 182, 1, 46, 54, 6, 21, 6, 2, 160, 0, 6, 167, 0, 42, 42, 21, 6, 27]
abbrev dktX10_extreme_1 : List UInt8 := dkwX10_extreme_1 ++ dktX10_extreme_2
def dkwX10_extreme_0 : List UInt8 := [42, 182, 1, 34, 2, 62, 42, 182, 0, 61, 54, 4, 3, 54, 5, 21, 5, 21, 4, 162, 0, 70, 42, 42]
abbrev dktX10_extreme_0 : List UInt8 := dkwX10_extreme_0 ++ dktX10_extreme_1
theorem dksX10_extreme_0 : cX10_extreme.data.toList.drop 0 = dktX10_extreme_0 := by decide +kernel
theorem dksX10_extreme_1 : cX10_extreme.data.toList.drop 24 = dktX10_extreme_1 := dk_seg dksX10_extreme_0 24 rfl rfl
theorem dksX10_extreme_2 : cX10_extreme.data.toList.drop 48 = dktX10_extreme_2 := dk_seg dksX10_extreme_1 24 rfl rfl
theorem dksX10_extreme_3 : cX10_extreme.data.toList.drop 70 = dktX10_extreme_3 := dk_seg dksX10_extreme_2 22 rfl rfl
theorem dX10_extreme_0 : decode cX10_extreme 0 = .ok (.aload_n 0, 1) := dk_42 (dk_at dksX10_extreme_0 0 rfl rfl)
theorem dX10_extreme_1 : decode cX10_extreme 1 = .ok (.invokevirtual 290, 3) := dk_182 1 34 (dk_at dksX10_extreme_0 1 rfl rfl)
theorem dX10_extreme_4 : decode cX10_extreme 4 = .ok (.iconst (-1), 1) := dk_2 (dk_at dksX10_extreme_0 4 rfl rfl)
theorem dX10_extreme_5 : decode cX10_extreme 5 = .ok (.istore_n 3, 1) := dk_62 (dk_at dksX10_extreme_0 5 rfl rfl)
theorem dX10_extreme_6 : decode cX10_extreme 6 = .ok (.aload_n 0, 1) := dk_42 (dk_at dksX10_extreme_0 6 rfl rfl)
theorem dX10_extreme_7 : decode cX10_extreme 7 = .ok (.invokevirtual 61, 3) := dk_182 0 61 (dk_at dksX10_extreme_0 7 rfl rfl)
theorem dX10_extreme_10 : decode cX10_extreme 10 = .ok (.istore 4, 2) := dk_54 4 (dk_at dksX10_extreme_0 10 rfl rfl)
theorem dX10_extreme_12 : decode cX10_extreme 12 = .ok (.iconst 0, 1) := dk_3 (dk_at dksX10_extreme_0 12 rfl rfl)
theorem dX10_extreme_13 : decode cX10_extreme 13 = .ok (.istore 5, 2) := dk_54 5 (dk_at dksX10_extreme_0 13 rfl rfl)
theorem dX10_extreme_15 : decode cX10_extreme 15 = .ok (.iload 5, 2) := dk_21 5 (dk_at dksX10_extreme_0 15 rfl rfl)
theorem dX10_extreme_17 : decode cX10_extreme 17 = .ok (.iload 4, 2) := dk_21 4 (dk_at dksX10_extreme_0 17 rfl rfl)
theorem dX10_extreme_19 : decode cX10_extreme 19 = .ok (.if_icmp .ge 70, 3) := dk_162 0 70 (dk_at dksX10_extreme_0 19 rfl rfl)
theorem dX10_extreme_22 : decode cX10_extreme 22 = .ok (.aload_n 0, 1) := dk_42 (dk_at dksX10_extreme_0 22 rfl rfl)
theorem dX10_extreme_23 : decode cX10_extreme 23 = .ok (.aload_n 0, 1) := dk_42 (dk_at dksX10_extreme_0 23 rfl rfl)
theorem dX10_extreme_24 : decode cX10_extreme 24 = .ok (.getfield 38, 3) := dk_180 0 38 (dk_at dksX10_extreme_1 0 rfl rfl)
theorem dX10_extreme_27 : decode cX10_extreme 27 = .ok (.iload 5, 2) := dk_21 5 (dk_at dksX10_extreme_1 3 rfl rfl)
theorem dX10_extreme_29 : decode cX10_extreme 29 = .ok (.iaload, 1) := dk_46 (dk_at dksX10_extreme_1 5 rfl rfl)
theorem dX10_extreme_30 : decode cX10_extreme 30 = .ok (.invokevirtual 302, 3) := dk_182 1 46 (dk_at dksX10_extreme_1 6 rfl rfl)
theorem dX10_extreme_33 : decode cX10_extreme 33 = .ok (.istore 6, 2) := dk_54 6 (dk_at dksX10_extreme_1 9 rfl rfl)
theorem dX10_extreme_35 : decode cX10_extreme 35 = .ok (.iload 6, 2) := dk_21 6 (dk_at dksX10_extreme_1 11 rfl rfl)
theorem dX10_extreme_37 : decode cX10_extreme 37 = .ok (.iconst (-1), 1) := dk_2 (dk_at dksX10_extreme_1 13 rfl rfl)
theorem dX10_extreme_38 : decode cX10_extreme 38 = .ok (.if_icmp .ne 6, 3) := dk_160 0 6 (dk_at dksX10_extreme_1 14 rfl rfl)
theorem dX10_extreme_41 : decode cX10_extreme 41 = .ok (.goto 42, 3) := dk_167 0 42 (dk_at dksX10_extreme_1 17 rfl rfl)
theorem dX10_extreme_44 : decode cX10_extreme 44 = .ok (.aload_n 0, 1) := dk_42 (dk_at dksX10_extreme_1 20 rfl rfl)
theorem dX10_extreme_45 : decode cX10_extreme 45 = .ok (.iload 6, 2) := dk_21 6 (dk_at dksX10_extreme_1 21 rfl rfl)
theorem dX10_extreme_47 : decode cX10_extreme 47 = .ok (.iload_n 1, 1) := dk_27 (dk_at dksX10_extreme_1 23 rfl rfl)
theorem dX10_extreme_48 : decode cX10_extreme 48 = .ok (.invokevirtual 101, 3) := dk_182 0 101 (dk_at dksX10_extreme_2 0 rfl rfl)
theorem dX10_extreme_51 : decode cX10_extreme 51 = .ok (.istore 7, 2) := dk_54 7 (dk_at dksX10_extreme_2 3 rfl rfl)
theorem dX10_extreme_53 : decode cX10_extreme 53 = .ok (.iload_n 3, 1) := dk_29 (dk_at dksX10_extreme_2 5 rfl rfl)
theorem dX10_extreme_54 : decode cX10_extreme 54 = .ok (.iconst (-1), 1) := dk_2 (dk_at dksX10_extreme_2 6 rfl rfl)
theorem dX10_extreme_55 : decode cX10_extreme 55 = .ok (.if_icmp .ne 8, 3) := dk_160 0 8 (dk_at dksX10_extreme_2 7 rfl rfl)
theorem dX10_extreme_58 : decode cX10_extreme 58 = .ok (.iload 7, 2) := dk_21 7 (dk_at dksX10_extreme_2 10 rfl rfl)
theorem dX10_extreme_60 : decode cX10_extreme 60 = .ok (.goto 22, 3) := dk_167 0 22 (dk_at dksX10_extreme_2 12 rfl rfl)
theorem dX10_extreme_63 : decode cX10_extreme 63 = .ok (.iload_n 2, 1) := dk_28 (dk_at dksX10_extreme_2 15 rfl rfl)
theorem dX10_extreme_64 : decode cX10_extreme 64 = .ok (.ifCond .eq 12, 3) := dk_153 0 12 (dk_at dksX10_extreme_2 16 rfl rfl)
theorem dX10_extreme_67 : decode cX10_extreme 67 = .ok (.iload_n 3, 1) := dk_29 (dk_at dksX10_extreme_2 19 rfl rfl)
theorem dX10_extreme_68 : decode cX10_extreme 68 = .ok (.iload 7, 2) := dk_21 7 (dk_at dksX10_extreme_2 20 rfl rfl)
theorem dX10_extreme_70 : decode cX10_extreme 70 = .ok (.invokestatic 72, 3) := dk_184 0 72 (dk_at dksX10_extreme_3 0 rfl rfl)
theorem dX10_extreme_73 : decode cX10_extreme 73 = .ok (.goto 9, 3) := dk_167 0 9 (dk_at dksX10_extreme_3 3 rfl rfl)
theorem dX10_extreme_76 : decode cX10_extreme 76 = .ok (.iload_n 3, 1) := dk_29 (dk_at dksX10_extreme_3 6 rfl rfl)
theorem dX10_extreme_77 : decode cX10_extreme 77 = .ok (.iload 7, 2) := dk_21 7 (dk_at dksX10_extreme_3 7 rfl rfl)
theorem dX10_extreme_79 : decode cX10_extreme 79 = .ok (.invokestatic 305, 3) := dk_184 1 49 (dk_at dksX10_extreme_3 9 rfl rfl)
theorem dX10_extreme_82 : decode cX10_extreme 82 = .ok (.istore_n 3, 1) := dk_62 (dk_at dksX10_extreme_3 12 rfl rfl)
theorem dX10_extreme_83 : decode cX10_extreme 83 = .ok (.iinc 5 1, 3) := dk_132 5 1 (dk_at dksX10_extreme_3 13 rfl rfl)
theorem dX10_extreme_86 : decode cX10_extreme 86 = .ok (.goto (-71), 3) := dk_167 255 185 (dk_at dksX10_extreme_3 16 rfl rfl)
theorem dX10_extreme_89 : decode cX10_extreme 89 = .ok (.iload_n 3, 1) := dk_29 (dk_at dksX10_extreme_3 19 rfl rfl)
theorem dX10_extreme_90 : decode cX10_extreme 90 = .ok (.ireturn, 1) := dk_172 (dk_at dksX10_extreme_3 20 rfl rfl)
abbrev cX10_rule : ByteArray := prog_17_method_76_code
def yX10_rule : MethodName := ⟨RX10, "rule", "(II)I"⟩
def dkwX10_rule_1 : List UInt8 := [167, 0, 4, 3, 182, 1, 43, 153, 0, 7, 3, 167, 0, 9, 42, 27, 28, 182, 1, 77, 172]
abbrev dktX10_rule_1 : List UInt8 := dkwX10_rule_1 ++ []
def dkwX10_rule_0 : List UInt8 := [42, 42, 27, 182, 1, 74, 154, 0, 7, 4, 167, 0, 4, 3, 28, 3, 8, 184, 0, 53, 154, 0, 7, 4]
abbrev dktX10_rule_0 : List UInt8 := dkwX10_rule_0 ++ dktX10_rule_1
theorem dksX10_rule_0 : cX10_rule.data.toList.drop 0 = dktX10_rule_0 := by decide +kernel
theorem dksX10_rule_1 : cX10_rule.data.toList.drop 24 = dktX10_rule_1 := dk_seg dksX10_rule_0 24 rfl rfl
theorem dX10_rule_0 : decode cX10_rule 0 = .ok (.aload_n 0, 1) := dk_42 (dk_at dksX10_rule_0 0 rfl rfl)
theorem dX10_rule_1 : decode cX10_rule 1 = .ok (.aload_n 0, 1) := dk_42 (dk_at dksX10_rule_0 1 rfl rfl)
theorem dX10_rule_2 : decode cX10_rule 2 = .ok (.iload_n 1, 1) := dk_27 (dk_at dksX10_rule_0 2 rfl rfl)
theorem dX10_rule_3 : decode cX10_rule 3 = .ok (.invokevirtual 330, 3) := dk_182 1 74 (dk_at dksX10_rule_0 3 rfl rfl)
theorem dX10_rule_6 : decode cX10_rule 6 = .ok (.ifCond .ne 7, 3) := dk_154 0 7 (dk_at dksX10_rule_0 6 rfl rfl)
theorem dX10_rule_9 : decode cX10_rule 9 = .ok (.iconst 1, 1) := dk_4 (dk_at dksX10_rule_0 9 rfl rfl)
theorem dX10_rule_10 : decode cX10_rule 10 = .ok (.goto 4, 3) := dk_167 0 4 (dk_at dksX10_rule_0 10 rfl rfl)
theorem dX10_rule_13 : decode cX10_rule 13 = .ok (.iconst 0, 1) := dk_3 (dk_at dksX10_rule_0 13 rfl rfl)
theorem dX10_rule_14 : decode cX10_rule 14 = .ok (.iload_n 2, 1) := dk_28 (dk_at dksX10_rule_0 14 rfl rfl)
theorem dX10_rule_15 : decode cX10_rule 15 = .ok (.iconst 0, 1) := dk_3 (dk_at dksX10_rule_0 15 rfl rfl)
theorem dX10_rule_16 : decode cX10_rule 16 = .ok (.iconst 5, 1) := dk_8 (dk_at dksX10_rule_0 16 rfl rfl)
theorem dX10_rule_17 : decode cX10_rule 17 = .ok (.invokestatic 53, 3) := dk_184 0 53 (dk_at dksX10_rule_0 17 rfl rfl)
theorem dX10_rule_20 : decode cX10_rule 20 = .ok (.ifCond .ne 7, 3) := dk_154 0 7 (dk_at dksX10_rule_0 20 rfl rfl)
theorem dX10_rule_23 : decode cX10_rule 23 = .ok (.iconst 1, 1) := dk_4 (dk_at dksX10_rule_0 23 rfl rfl)
theorem dX10_rule_24 : decode cX10_rule 24 = .ok (.goto 4, 3) := dk_167 0 4 (dk_at dksX10_rule_1 0 rfl rfl)
theorem dX10_rule_27 : decode cX10_rule 27 = .ok (.iconst 0, 1) := dk_3 (dk_at dksX10_rule_1 3 rfl rfl)
theorem dX10_rule_28 : decode cX10_rule 28 = .ok (.invokevirtual 299, 3) := dk_182 1 43 (dk_at dksX10_rule_1 4 rfl rfl)
theorem dX10_rule_31 : decode cX10_rule 31 = .ok (.ifCond .eq 7, 3) := dk_153 0 7 (dk_at dksX10_rule_1 7 rfl rfl)
theorem dX10_rule_34 : decode cX10_rule 34 = .ok (.iconst 0, 1) := dk_3 (dk_at dksX10_rule_1 10 rfl rfl)
theorem dX10_rule_35 : decode cX10_rule 35 = .ok (.goto 9, 3) := dk_167 0 9 (dk_at dksX10_rule_1 11 rfl rfl)
theorem dX10_rule_38 : decode cX10_rule 38 = .ok (.aload_n 0, 1) := dk_42 (dk_at dksX10_rule_1 14 rfl rfl)
theorem dX10_rule_39 : decode cX10_rule 39 = .ok (.iload_n 1, 1) := dk_27 (dk_at dksX10_rule_1 15 rfl rfl)
theorem dX10_rule_40 : decode cX10_rule 40 = .ok (.iload_n 2, 1) := dk_28 (dk_at dksX10_rule_1 16 rfl rfl)
theorem dX10_rule_41 : decode cX10_rule 41 = .ok (.invokevirtual 333, 3) := dk_182 1 77 (dk_at dksX10_rule_1 17 rfl rfl)
theorem dX10_rule_44 : decode cX10_rule 44 = .ok (.ireturn, 1) := dk_172 (dk_at dksX10_rule_1 20 rfl rfl)
abbrev cX10_isRule : ByteArray := prog_17_method_10_code
def yX10_isRule : MethodName := ⟨RX10, "isRule", "(I)Z"⟩
def dkwX10_isRule_0 : List UInt8 := [27, 3, 42, 180, 0, 7, 16, 17, 46, 4, 100, 184, 0, 53, 172]
abbrev dktX10_isRule_0 : List UInt8 := dkwX10_isRule_0 ++ []
theorem dksX10_isRule_0 : cX10_isRule.data.toList.drop 0 = dktX10_isRule_0 := by decide +kernel
theorem dX10_isRule_0 : decode cX10_isRule 0 = .ok (.iload_n 1, 1) := dk_27 (dk_at dksX10_isRule_0 0 rfl rfl)
theorem dX10_isRule_1 : decode cX10_isRule 1 = .ok (.iconst 0, 1) := dk_3 (dk_at dksX10_isRule_0 1 rfl rfl)
theorem dX10_isRule_2 : decode cX10_isRule 2 = .ok (.aload_n 0, 1) := dk_42 (dk_at dksX10_isRule_0 2 rfl rfl)
theorem dX10_isRule_3 : decode cX10_isRule 3 = .ok (.getfield 7, 3) := dk_180 0 7 (dk_at dksX10_isRule_0 3 rfl rfl)
theorem dX10_isRule_6 : decode cX10_isRule 6 = .ok (.bipush 17, 2) := dk_16 17 (dk_at dksX10_isRule_0 6 rfl rfl)
theorem dX10_isRule_8 : decode cX10_isRule 8 = .ok (.iaload, 1) := dk_46 (dk_at dksX10_isRule_0 8 rfl rfl)
theorem dX10_isRule_9 : decode cX10_isRule 9 = .ok (.iconst 1, 1) := dk_4 (dk_at dksX10_isRule_0 9 rfl rfl)
theorem dX10_isRule_10 : decode cX10_isRule 10 = .ok (.isub, 1) := dk_100 (dk_at dksX10_isRule_0 10 rfl rfl)
theorem dX10_isRule_11 : decode cX10_isRule 11 = .ok (.invokestatic 53, 3) := dk_184 0 53 (dk_at dksX10_isRule_0 11 rfl rfl)
theorem dX10_isRule_14 : decode cX10_isRule 14 = .ok (.ireturn, 1) := dk_172 (dk_at dksX10_isRule_0 14 rfl rfl)
abbrev cX10_ruleTold : ByteArray := prog_17_method_75_code
def yX10_ruleTold : MethodName := ⟨RX10, "ruleTold", "(II)I"⟩
def dkwX10_ruleTold_3 : List UInt8 := [182, 1, 71, 172]
abbrev dktX10_ruleTold_3 : List UInt8 := dkwX10_ruleTold_3 ++ []
def dkwX10_ruleTold_2 : List UInt8 := [42, 27, 182, 1, 65, 172, 42, 27, 16, 33, 182, 0, 69, 172, 42, 27, 182, 1, 68, 172, 42, 27, 28]
abbrev dktX10_ruleTold_2 : List UInt8 := dkwX10_ruleTold_2 ++ dktX10_ruleTold_3
def dkwX10_ruleTold_1 : List UInt8 := [170, 0, 0, 0, 0, 0, 47, 0, 0, 0, 3, 0, 0, 0, 5, 0, 0, 0, 27, 0, 0, 0, 33, 0, 0, 0, 41]
abbrev dktX10_ruleTold_1 : List UInt8 := dkwX10_ruleTold_1 ++ dktX10_ruleTold_2
def dkwX10_ruleTold_0 : List UInt8 := [28]
abbrev dktX10_ruleTold_0 : List UInt8 := dkwX10_ruleTold_0 ++ dktX10_ruleTold_1
theorem dksX10_ruleTold_0 : cX10_ruleTold.data.toList.drop 0 = dktX10_ruleTold_0 := by decide +kernel
theorem dksX10_ruleTold_1 : cX10_ruleTold.data.toList.drop 1 = dktX10_ruleTold_1 := dk_seg dksX10_ruleTold_0 1 rfl rfl
theorem dksX10_ruleTold_2 : cX10_ruleTold.data.toList.drop 28 = dktX10_ruleTold_2 := dk_seg dksX10_ruleTold_1 27 rfl rfl
theorem dksX10_ruleTold_3 : cX10_ruleTold.data.toList.drop 51 = dktX10_ruleTold_3 := dk_seg dksX10_ruleTold_2 23 rfl rfl
theorem dX10_ruleTold_0 : decode cX10_ruleTold 0 = .ok (.iload_n 2, 1) := dk_28 (dk_at dksX10_ruleTold_0 0 rfl rfl)
theorem dX10_ruleTold_1 : decode cX10_ruleTold 1 = .ok (.tableswitch 47 3 5 #[27, 33, 41], 27) := by decide +kernel
theorem dX10_ruleTold_28 : decode cX10_ruleTold 28 = .ok (.aload_n 0, 1) := dk_42 (dk_at dksX10_ruleTold_2 0 rfl rfl)
theorem dX10_ruleTold_29 : decode cX10_ruleTold 29 = .ok (.iload_n 1, 1) := dk_27 (dk_at dksX10_ruleTold_2 1 rfl rfl)
theorem dX10_ruleTold_30 : decode cX10_ruleTold 30 = .ok (.invokevirtual 321, 3) := dk_182 1 65 (dk_at dksX10_ruleTold_2 2 rfl rfl)
theorem dX10_ruleTold_33 : decode cX10_ruleTold 33 = .ok (.ireturn, 1) := dk_172 (dk_at dksX10_ruleTold_2 5 rfl rfl)
theorem dX10_ruleTold_34 : decode cX10_ruleTold 34 = .ok (.aload_n 0, 1) := dk_42 (dk_at dksX10_ruleTold_2 6 rfl rfl)
theorem dX10_ruleTold_35 : decode cX10_ruleTold 35 = .ok (.iload_n 1, 1) := dk_27 (dk_at dksX10_ruleTold_2 7 rfl rfl)
theorem dX10_ruleTold_36 : decode cX10_ruleTold 36 = .ok (.bipush 33, 2) := dk_16 33 (dk_at dksX10_ruleTold_2 8 rfl rfl)
theorem dX10_ruleTold_38 : decode cX10_ruleTold 38 = .ok (.invokevirtual 69, 3) := dk_182 0 69 (dk_at dksX10_ruleTold_2 10 rfl rfl)
theorem dX10_ruleTold_41 : decode cX10_ruleTold 41 = .ok (.ireturn, 1) := dk_172 (dk_at dksX10_ruleTold_2 13 rfl rfl)
theorem dX10_ruleTold_42 : decode cX10_ruleTold 42 = .ok (.aload_n 0, 1) := dk_42 (dk_at dksX10_ruleTold_2 14 rfl rfl)
theorem dX10_ruleTold_43 : decode cX10_ruleTold 43 = .ok (.iload_n 1, 1) := dk_27 (dk_at dksX10_ruleTold_2 15 rfl rfl)
theorem dX10_ruleTold_44 : decode cX10_ruleTold 44 = .ok (.invokevirtual 324, 3) := dk_182 1 68 (dk_at dksX10_ruleTold_2 16 rfl rfl)
theorem dX10_ruleTold_47 : decode cX10_ruleTold 47 = .ok (.ireturn, 1) := dk_172 (dk_at dksX10_ruleTold_2 19 rfl rfl)
theorem dX10_ruleTold_48 : decode cX10_ruleTold 48 = .ok (.aload_n 0, 1) := dk_42 (dk_at dksX10_ruleTold_2 20 rfl rfl)
theorem dX10_ruleTold_49 : decode cX10_ruleTold 49 = .ok (.iload_n 1, 1) := dk_27 (dk_at dksX10_ruleTold_2 21 rfl rfl)
theorem dX10_ruleTold_50 : decode cX10_ruleTold 50 = .ok (.iload_n 2, 1) := dk_28 (dk_at dksX10_ruleTold_2 22 rfl rfl)
theorem dX10_ruleTold_51 : decode cX10_ruleTold 51 = .ok (.invokevirtual 327, 3) := dk_182 1 71 (dk_at dksX10_ruleTold_3 0 rfl rfl)
theorem dX10_ruleTold_54 : decode cX10_ruleTold 54 = .ok (.ireturn, 1) := dk_172 (dk_at dksX10_ruleTold_3 3 rfl rfl)
abbrev cX10_comparisons : ByteArray := prog_17_method_20_code
def yX10_comparisons : MethodName := ⟨RX10, "comparisons", "(I)I"⟩
def dkwX10_comparisons_1 : List UInt8 := [161, 0, 7, 4, 167, 0, 4, 3, 96, 61, 132, 3, 1, 167, 255, 223, 28, 172]
abbrev dktX10_comparisons_1 : List UInt8 := dkwX10_comparisons_1 ++ []
def dkwX10_comparisons_0 : List UInt8 := [3, 61, 3, 62, 29, 42, 27, 3, 182, 0, 69, 162, 0, 29, 28, 42, 27, 4, 29, 96, 182, 0, 69, 7]
abbrev dktX10_comparisons_0 : List UInt8 := dkwX10_comparisons_0 ++ dktX10_comparisons_1
theorem dksX10_comparisons_0 : cX10_comparisons.data.toList.drop 0 = dktX10_comparisons_0 := by decide +kernel
theorem dksX10_comparisons_1 : cX10_comparisons.data.toList.drop 24 = dktX10_comparisons_1 := dk_seg dksX10_comparisons_0 24 rfl rfl
theorem dX10_comparisons_0 : decode cX10_comparisons 0 = .ok (.iconst 0, 1) := dk_3 (dk_at dksX10_comparisons_0 0 rfl rfl)
theorem dX10_comparisons_1 : decode cX10_comparisons 1 = .ok (.istore_n 2, 1) := dk_61 (dk_at dksX10_comparisons_0 1 rfl rfl)
theorem dX10_comparisons_2 : decode cX10_comparisons 2 = .ok (.iconst 0, 1) := dk_3 (dk_at dksX10_comparisons_0 2 rfl rfl)
theorem dX10_comparisons_3 : decode cX10_comparisons 3 = .ok (.istore_n 3, 1) := dk_62 (dk_at dksX10_comparisons_0 3 rfl rfl)
theorem dX10_comparisons_4 : decode cX10_comparisons 4 = .ok (.iload_n 3, 1) := dk_29 (dk_at dksX10_comparisons_0 4 rfl rfl)
theorem dX10_comparisons_5 : decode cX10_comparisons 5 = .ok (.aload_n 0, 1) := dk_42 (dk_at dksX10_comparisons_0 5 rfl rfl)
theorem dX10_comparisons_6 : decode cX10_comparisons 6 = .ok (.iload_n 1, 1) := dk_27 (dk_at dksX10_comparisons_0 6 rfl rfl)
theorem dX10_comparisons_7 : decode cX10_comparisons 7 = .ok (.iconst 0, 1) := dk_3 (dk_at dksX10_comparisons_0 7 rfl rfl)
theorem dX10_comparisons_8 : decode cX10_comparisons 8 = .ok (.invokevirtual 69, 3) := dk_182 0 69 (dk_at dksX10_comparisons_0 8 rfl rfl)
theorem dX10_comparisons_11 : decode cX10_comparisons 11 = .ok (.if_icmp .ge 29, 3) := dk_162 0 29 (dk_at dksX10_comparisons_0 11 rfl rfl)
theorem dX10_comparisons_14 : decode cX10_comparisons 14 = .ok (.iload_n 2, 1) := dk_28 (dk_at dksX10_comparisons_0 14 rfl rfl)
theorem dX10_comparisons_15 : decode cX10_comparisons 15 = .ok (.aload_n 0, 1) := dk_42 (dk_at dksX10_comparisons_0 15 rfl rfl)
theorem dX10_comparisons_16 : decode cX10_comparisons 16 = .ok (.iload_n 1, 1) := dk_27 (dk_at dksX10_comparisons_0 16 rfl rfl)
theorem dX10_comparisons_17 : decode cX10_comparisons 17 = .ok (.iconst 1, 1) := dk_4 (dk_at dksX10_comparisons_0 17 rfl rfl)
theorem dX10_comparisons_18 : decode cX10_comparisons 18 = .ok (.iload_n 3, 1) := dk_29 (dk_at dksX10_comparisons_0 18 rfl rfl)
theorem dX10_comparisons_19 : decode cX10_comparisons 19 = .ok (.iadd, 1) := dk_96 (dk_at dksX10_comparisons_0 19 rfl rfl)
theorem dX10_comparisons_20 : decode cX10_comparisons 20 = .ok (.invokevirtual 69, 3) := dk_182 0 69 (dk_at dksX10_comparisons_0 20 rfl rfl)
theorem dX10_comparisons_23 : decode cX10_comparisons 23 = .ok (.iconst 4, 1) := dk_7 (dk_at dksX10_comparisons_0 23 rfl rfl)
theorem dX10_comparisons_24 : decode cX10_comparisons 24 = .ok (.if_icmp .lt 7, 3) := dk_161 0 7 (dk_at dksX10_comparisons_1 0 rfl rfl)
theorem dX10_comparisons_27 : decode cX10_comparisons 27 = .ok (.iconst 1, 1) := dk_4 (dk_at dksX10_comparisons_1 3 rfl rfl)
theorem dX10_comparisons_28 : decode cX10_comparisons 28 = .ok (.goto 4, 3) := dk_167 0 4 (dk_at dksX10_comparisons_1 4 rfl rfl)
theorem dX10_comparisons_31 : decode cX10_comparisons 31 = .ok (.iconst 0, 1) := dk_3 (dk_at dksX10_comparisons_1 7 rfl rfl)
theorem dX10_comparisons_32 : decode cX10_comparisons 32 = .ok (.iadd, 1) := dk_96 (dk_at dksX10_comparisons_1 8 rfl rfl)
theorem dX10_comparisons_33 : decode cX10_comparisons 33 = .ok (.istore_n 2, 1) := dk_61 (dk_at dksX10_comparisons_1 9 rfl rfl)
theorem dX10_comparisons_34 : decode cX10_comparisons 34 = .ok (.iinc 3 1, 3) := dk_132 3 1 (dk_at dksX10_comparisons_1 10 rfl rfl)
theorem dX10_comparisons_37 : decode cX10_comparisons 37 = .ok (.goto (-33), 3) := dk_167 255 223 (dk_at dksX10_comparisons_1 13 rfl rfl)
theorem dX10_comparisons_40 : decode cX10_comparisons 40 = .ok (.iload_n 2, 1) := dk_28 (dk_at dksX10_comparisons_1 16 rfl rfl)
theorem dX10_comparisons_41 : decode cX10_comparisons 41 = .ok (.ireturn, 1) := dk_172 (dk_at dksX10_comparisons_1 17 rfl rfl)
abbrev cX10_overIt : ByteArray := prog_17_method_74_code
def yX10_overIt : MethodName := ⟨RX10, "overIt", "(I)I"⟩
def dkwX10_overIt_1 : List UInt8 := [184, 0, 49, 153, 0, 9, 4, 29, 120, 167, 0, 4, 3, 128, 61, 132, 3, 1, 167, 255, 218, 28, 172]
abbrev dktX10_overIt_1 : List UInt8 := dkwX10_overIt_1 ++ []
def dkwX10_overIt_0 : List UInt8 := [3, 61, 3, 62, 29, 42, 180, 0, 7, 16, 17, 46, 162, 0, 33, 28, 42, 29, 16, 33, 182, 0, 69, 27]
abbrev dktX10_overIt_0 : List UInt8 := dkwX10_overIt_0 ++ dktX10_overIt_1
theorem dksX10_overIt_0 : cX10_overIt.data.toList.drop 0 = dktX10_overIt_0 := by decide +kernel
theorem dksX10_overIt_1 : cX10_overIt.data.toList.drop 24 = dktX10_overIt_1 := dk_seg dksX10_overIt_0 24 rfl rfl
theorem dX10_overIt_0 : decode cX10_overIt 0 = .ok (.iconst 0, 1) := dk_3 (dk_at dksX10_overIt_0 0 rfl rfl)
theorem dX10_overIt_1 : decode cX10_overIt 1 = .ok (.istore_n 2, 1) := dk_61 (dk_at dksX10_overIt_0 1 rfl rfl)
theorem dX10_overIt_2 : decode cX10_overIt 2 = .ok (.iconst 0, 1) := dk_3 (dk_at dksX10_overIt_0 2 rfl rfl)
theorem dX10_overIt_3 : decode cX10_overIt 3 = .ok (.istore_n 3, 1) := dk_62 (dk_at dksX10_overIt_0 3 rfl rfl)
theorem dX10_overIt_4 : decode cX10_overIt 4 = .ok (.iload_n 3, 1) := dk_29 (dk_at dksX10_overIt_0 4 rfl rfl)
theorem dX10_overIt_5 : decode cX10_overIt 5 = .ok (.aload_n 0, 1) := dk_42 (dk_at dksX10_overIt_0 5 rfl rfl)
theorem dX10_overIt_6 : decode cX10_overIt 6 = .ok (.getfield 7, 3) := dk_180 0 7 (dk_at dksX10_overIt_0 6 rfl rfl)
theorem dX10_overIt_9 : decode cX10_overIt 9 = .ok (.bipush 17, 2) := dk_16 17 (dk_at dksX10_overIt_0 9 rfl rfl)
theorem dX10_overIt_11 : decode cX10_overIt 11 = .ok (.iaload, 1) := dk_46 (dk_at dksX10_overIt_0 11 rfl rfl)
theorem dX10_overIt_12 : decode cX10_overIt 12 = .ok (.if_icmp .ge 33, 3) := dk_162 0 33 (dk_at dksX10_overIt_0 12 rfl rfl)
theorem dX10_overIt_15 : decode cX10_overIt 15 = .ok (.iload_n 2, 1) := dk_28 (dk_at dksX10_overIt_0 15 rfl rfl)
theorem dX10_overIt_16 : decode cX10_overIt 16 = .ok (.aload_n 0, 1) := dk_42 (dk_at dksX10_overIt_0 16 rfl rfl)
theorem dX10_overIt_17 : decode cX10_overIt 17 = .ok (.iload_n 3, 1) := dk_29 (dk_at dksX10_overIt_0 17 rfl rfl)
theorem dX10_overIt_18 : decode cX10_overIt 18 = .ok (.bipush 33, 2) := dk_16 33 (dk_at dksX10_overIt_0 18 rfl rfl)
theorem dX10_overIt_20 : decode cX10_overIt 20 = .ok (.invokevirtual 69, 3) := dk_182 0 69 (dk_at dksX10_overIt_0 20 rfl rfl)
theorem dX10_overIt_23 : decode cX10_overIt 23 = .ok (.iload_n 1, 1) := dk_27 (dk_at dksX10_overIt_0 23 rfl rfl)
theorem dX10_overIt_24 : decode cX10_overIt 24 = .ok (.invokestatic 49, 3) := dk_184 0 49 (dk_at dksX10_overIt_1 0 rfl rfl)
theorem dX10_overIt_27 : decode cX10_overIt 27 = .ok (.ifCond .eq 9, 3) := dk_153 0 9 (dk_at dksX10_overIt_1 3 rfl rfl)
theorem dX10_overIt_30 : decode cX10_overIt 30 = .ok (.iconst 1, 1) := dk_4 (dk_at dksX10_overIt_1 6 rfl rfl)
theorem dX10_overIt_31 : decode cX10_overIt 31 = .ok (.iload_n 3, 1) := dk_29 (dk_at dksX10_overIt_1 7 rfl rfl)
theorem dX10_overIt_32 : decode cX10_overIt 32 = .ok (.ishl, 1) := dk_120 (dk_at dksX10_overIt_1 8 rfl rfl)
theorem dX10_overIt_33 : decode cX10_overIt 33 = .ok (.goto 4, 3) := dk_167 0 4 (dk_at dksX10_overIt_1 9 rfl rfl)
theorem dX10_overIt_36 : decode cX10_overIt 36 = .ok (.iconst 0, 1) := dk_3 (dk_at dksX10_overIt_1 12 rfl rfl)
theorem dX10_overIt_37 : decode cX10_overIt 37 = .ok (.ior, 1) := dk_128 (dk_at dksX10_overIt_1 13 rfl rfl)
theorem dX10_overIt_38 : decode cX10_overIt 38 = .ok (.istore_n 2, 1) := dk_61 (dk_at dksX10_overIt_1 14 rfl rfl)
theorem dX10_overIt_39 : decode cX10_overIt 39 = .ok (.iinc 3 1, 3) := dk_132 3 1 (dk_at dksX10_overIt_1 15 rfl rfl)
theorem dX10_overIt_42 : decode cX10_overIt 42 = .ok (.goto (-38), 3) := dk_167 255 218 (dk_at dksX10_overIt_1 18 rfl rfl)
theorem dX10_overIt_45 : decode cX10_overIt 45 = .ok (.iload_n 2, 1) := dk_28 (dk_at dksX10_overIt_1 21 rfl rfl)
theorem dX10_overIt_46 : decode cX10_overIt 46 = .ok (.ireturn, 1) := dk_172 (dk_at dksX10_overIt_1 22 rfl rfl)
abbrev cX10_manyOf : ByteArray := prog_17_method_73_code
def yX10_manyOf : MethodName := ⟨RX10, "manyOf", "(II)I"⟩
def dkwX10_manyOf_4 : List UInt8 := [54, 7, 29, 21, 7, 153, 0, 7, 4, 167, 0, 4, 3, 96, 62, 132, 5, 1, 167, 255, 159, 29, 172]
abbrev dktX10_manyOf_4 : List UInt8 := dkwX10_manyOf_4 ++ []
def dkwX10_manyOf_3 : List UInt8 := [184, 0, 49, 153, 0, 20, 42, 21, 6, 182, 0, 86, 27, 184, 0, 49, 154, 0, 7, 4, 167, 0, 4, 3]
abbrev dktX10_manyOf_3 : List UInt8 := dkwX10_manyOf_3 ++ dktX10_manyOf_4
def dkwX10_manyOf_2 : List UInt8 := [160, 0, 21, 42, 21, 6, 182, 1, 46, 27, 160, 0, 7, 4, 167, 0, 34, 3, 167, 0, 30, 21, 6, 27]
abbrev dktX10_manyOf_2 : List UInt8 := dkwX10_manyOf_2 ++ dktX10_manyOf_3
def dkwX10_manyOf_1 : List UInt8 := [180, 0, 38, 21, 5, 46, 54, 6, 28, 154, 0, 12, 21, 6, 27, 184, 0, 49, 167, 0, 53, 28, 4]
abbrev dktX10_manyOf_1 : List UInt8 := dkwX10_manyOf_1 ++ dktX10_manyOf_2
def dkwX10_manyOf_0 : List UInt8 := [42, 182, 1, 34, 3, 62, 42, 182, 0, 61, 54, 4, 3, 54, 5, 21, 5, 21, 4, 162, 0, 96, 42]
abbrev dktX10_manyOf_0 : List UInt8 := dkwX10_manyOf_0 ++ dktX10_manyOf_1
theorem dksX10_manyOf_0 : cX10_manyOf.data.toList.drop 0 = dktX10_manyOf_0 := by decide +kernel
theorem dksX10_manyOf_1 : cX10_manyOf.data.toList.drop 23 = dktX10_manyOf_1 := dk_seg dksX10_manyOf_0 23 rfl rfl
theorem dksX10_manyOf_2 : cX10_manyOf.data.toList.drop 46 = dktX10_manyOf_2 := dk_seg dksX10_manyOf_1 23 rfl rfl
theorem dksX10_manyOf_3 : cX10_manyOf.data.toList.drop 70 = dktX10_manyOf_3 := dk_seg dksX10_manyOf_2 24 rfl rfl
theorem dksX10_manyOf_4 : cX10_manyOf.data.toList.drop 94 = dktX10_manyOf_4 := dk_seg dksX10_manyOf_3 24 rfl rfl
theorem dX10_manyOf_0 : decode cX10_manyOf 0 = .ok (.aload_n 0, 1) := dk_42 (dk_at dksX10_manyOf_0 0 rfl rfl)
theorem dX10_manyOf_1 : decode cX10_manyOf 1 = .ok (.invokevirtual 290, 3) := dk_182 1 34 (dk_at dksX10_manyOf_0 1 rfl rfl)
theorem dX10_manyOf_4 : decode cX10_manyOf 4 = .ok (.iconst 0, 1) := dk_3 (dk_at dksX10_manyOf_0 4 rfl rfl)
theorem dX10_manyOf_5 : decode cX10_manyOf 5 = .ok (.istore_n 3, 1) := dk_62 (dk_at dksX10_manyOf_0 5 rfl rfl)
theorem dX10_manyOf_6 : decode cX10_manyOf 6 = .ok (.aload_n 0, 1) := dk_42 (dk_at dksX10_manyOf_0 6 rfl rfl)
theorem dX10_manyOf_7 : decode cX10_manyOf 7 = .ok (.invokevirtual 61, 3) := dk_182 0 61 (dk_at dksX10_manyOf_0 7 rfl rfl)
theorem dX10_manyOf_10 : decode cX10_manyOf 10 = .ok (.istore 4, 2) := dk_54 4 (dk_at dksX10_manyOf_0 10 rfl rfl)
theorem dX10_manyOf_12 : decode cX10_manyOf 12 = .ok (.iconst 0, 1) := dk_3 (dk_at dksX10_manyOf_0 12 rfl rfl)
theorem dX10_manyOf_13 : decode cX10_manyOf 13 = .ok (.istore 5, 2) := dk_54 5 (dk_at dksX10_manyOf_0 13 rfl rfl)
theorem dX10_manyOf_15 : decode cX10_manyOf 15 = .ok (.iload 5, 2) := dk_21 5 (dk_at dksX10_manyOf_0 15 rfl rfl)
theorem dX10_manyOf_17 : decode cX10_manyOf 17 = .ok (.iload 4, 2) := dk_21 4 (dk_at dksX10_manyOf_0 17 rfl rfl)
theorem dX10_manyOf_19 : decode cX10_manyOf 19 = .ok (.if_icmp .ge 96, 3) := dk_162 0 96 (dk_at dksX10_manyOf_0 19 rfl rfl)
theorem dX10_manyOf_22 : decode cX10_manyOf 22 = .ok (.aload_n 0, 1) := dk_42 (dk_at dksX10_manyOf_0 22 rfl rfl)
theorem dX10_manyOf_23 : decode cX10_manyOf 23 = .ok (.getfield 38, 3) := dk_180 0 38 (dk_at dksX10_manyOf_1 0 rfl rfl)
theorem dX10_manyOf_26 : decode cX10_manyOf 26 = .ok (.iload 5, 2) := dk_21 5 (dk_at dksX10_manyOf_1 3 rfl rfl)
theorem dX10_manyOf_28 : decode cX10_manyOf 28 = .ok (.iaload, 1) := dk_46 (dk_at dksX10_manyOf_1 5 rfl rfl)
theorem dX10_manyOf_29 : decode cX10_manyOf 29 = .ok (.istore 6, 2) := dk_54 6 (dk_at dksX10_manyOf_1 6 rfl rfl)
theorem dX10_manyOf_31 : decode cX10_manyOf 31 = .ok (.iload_n 2, 1) := dk_28 (dk_at dksX10_manyOf_1 8 rfl rfl)
theorem dX10_manyOf_32 : decode cX10_manyOf 32 = .ok (.ifCond .ne 12, 3) := dk_154 0 12 (dk_at dksX10_manyOf_1 9 rfl rfl)
theorem dX10_manyOf_35 : decode cX10_manyOf 35 = .ok (.iload 6, 2) := dk_21 6 (dk_at dksX10_manyOf_1 12 rfl rfl)
theorem dX10_manyOf_37 : decode cX10_manyOf 37 = .ok (.iload_n 1, 1) := dk_27 (dk_at dksX10_manyOf_1 14 rfl rfl)
theorem dX10_manyOf_38 : decode cX10_manyOf 38 = .ok (.invokestatic 49, 3) := dk_184 0 49 (dk_at dksX10_manyOf_1 15 rfl rfl)
theorem dX10_manyOf_41 : decode cX10_manyOf 41 = .ok (.goto 53, 3) := dk_167 0 53 (dk_at dksX10_manyOf_1 18 rfl rfl)
theorem dX10_manyOf_44 : decode cX10_manyOf 44 = .ok (.iload_n 2, 1) := dk_28 (dk_at dksX10_manyOf_1 21 rfl rfl)
theorem dX10_manyOf_45 : decode cX10_manyOf 45 = .ok (.iconst 1, 1) := dk_4 (dk_at dksX10_manyOf_1 22 rfl rfl)
theorem dX10_manyOf_46 : decode cX10_manyOf 46 = .ok (.if_icmp .ne 21, 3) := dk_160 0 21 (dk_at dksX10_manyOf_2 0 rfl rfl)
theorem dX10_manyOf_49 : decode cX10_manyOf 49 = .ok (.aload_n 0, 1) := dk_42 (dk_at dksX10_manyOf_2 3 rfl rfl)
theorem dX10_manyOf_50 : decode cX10_manyOf 50 = .ok (.iload 6, 2) := dk_21 6 (dk_at dksX10_manyOf_2 4 rfl rfl)
theorem dX10_manyOf_52 : decode cX10_manyOf 52 = .ok (.invokevirtual 302, 3) := dk_182 1 46 (dk_at dksX10_manyOf_2 6 rfl rfl)
theorem dX10_manyOf_55 : decode cX10_manyOf 55 = .ok (.iload_n 1, 1) := dk_27 (dk_at dksX10_manyOf_2 9 rfl rfl)
theorem dX10_manyOf_56 : decode cX10_manyOf 56 = .ok (.if_icmp .ne 7, 3) := dk_160 0 7 (dk_at dksX10_manyOf_2 10 rfl rfl)
theorem dX10_manyOf_59 : decode cX10_manyOf 59 = .ok (.iconst 1, 1) := dk_4 (dk_at dksX10_manyOf_2 13 rfl rfl)
theorem dX10_manyOf_60 : decode cX10_manyOf 60 = .ok (.goto 34, 3) := dk_167 0 34 (dk_at dksX10_manyOf_2 14 rfl rfl)
theorem dX10_manyOf_63 : decode cX10_manyOf 63 = .ok (.iconst 0, 1) := dk_3 (dk_at dksX10_manyOf_2 17 rfl rfl)
theorem dX10_manyOf_64 : decode cX10_manyOf 64 = .ok (.goto 30, 3) := dk_167 0 30 (dk_at dksX10_manyOf_2 18 rfl rfl)
theorem dX10_manyOf_67 : decode cX10_manyOf 67 = .ok (.iload 6, 2) := dk_21 6 (dk_at dksX10_manyOf_2 21 rfl rfl)
theorem dX10_manyOf_69 : decode cX10_manyOf 69 = .ok (.iload_n 1, 1) := dk_27 (dk_at dksX10_manyOf_2 23 rfl rfl)
theorem dX10_manyOf_70 : decode cX10_manyOf 70 = .ok (.invokestatic 49, 3) := dk_184 0 49 (dk_at dksX10_manyOf_3 0 rfl rfl)
theorem dX10_manyOf_73 : decode cX10_manyOf 73 = .ok (.ifCond .eq 20, 3) := dk_153 0 20 (dk_at dksX10_manyOf_3 3 rfl rfl)
theorem dX10_manyOf_76 : decode cX10_manyOf 76 = .ok (.aload_n 0, 1) := dk_42 (dk_at dksX10_manyOf_3 6 rfl rfl)
theorem dX10_manyOf_77 : decode cX10_manyOf 77 = .ok (.iload 6, 2) := dk_21 6 (dk_at dksX10_manyOf_3 7 rfl rfl)
theorem dX10_manyOf_79 : decode cX10_manyOf 79 = .ok (.invokevirtual 86, 3) := dk_182 0 86 (dk_at dksX10_manyOf_3 9 rfl rfl)
theorem dX10_manyOf_82 : decode cX10_manyOf 82 = .ok (.iload_n 1, 1) := dk_27 (dk_at dksX10_manyOf_3 12 rfl rfl)
theorem dX10_manyOf_83 : decode cX10_manyOf 83 = .ok (.invokestatic 49, 3) := dk_184 0 49 (dk_at dksX10_manyOf_3 13 rfl rfl)
theorem dX10_manyOf_86 : decode cX10_manyOf 86 = .ok (.ifCond .ne 7, 3) := dk_154 0 7 (dk_at dksX10_manyOf_3 16 rfl rfl)
theorem dX10_manyOf_89 : decode cX10_manyOf 89 = .ok (.iconst 1, 1) := dk_4 (dk_at dksX10_manyOf_3 19 rfl rfl)
theorem dX10_manyOf_90 : decode cX10_manyOf 90 = .ok (.goto 4, 3) := dk_167 0 4 (dk_at dksX10_manyOf_3 20 rfl rfl)
theorem dX10_manyOf_93 : decode cX10_manyOf 93 = .ok (.iconst 0, 1) := dk_3 (dk_at dksX10_manyOf_3 23 rfl rfl)
theorem dX10_manyOf_94 : decode cX10_manyOf 94 = .ok (.istore 7, 2) := dk_54 7 (dk_at dksX10_manyOf_4 0 rfl rfl)
theorem dX10_manyOf_96 : decode cX10_manyOf 96 = .ok (.iload_n 3, 1) := dk_29 (dk_at dksX10_manyOf_4 2 rfl rfl)
theorem dX10_manyOf_97 : decode cX10_manyOf 97 = .ok (.iload 7, 2) := dk_21 7 (dk_at dksX10_manyOf_4 3 rfl rfl)
theorem dX10_manyOf_99 : decode cX10_manyOf 99 = .ok (.ifCond .eq 7, 3) := dk_153 0 7 (dk_at dksX10_manyOf_4 5 rfl rfl)
theorem dX10_manyOf_102 : decode cX10_manyOf 102 = .ok (.iconst 1, 1) := dk_4 (dk_at dksX10_manyOf_4 8 rfl rfl)
theorem dX10_manyOf_103 : decode cX10_manyOf 103 = .ok (.goto 4, 3) := dk_167 0 4 (dk_at dksX10_manyOf_4 9 rfl rfl)
theorem dX10_manyOf_106 : decode cX10_manyOf 106 = .ok (.iconst 0, 1) := dk_3 (dk_at dksX10_manyOf_4 12 rfl rfl)
theorem dX10_manyOf_107 : decode cX10_manyOf 107 = .ok (.iadd, 1) := dk_96 (dk_at dksX10_manyOf_4 13 rfl rfl)
theorem dX10_manyOf_108 : decode cX10_manyOf 108 = .ok (.istore_n 3, 1) := dk_62 (dk_at dksX10_manyOf_4 14 rfl rfl)
theorem dX10_manyOf_109 : decode cX10_manyOf 109 = .ok (.iinc 5 1, 3) := dk_132 5 1 (dk_at dksX10_manyOf_4 15 rfl rfl)
theorem dX10_manyOf_112 : decode cX10_manyOf 112 = .ok (.goto (-97), 3) := dk_167 255 159 (dk_at dksX10_manyOf_4 18 rfl rfl)
theorem dX10_manyOf_115 : decode cX10_manyOf 115 = .ok (.iload_n 3, 1) := dk_29 (dk_at dksX10_manyOf_4 21 rfl rfl)
theorem dX10_manyOf_116 : decode cX10_manyOf 116 = .ok (.ireturn, 1) := dk_172 (dk_at dksX10_manyOf_4 22 rfl rfl)
abbrev cX10_share : ByteArray := prog_17_method_78_code
def yX10_share : MethodName := ⟨RX10, "share", "(IIZ)I"⟩
def dkwX10_share_1 : List UInt8 := [182, 1, 24, 153, 0, 7, 3, 167, 0, 10, 42, 27, 28, 29, 182, 1, 80, 172]
abbrev dktX10_share_1 : List UInt8 := dkwX10_share_1 ++ []
def dkwX10_share_0 : List UInt8 := [42, 42, 27, 182, 1, 74, 153, 0, 11, 42, 28, 182, 1, 59, 154, 0, 7, 4, 167, 0, 4, 3]
abbrev dktX10_share_0 : List UInt8 := dkwX10_share_0 ++ dktX10_share_1
theorem dksX10_share_0 : cX10_share.data.toList.drop 0 = dktX10_share_0 := by decide +kernel
theorem dksX10_share_1 : cX10_share.data.toList.drop 22 = dktX10_share_1 := dk_seg dksX10_share_0 22 rfl rfl
theorem dX10_share_0 : decode cX10_share 0 = .ok (.aload_n 0, 1) := dk_42 (dk_at dksX10_share_0 0 rfl rfl)
theorem dX10_share_1 : decode cX10_share 1 = .ok (.aload_n 0, 1) := dk_42 (dk_at dksX10_share_0 1 rfl rfl)
theorem dX10_share_2 : decode cX10_share 2 = .ok (.iload_n 1, 1) := dk_27 (dk_at dksX10_share_0 2 rfl rfl)
theorem dX10_share_3 : decode cX10_share 3 = .ok (.invokevirtual 330, 3) := dk_182 1 74 (dk_at dksX10_share_0 3 rfl rfl)
theorem dX10_share_6 : decode cX10_share 6 = .ok (.ifCond .eq 11, 3) := dk_153 0 11 (dk_at dksX10_share_0 6 rfl rfl)
theorem dX10_share_9 : decode cX10_share 9 = .ok (.aload_n 0, 1) := dk_42 (dk_at dksX10_share_0 9 rfl rfl)
theorem dX10_share_10 : decode cX10_share 10 = .ok (.iload_n 2, 1) := dk_28 (dk_at dksX10_share_0 10 rfl rfl)
theorem dX10_share_11 : decode cX10_share 11 = .ok (.invokevirtual 315, 3) := dk_182 1 59 (dk_at dksX10_share_0 11 rfl rfl)
theorem dX10_share_14 : decode cX10_share 14 = .ok (.ifCond .ne 7, 3) := dk_154 0 7 (dk_at dksX10_share_0 14 rfl rfl)
theorem dX10_share_17 : decode cX10_share 17 = .ok (.iconst 1, 1) := dk_4 (dk_at dksX10_share_0 17 rfl rfl)
theorem dX10_share_18 : decode cX10_share 18 = .ok (.goto 4, 3) := dk_167 0 4 (dk_at dksX10_share_0 18 rfl rfl)
theorem dX10_share_21 : decode cX10_share 21 = .ok (.iconst 0, 1) := dk_3 (dk_at dksX10_share_0 21 rfl rfl)
theorem dX10_share_22 : decode cX10_share 22 = .ok (.invokevirtual 280, 3) := dk_182 1 24 (dk_at dksX10_share_1 0 rfl rfl)
theorem dX10_share_25 : decode cX10_share 25 = .ok (.ifCond .eq 7, 3) := dk_153 0 7 (dk_at dksX10_share_1 3 rfl rfl)
theorem dX10_share_28 : decode cX10_share 28 = .ok (.iconst 0, 1) := dk_3 (dk_at dksX10_share_1 6 rfl rfl)
theorem dX10_share_29 : decode cX10_share 29 = .ok (.goto 10, 3) := dk_167 0 10 (dk_at dksX10_share_1 7 rfl rfl)
theorem dX10_share_32 : decode cX10_share 32 = .ok (.aload_n 0, 1) := dk_42 (dk_at dksX10_share_1 10 rfl rfl)
theorem dX10_share_33 : decode cX10_share 33 = .ok (.iload_n 1, 1) := dk_27 (dk_at dksX10_share_1 11 rfl rfl)
theorem dX10_share_34 : decode cX10_share 34 = .ok (.iload_n 2, 1) := dk_28 (dk_at dksX10_share_1 12 rfl rfl)
theorem dX10_share_35 : decode cX10_share 35 = .ok (.iload_n 3, 1) := dk_29 (dk_at dksX10_share_1 13 rfl rfl)
theorem dX10_share_36 : decode cX10_share 36 = .ok (.invokevirtual 336, 3) := dk_182 1 80 (dk_at dksX10_share_1 14 rfl rfl)
theorem dX10_share_39 : decode cX10_share 39 = .ok (.ireturn, 1) := dk_172 (dk_at dksX10_share_1 17 rfl rfl)
abbrev cX10_shareTold : ByteArray := prog_17_method_77_code
def yX10_shareTold : MethodName := ⟨RX10, "shareTold", "(IIZ)I"⟩
def dkwX10_shareTold_1 : List UInt8 := [17, 108, 72, 21, 4, 184, 0, 107, 108, 172]
abbrev dktX10_shareTold_1 : List UInt8 := dkwX10_shareTold_1 ++ []
def dkwX10_shareTold_0 : List UInt8 := [42, 27, 16, 29, 28, 96, 182, 0, 69, 54, 4, 29, 153, 0, 9, 17, 108, 72, 167, 0, 5, 21, 4]
abbrev dktX10_shareTold_0 : List UInt8 := dkwX10_shareTold_0 ++ dktX10_shareTold_1
theorem dksX10_shareTold_0 : cX10_shareTold.data.toList.drop 0 = dktX10_shareTold_0 := by decide +kernel
theorem dksX10_shareTold_1 : cX10_shareTold.data.toList.drop 23 = dktX10_shareTold_1 := dk_seg dksX10_shareTold_0 23 rfl rfl
theorem dX10_shareTold_0 : decode cX10_shareTold 0 = .ok (.aload_n 0, 1) := dk_42 (dk_at dksX10_shareTold_0 0 rfl rfl)
theorem dX10_shareTold_1 : decode cX10_shareTold 1 = .ok (.iload_n 1, 1) := dk_27 (dk_at dksX10_shareTold_0 1 rfl rfl)
theorem dX10_shareTold_2 : decode cX10_shareTold 2 = .ok (.bipush 29, 2) := dk_16 29 (dk_at dksX10_shareTold_0 2 rfl rfl)
theorem dX10_shareTold_4 : decode cX10_shareTold 4 = .ok (.iload_n 2, 1) := dk_28 (dk_at dksX10_shareTold_0 4 rfl rfl)
theorem dX10_shareTold_5 : decode cX10_shareTold 5 = .ok (.iadd, 1) := dk_96 (dk_at dksX10_shareTold_0 5 rfl rfl)
theorem dX10_shareTold_6 : decode cX10_shareTold 6 = .ok (.invokevirtual 69, 3) := dk_182 0 69 (dk_at dksX10_shareTold_0 6 rfl rfl)
theorem dX10_shareTold_9 : decode cX10_shareTold 9 = .ok (.istore 4, 2) := dk_54 4 (dk_at dksX10_shareTold_0 9 rfl rfl)
theorem dX10_shareTold_11 : decode cX10_shareTold 11 = .ok (.iload_n 3, 1) := dk_29 (dk_at dksX10_shareTold_0 11 rfl rfl)
theorem dX10_shareTold_12 : decode cX10_shareTold 12 = .ok (.ifCond .eq 9, 3) := dk_153 0 9 (dk_at dksX10_shareTold_0 12 rfl rfl)
theorem dX10_shareTold_15 : decode cX10_shareTold 15 = .ok (.sipush 27720, 3) := dk_17 108 72 (dk_at dksX10_shareTold_0 15 rfl rfl)
theorem dX10_shareTold_18 : decode cX10_shareTold 18 = .ok (.goto 5, 3) := dk_167 0 5 (dk_at dksX10_shareTold_0 18 rfl rfl)
theorem dX10_shareTold_21 : decode cX10_shareTold 21 = .ok (.iload 4, 2) := dk_21 4 (dk_at dksX10_shareTold_0 21 rfl rfl)
theorem dX10_shareTold_23 : decode cX10_shareTold 23 = .ok (.sipush 27720, 3) := dk_17 108 72 (dk_at dksX10_shareTold_1 0 rfl rfl)
theorem dX10_shareTold_26 : decode cX10_shareTold 26 = .ok (.iload 4, 2) := dk_21 4 (dk_at dksX10_shareTold_1 3 rfl rfl)
theorem dX10_shareTold_28 : decode cX10_shareTold 28 = .ok (.invokestatic 107, 3) := dk_184 0 107 (dk_at dksX10_shareTold_1 5 rfl rfl)
theorem dX10_shareTold_31 : decode cX10_shareTold 31 = .ok (.idiv, 1) := dk_108 (dk_at dksX10_shareTold_1 8 rfl rfl)
theorem dX10_shareTold_32 : decode cX10_shareTold 32 = .ok (.ireturn, 1) := dk_172 (dk_at dksX10_shareTold_1 9 rfl rfl)
abbrev cX10_divisor : ByteArray := prog_17_method_33_code
def yX10_divisor : MethodName := ⟨RX10, "divisor", "(II)I"⟩
def dkwX10_divisor_0 : List UInt8 := [27, 154, 0, 7, 26, 167, 0, 10, 27, 26, 27, 112, 184, 0, 107, 172]
abbrev dktX10_divisor_0 : List UInt8 := dkwX10_divisor_0 ++ []
theorem dksX10_divisor_0 : cX10_divisor.data.toList.drop 0 = dktX10_divisor_0 := by decide +kernel
theorem dX10_divisor_0 : decode cX10_divisor 0 = .ok (.iload_n 1, 1) := dk_27 (dk_at dksX10_divisor_0 0 rfl rfl)
theorem dX10_divisor_1 : decode cX10_divisor 1 = .ok (.ifCond .ne 7, 3) := dk_154 0 7 (dk_at dksX10_divisor_0 1 rfl rfl)
theorem dX10_divisor_4 : decode cX10_divisor 4 = .ok (.iload_n 0, 1) := dk_26 (dk_at dksX10_divisor_0 4 rfl rfl)
theorem dX10_divisor_5 : decode cX10_divisor 5 = .ok (.goto 10, 3) := dk_167 0 10 (dk_at dksX10_divisor_0 5 rfl rfl)
theorem dX10_divisor_8 : decode cX10_divisor 8 = .ok (.iload_n 1, 1) := dk_27 (dk_at dksX10_divisor_0 8 rfl rfl)
theorem dX10_divisor_9 : decode cX10_divisor 9 = .ok (.iload_n 0, 1) := dk_26 (dk_at dksX10_divisor_0 9 rfl rfl)
theorem dX10_divisor_10 : decode cX10_divisor 10 = .ok (.iload_n 1, 1) := dk_27 (dk_at dksX10_divisor_0 10 rfl rfl)
theorem dX10_divisor_11 : decode cX10_divisor 11 = .ok (.irem, 1) := dk_112 (dk_at dksX10_divisor_0 11 rfl rfl)
theorem dX10_divisor_12 : decode cX10_divisor 12 = .ok (.invokestatic 107, 3) := dk_184 0 107 (dk_at dksX10_divisor_0 12 rfl rfl)
theorem dX10_divisor_15 : decode cX10_divisor 15 = .ok (.ireturn, 1) := dk_172 (dk_at dksX10_divisor_0 15 rfl rfl)
abbrev cX10_applies : ByteArray := prog_17_method_79_code
def yX10_applies : MethodName := ⟨RX10, "applies", "(II)Z"⟩
def dkwX10_applies_2 : List UInt8 := [172]
abbrev dktX10_applies_2 : List UInt8 := dkwX10_applies_2 ++ []
def dkwX10_applies_1 : List UInt8 := [167, 0, 4, 3, 182, 1, 43, 154, 0, 16, 42, 28, 27, 182, 0, 80, 153, 0, 7, 4, 167, 0, 4, 3]
abbrev dktX10_applies_1 : List UInt8 := dkwX10_applies_1 ++ dktX10_applies_2
def dkwX10_applies_0 : List UInt8 := [42, 42, 27, 182, 1, 40, 154, 0, 7, 4, 167, 0, 4, 3, 42, 28, 182, 1, 74, 154, 0, 7, 4]
abbrev dktX10_applies_0 : List UInt8 := dkwX10_applies_0 ++ dktX10_applies_1
theorem dksX10_applies_0 : cX10_applies.data.toList.drop 0 = dktX10_applies_0 := by decide +kernel
theorem dksX10_applies_1 : cX10_applies.data.toList.drop 23 = dktX10_applies_1 := dk_seg dksX10_applies_0 23 rfl rfl
theorem dksX10_applies_2 : cX10_applies.data.toList.drop 47 = dktX10_applies_2 := dk_seg dksX10_applies_1 24 rfl rfl
theorem dX10_applies_0 : decode cX10_applies 0 = .ok (.aload_n 0, 1) := dk_42 (dk_at dksX10_applies_0 0 rfl rfl)
theorem dX10_applies_1 : decode cX10_applies 1 = .ok (.aload_n 0, 1) := dk_42 (dk_at dksX10_applies_0 1 rfl rfl)
theorem dX10_applies_2 : decode cX10_applies 2 = .ok (.iload_n 1, 1) := dk_27 (dk_at dksX10_applies_0 2 rfl rfl)
theorem dX10_applies_3 : decode cX10_applies 3 = .ok (.invokevirtual 296, 3) := dk_182 1 40 (dk_at dksX10_applies_0 3 rfl rfl)
theorem dX10_applies_6 : decode cX10_applies 6 = .ok (.ifCond .ne 7, 3) := dk_154 0 7 (dk_at dksX10_applies_0 6 rfl rfl)
theorem dX10_applies_9 : decode cX10_applies 9 = .ok (.iconst 1, 1) := dk_4 (dk_at dksX10_applies_0 9 rfl rfl)
theorem dX10_applies_10 : decode cX10_applies 10 = .ok (.goto 4, 3) := dk_167 0 4 (dk_at dksX10_applies_0 10 rfl rfl)
theorem dX10_applies_13 : decode cX10_applies 13 = .ok (.iconst 0, 1) := dk_3 (dk_at dksX10_applies_0 13 rfl rfl)
theorem dX10_applies_14 : decode cX10_applies 14 = .ok (.aload_n 0, 1) := dk_42 (dk_at dksX10_applies_0 14 rfl rfl)
theorem dX10_applies_15 : decode cX10_applies 15 = .ok (.iload_n 2, 1) := dk_28 (dk_at dksX10_applies_0 15 rfl rfl)
theorem dX10_applies_16 : decode cX10_applies 16 = .ok (.invokevirtual 330, 3) := dk_182 1 74 (dk_at dksX10_applies_0 16 rfl rfl)
theorem dX10_applies_19 : decode cX10_applies 19 = .ok (.ifCond .ne 7, 3) := dk_154 0 7 (dk_at dksX10_applies_0 19 rfl rfl)
theorem dX10_applies_22 : decode cX10_applies 22 = .ok (.iconst 1, 1) := dk_4 (dk_at dksX10_applies_0 22 rfl rfl)
theorem dX10_applies_23 : decode cX10_applies 23 = .ok (.goto 4, 3) := dk_167 0 4 (dk_at dksX10_applies_1 0 rfl rfl)
theorem dX10_applies_26 : decode cX10_applies 26 = .ok (.iconst 0, 1) := dk_3 (dk_at dksX10_applies_1 3 rfl rfl)
theorem dX10_applies_27 : decode cX10_applies 27 = .ok (.invokevirtual 299, 3) := dk_182 1 43 (dk_at dksX10_applies_1 4 rfl rfl)
theorem dX10_applies_30 : decode cX10_applies 30 = .ok (.ifCond .ne 16, 3) := dk_154 0 16 (dk_at dksX10_applies_1 7 rfl rfl)
theorem dX10_applies_33 : decode cX10_applies 33 = .ok (.aload_n 0, 1) := dk_42 (dk_at dksX10_applies_1 10 rfl rfl)
theorem dX10_applies_34 : decode cX10_applies 34 = .ok (.iload_n 2, 1) := dk_28 (dk_at dksX10_applies_1 11 rfl rfl)
theorem dX10_applies_35 : decode cX10_applies 35 = .ok (.iload_n 1, 1) := dk_27 (dk_at dksX10_applies_1 12 rfl rfl)
theorem dX10_applies_36 : decode cX10_applies 36 = .ok (.invokevirtual 80, 3) := dk_182 0 80 (dk_at dksX10_applies_1 13 rfl rfl)
theorem dX10_applies_39 : decode cX10_applies 39 = .ok (.ifCond .eq 7, 3) := dk_153 0 7 (dk_at dksX10_applies_1 16 rfl rfl)
theorem dX10_applies_42 : decode cX10_applies 42 = .ok (.iconst 1, 1) := dk_4 (dk_at dksX10_applies_1 19 rfl rfl)
theorem dX10_applies_43 : decode cX10_applies 43 = .ok (.goto 4, 3) := dk_167 0 4 (dk_at dksX10_applies_1 20 rfl rfl)
theorem dX10_applies_46 : decode cX10_applies 46 = .ok (.iconst 0, 1) := dk_3 (dk_at dksX10_applies_1 23 rfl rfl)
theorem dX10_applies_47 : decode cX10_applies 47 = .ok (.ireturn, 1) := dk_172 (dk_at dksX10_applies_2 0 rfl rfl)
abbrev cX10_applying : ByteArray := prog_17_method_80_code
def yX10_applying : MethodName := ⟨RX10, "applying", "(I)I"⟩
def dkwX10_applying_1 : List UInt8 := [42, 27, 182, 1, 52, 172]
abbrev dktX10_applying_1 : List UInt8 := dkwX10_applying_1 ++ []
def dkwX10_applying_0 : List UInt8 := [42, 42, 27, 182, 1, 40, 154, 0, 7, 4, 167, 0, 4, 3, 182, 1, 24, 153, 0, 7, 3, 167, 0, 8]
abbrev dktX10_applying_0 : List UInt8 := dkwX10_applying_0 ++ dktX10_applying_1
theorem dksX10_applying_0 : cX10_applying.data.toList.drop 0 = dktX10_applying_0 := by decide +kernel
theorem dksX10_applying_1 : cX10_applying.data.toList.drop 24 = dktX10_applying_1 := dk_seg dksX10_applying_0 24 rfl rfl
theorem dX10_applying_0 : decode cX10_applying 0 = .ok (.aload_n 0, 1) := dk_42 (dk_at dksX10_applying_0 0 rfl rfl)
theorem dX10_applying_1 : decode cX10_applying 1 = .ok (.aload_n 0, 1) := dk_42 (dk_at dksX10_applying_0 1 rfl rfl)
theorem dX10_applying_2 : decode cX10_applying 2 = .ok (.iload_n 1, 1) := dk_27 (dk_at dksX10_applying_0 2 rfl rfl)
theorem dX10_applying_3 : decode cX10_applying 3 = .ok (.invokevirtual 296, 3) := dk_182 1 40 (dk_at dksX10_applying_0 3 rfl rfl)
theorem dX10_applying_6 : decode cX10_applying 6 = .ok (.ifCond .ne 7, 3) := dk_154 0 7 (dk_at dksX10_applying_0 6 rfl rfl)
theorem dX10_applying_9 : decode cX10_applying 9 = .ok (.iconst 1, 1) := dk_4 (dk_at dksX10_applying_0 9 rfl rfl)
theorem dX10_applying_10 : decode cX10_applying 10 = .ok (.goto 4, 3) := dk_167 0 4 (dk_at dksX10_applying_0 10 rfl rfl)
theorem dX10_applying_13 : decode cX10_applying 13 = .ok (.iconst 0, 1) := dk_3 (dk_at dksX10_applying_0 13 rfl rfl)
theorem dX10_applying_14 : decode cX10_applying 14 = .ok (.invokevirtual 280, 3) := dk_182 1 24 (dk_at dksX10_applying_0 14 rfl rfl)
theorem dX10_applying_17 : decode cX10_applying 17 = .ok (.ifCond .eq 7, 3) := dk_153 0 7 (dk_at dksX10_applying_0 17 rfl rfl)
theorem dX10_applying_20 : decode cX10_applying 20 = .ok (.iconst 0, 1) := dk_3 (dk_at dksX10_applying_0 20 rfl rfl)
theorem dX10_applying_21 : decode cX10_applying 21 = .ok (.goto 8, 3) := dk_167 0 8 (dk_at dksX10_applying_0 21 rfl rfl)
theorem dX10_applying_24 : decode cX10_applying 24 = .ok (.aload_n 0, 1) := dk_42 (dk_at dksX10_applying_1 0 rfl rfl)
theorem dX10_applying_25 : decode cX10_applying 25 = .ok (.iload_n 1, 1) := dk_27 (dk_at dksX10_applying_1 1 rfl rfl)
theorem dX10_applying_26 : decode cX10_applying 26 = .ok (.invokevirtual 308, 3) := dk_182 1 52 (dk_at dksX10_applying_1 2 rfl rfl)
theorem dX10_applying_29 : decode cX10_applying 29 = .ok (.ireturn, 1) := dk_172 (dk_at dksX10_applying_1 5 rfl rfl)
abbrev cX10_verdict : ByteArray := prog_17_method_81_code
def yX10_verdict : MethodName := ⟨RX10, "verdict", "(I)I"⟩
def dkwX10_verdict_1 : List UInt8 := [42, 42, 27, 182, 1, 52, 182, 0, 95, 172]
abbrev dktX10_verdict_1 : List UInt8 := dkwX10_verdict_1 ++ []
def dkwX10_verdict_0 : List UInt8 := [42, 42, 27, 182, 1, 40, 154, 0, 7, 4, 167, 0, 4, 3, 182, 1, 24, 153, 0, 7, 3, 167, 0, 12]
abbrev dktX10_verdict_0 : List UInt8 := dkwX10_verdict_0 ++ dktX10_verdict_1
theorem dksX10_verdict_0 : cX10_verdict.data.toList.drop 0 = dktX10_verdict_0 := by decide +kernel
theorem dksX10_verdict_1 : cX10_verdict.data.toList.drop 24 = dktX10_verdict_1 := dk_seg dksX10_verdict_0 24 rfl rfl
theorem dX10_verdict_0 : decode cX10_verdict 0 = .ok (.aload_n 0, 1) := dk_42 (dk_at dksX10_verdict_0 0 rfl rfl)
theorem dX10_verdict_1 : decode cX10_verdict 1 = .ok (.aload_n 0, 1) := dk_42 (dk_at dksX10_verdict_0 1 rfl rfl)
theorem dX10_verdict_2 : decode cX10_verdict 2 = .ok (.iload_n 1, 1) := dk_27 (dk_at dksX10_verdict_0 2 rfl rfl)
theorem dX10_verdict_3 : decode cX10_verdict 3 = .ok (.invokevirtual 296, 3) := dk_182 1 40 (dk_at dksX10_verdict_0 3 rfl rfl)
theorem dX10_verdict_6 : decode cX10_verdict 6 = .ok (.ifCond .ne 7, 3) := dk_154 0 7 (dk_at dksX10_verdict_0 6 rfl rfl)
theorem dX10_verdict_9 : decode cX10_verdict 9 = .ok (.iconst 1, 1) := dk_4 (dk_at dksX10_verdict_0 9 rfl rfl)
theorem dX10_verdict_10 : decode cX10_verdict 10 = .ok (.goto 4, 3) := dk_167 0 4 (dk_at dksX10_verdict_0 10 rfl rfl)
theorem dX10_verdict_13 : decode cX10_verdict 13 = .ok (.iconst 0, 1) := dk_3 (dk_at dksX10_verdict_0 13 rfl rfl)
theorem dX10_verdict_14 : decode cX10_verdict 14 = .ok (.invokevirtual 280, 3) := dk_182 1 24 (dk_at dksX10_verdict_0 14 rfl rfl)
theorem dX10_verdict_17 : decode cX10_verdict 17 = .ok (.ifCond .eq 7, 3) := dk_153 0 7 (dk_at dksX10_verdict_0 17 rfl rfl)
theorem dX10_verdict_20 : decode cX10_verdict 20 = .ok (.iconst 0, 1) := dk_3 (dk_at dksX10_verdict_0 20 rfl rfl)
theorem dX10_verdict_21 : decode cX10_verdict 21 = .ok (.goto 12, 3) := dk_167 0 12 (dk_at dksX10_verdict_0 21 rfl rfl)
theorem dX10_verdict_24 : decode cX10_verdict 24 = .ok (.aload_n 0, 1) := dk_42 (dk_at dksX10_verdict_1 0 rfl rfl)
theorem dX10_verdict_25 : decode cX10_verdict 25 = .ok (.aload_n 0, 1) := dk_42 (dk_at dksX10_verdict_1 1 rfl rfl)
theorem dX10_verdict_26 : decode cX10_verdict 26 = .ok (.iload_n 1, 1) := dk_27 (dk_at dksX10_verdict_1 2 rfl rfl)
theorem dX10_verdict_27 : decode cX10_verdict 27 = .ok (.invokevirtual 308, 3) := dk_182 1 52 (dk_at dksX10_verdict_1 3 rfl rfl)
theorem dX10_verdict_30 : decode cX10_verdict 30 = .ok (.invokevirtual 95, 3) := dk_182 0 95 (dk_at dksX10_verdict_1 6 rfl rfl)
theorem dX10_verdict_33 : decode cX10_verdict 33 = .ok (.ireturn, 1) := dk_172 (dk_at dksX10_verdict_1 9 rfl rfl)
abbrev cX10_settledBy : ByteArray := prog_17_method_82_code
def yX10_settledBy : MethodName := ⟨RX10, "settledBy", "(I)I"⟩
def dkwX10_settledBy_1 : List UInt8 := [42, 42, 27, 182, 1, 52, 182, 1, 46, 172]
abbrev dktX10_settledBy_1 : List UInt8 := dkwX10_settledBy_1 ++ []
def dkwX10_settledBy_0 : List UInt8 := [42, 42, 27, 182, 1, 40, 154, 0, 7, 4, 167, 0, 4, 3, 182, 1, 24, 153, 0, 7, 3, 167, 0, 12]
abbrev dktX10_settledBy_0 : List UInt8 := dkwX10_settledBy_0 ++ dktX10_settledBy_1
theorem dksX10_settledBy_0 : cX10_settledBy.data.toList.drop 0 = dktX10_settledBy_0 := by decide +kernel
theorem dksX10_settledBy_1 : cX10_settledBy.data.toList.drop 24 = dktX10_settledBy_1 := dk_seg dksX10_settledBy_0 24 rfl rfl
theorem dX10_settledBy_0 : decode cX10_settledBy 0 = .ok (.aload_n 0, 1) := dk_42 (dk_at dksX10_settledBy_0 0 rfl rfl)
theorem dX10_settledBy_1 : decode cX10_settledBy 1 = .ok (.aload_n 0, 1) := dk_42 (dk_at dksX10_settledBy_0 1 rfl rfl)
theorem dX10_settledBy_2 : decode cX10_settledBy 2 = .ok (.iload_n 1, 1) := dk_27 (dk_at dksX10_settledBy_0 2 rfl rfl)
theorem dX10_settledBy_3 : decode cX10_settledBy 3 = .ok (.invokevirtual 296, 3) := dk_182 1 40 (dk_at dksX10_settledBy_0 3 rfl rfl)
theorem dX10_settledBy_6 : decode cX10_settledBy 6 = .ok (.ifCond .ne 7, 3) := dk_154 0 7 (dk_at dksX10_settledBy_0 6 rfl rfl)
theorem dX10_settledBy_9 : decode cX10_settledBy 9 = .ok (.iconst 1, 1) := dk_4 (dk_at dksX10_settledBy_0 9 rfl rfl)
theorem dX10_settledBy_10 : decode cX10_settledBy 10 = .ok (.goto 4, 3) := dk_167 0 4 (dk_at dksX10_settledBy_0 10 rfl rfl)
theorem dX10_settledBy_13 : decode cX10_settledBy 13 = .ok (.iconst 0, 1) := dk_3 (dk_at dksX10_settledBy_0 13 rfl rfl)
theorem dX10_settledBy_14 : decode cX10_settledBy 14 = .ok (.invokevirtual 280, 3) := dk_182 1 24 (dk_at dksX10_settledBy_0 14 rfl rfl)
theorem dX10_settledBy_17 : decode cX10_settledBy 17 = .ok (.ifCond .eq 7, 3) := dk_153 0 7 (dk_at dksX10_settledBy_0 17 rfl rfl)
theorem dX10_settledBy_20 : decode cX10_settledBy 20 = .ok (.iconst 0, 1) := dk_3 (dk_at dksX10_settledBy_0 20 rfl rfl)
theorem dX10_settledBy_21 : decode cX10_settledBy 21 = .ok (.goto 12, 3) := dk_167 0 12 (dk_at dksX10_settledBy_0 21 rfl rfl)
theorem dX10_settledBy_24 : decode cX10_settledBy 24 = .ok (.aload_n 0, 1) := dk_42 (dk_at dksX10_settledBy_1 0 rfl rfl)
theorem dX10_settledBy_25 : decode cX10_settledBy 25 = .ok (.aload_n 0, 1) := dk_42 (dk_at dksX10_settledBy_1 1 rfl rfl)
theorem dX10_settledBy_26 : decode cX10_settledBy 26 = .ok (.iload_n 1, 1) := dk_27 (dk_at dksX10_settledBy_1 2 rfl rfl)
theorem dX10_settledBy_27 : decode cX10_settledBy 27 = .ok (.invokevirtual 308, 3) := dk_182 1 52 (dk_at dksX10_settledBy_1 3 rfl rfl)
theorem dX10_settledBy_30 : decode cX10_settledBy 30 = .ok (.invokevirtual 302, 3) := dk_182 1 46 (dk_at dksX10_settledBy_1 6 rfl rfl)
theorem dX10_settledBy_33 : decode cX10_settledBy 33 = .ok (.ireturn, 1) := dk_172 (dk_at dksX10_settledBy_1 9 rfl rfl)
abbrev cX10_why : ByteArray := prog_17_method_84_code
def yX10_why : MethodName := ⟨RX10, "why", "(III)I"⟩
def dkwX10_why_6 : List UInt8 := [182, 0, 86, 28, 182, 0, 92, 172, 42, 21, 4, 182, 1, 46, 172, 21, 4, 184, 1, 90, 172]
abbrev dktX10_why_6 : List UInt8 := dkwX10_why_6 ++ []
def dkwX10_why_5 : List UInt8 := [42, 27, 3, 182, 0, 65, 172, 21, 4, 42, 28, 182, 1, 68, 126, 184, 0, 89, 172, 42, 42, 21, 4]
abbrev dktX10_why_5 : List UInt8 := dkwX10_why_5 ++ dktX10_why_6
def dkwX10_why_4 : List UInt8 := [170, 0, 0, 0, 0, 68, 0, 0, 0, 1, 0, 0, 0, 4, 0, 0, 0, 30, 0, 0, 0, 37, 0, 0, 0, 49, 0, 0, 0, 61]
abbrev dktX10_why_4 : List UInt8 := dkwX10_why_4 ++ dktX10_why_5
def dkwX10_why_3 : List UInt8 := [172, 21, 5]
abbrev dktX10_why_3 : List UInt8 := dkwX10_why_3 ++ dktX10_why_4
def dkwX10_why_2 : List UInt8 := [3, 172, 42, 27, 182, 1, 52, 54, 4, 42, 21, 4, 28, 182, 1, 87, 54, 5, 29, 154, 0, 6, 21, 5]
abbrev dktX10_why_2 : List UInt8 := dkwX10_why_2 ++ dktX10_why_3
def dkwX10_why_1 : List UInt8 := [167, 0, 4, 3, 29, 3, 4, 184, 0, 53, 154, 0, 7, 4, 167, 0, 4, 3, 182, 1, 84, 153, 0, 5]
abbrev dktX10_why_1 : List UInt8 := dkwX10_why_1 ++ dktX10_why_2
def dkwX10_why_0 : List UInt8 := [42, 42, 27, 182, 1, 40, 154, 0, 7, 4, 167, 0, 4, 3, 42, 28, 182, 1, 74, 154, 0, 7, 4]
abbrev dktX10_why_0 : List UInt8 := dkwX10_why_0 ++ dktX10_why_1
theorem dksX10_why_0 : cX10_why.data.toList.drop 0 = dktX10_why_0 := by decide +kernel
theorem dksX10_why_1 : cX10_why.data.toList.drop 23 = dktX10_why_1 := dk_seg dksX10_why_0 23 rfl rfl
theorem dksX10_why_2 : cX10_why.data.toList.drop 47 = dktX10_why_2 := dk_seg dksX10_why_1 24 rfl rfl
theorem dksX10_why_3 : cX10_why.data.toList.drop 71 = dktX10_why_3 := dk_seg dksX10_why_2 24 rfl rfl
theorem dksX10_why_4 : cX10_why.data.toList.drop 74 = dktX10_why_4 := dk_seg dksX10_why_3 3 rfl rfl
theorem dksX10_why_5 : cX10_why.data.toList.drop 104 = dktX10_why_5 := dk_seg dksX10_why_4 30 rfl rfl
theorem dksX10_why_6 : cX10_why.data.toList.drop 127 = dktX10_why_6 := dk_seg dksX10_why_5 23 rfl rfl
theorem dX10_why_0 : decode cX10_why 0 = .ok (.aload_n 0, 1) := dk_42 (dk_at dksX10_why_0 0 rfl rfl)
theorem dX10_why_1 : decode cX10_why 1 = .ok (.aload_n 0, 1) := dk_42 (dk_at dksX10_why_0 1 rfl rfl)
theorem dX10_why_2 : decode cX10_why 2 = .ok (.iload_n 1, 1) := dk_27 (dk_at dksX10_why_0 2 rfl rfl)
theorem dX10_why_3 : decode cX10_why 3 = .ok (.invokevirtual 296, 3) := dk_182 1 40 (dk_at dksX10_why_0 3 rfl rfl)
theorem dX10_why_6 : decode cX10_why 6 = .ok (.ifCond .ne 7, 3) := dk_154 0 7 (dk_at dksX10_why_0 6 rfl rfl)
theorem dX10_why_9 : decode cX10_why 9 = .ok (.iconst 1, 1) := dk_4 (dk_at dksX10_why_0 9 rfl rfl)
theorem dX10_why_10 : decode cX10_why 10 = .ok (.goto 4, 3) := dk_167 0 4 (dk_at dksX10_why_0 10 rfl rfl)
theorem dX10_why_13 : decode cX10_why 13 = .ok (.iconst 0, 1) := dk_3 (dk_at dksX10_why_0 13 rfl rfl)
theorem dX10_why_14 : decode cX10_why 14 = .ok (.aload_n 0, 1) := dk_42 (dk_at dksX10_why_0 14 rfl rfl)
theorem dX10_why_15 : decode cX10_why 15 = .ok (.iload_n 2, 1) := dk_28 (dk_at dksX10_why_0 15 rfl rfl)
theorem dX10_why_16 : decode cX10_why 16 = .ok (.invokevirtual 330, 3) := dk_182 1 74 (dk_at dksX10_why_0 16 rfl rfl)
theorem dX10_why_19 : decode cX10_why 19 = .ok (.ifCond .ne 7, 3) := dk_154 0 7 (dk_at dksX10_why_0 19 rfl rfl)
theorem dX10_why_22 : decode cX10_why 22 = .ok (.iconst 1, 1) := dk_4 (dk_at dksX10_why_0 22 rfl rfl)
theorem dX10_why_23 : decode cX10_why 23 = .ok (.goto 4, 3) := dk_167 0 4 (dk_at dksX10_why_1 0 rfl rfl)
theorem dX10_why_26 : decode cX10_why 26 = .ok (.iconst 0, 1) := dk_3 (dk_at dksX10_why_1 3 rfl rfl)
theorem dX10_why_27 : decode cX10_why 27 = .ok (.iload_n 3, 1) := dk_29 (dk_at dksX10_why_1 4 rfl rfl)
theorem dX10_why_28 : decode cX10_why 28 = .ok (.iconst 0, 1) := dk_3 (dk_at dksX10_why_1 5 rfl rfl)
theorem dX10_why_29 : decode cX10_why 29 = .ok (.iconst 1, 1) := dk_4 (dk_at dksX10_why_1 6 rfl rfl)
theorem dX10_why_30 : decode cX10_why 30 = .ok (.invokestatic 53, 3) := dk_184 0 53 (dk_at dksX10_why_1 7 rfl rfl)
theorem dX10_why_33 : decode cX10_why 33 = .ok (.ifCond .ne 7, 3) := dk_154 0 7 (dk_at dksX10_why_1 10 rfl rfl)
theorem dX10_why_36 : decode cX10_why 36 = .ok (.iconst 1, 1) := dk_4 (dk_at dksX10_why_1 13 rfl rfl)
theorem dX10_why_37 : decode cX10_why 37 = .ok (.goto 4, 3) := dk_167 0 4 (dk_at dksX10_why_1 14 rfl rfl)
theorem dX10_why_40 : decode cX10_why 40 = .ok (.iconst 0, 1) := dk_3 (dk_at dksX10_why_1 17 rfl rfl)
theorem dX10_why_41 : decode cX10_why 41 = .ok (.invokevirtual 340, 3) := dk_182 1 84 (dk_at dksX10_why_1 18 rfl rfl)
theorem dX10_why_44 : decode cX10_why 44 = .ok (.ifCond .eq 5, 3) := dk_153 0 5 (dk_at dksX10_why_1 21 rfl rfl)
theorem dX10_why_47 : decode cX10_why 47 = .ok (.iconst 0, 1) := dk_3 (dk_at dksX10_why_2 0 rfl rfl)
theorem dX10_why_48 : decode cX10_why 48 = .ok (.ireturn, 1) := dk_172 (dk_at dksX10_why_2 1 rfl rfl)
theorem dX10_why_49 : decode cX10_why 49 = .ok (.aload_n 0, 1) := dk_42 (dk_at dksX10_why_2 2 rfl rfl)
theorem dX10_why_50 : decode cX10_why 50 = .ok (.iload_n 1, 1) := dk_27 (dk_at dksX10_why_2 3 rfl rfl)
theorem dX10_why_51 : decode cX10_why 51 = .ok (.invokevirtual 308, 3) := dk_182 1 52 (dk_at dksX10_why_2 4 rfl rfl)
theorem dX10_why_54 : decode cX10_why 54 = .ok (.istore 4, 2) := dk_54 4 (dk_at dksX10_why_2 7 rfl rfl)
theorem dX10_why_56 : decode cX10_why 56 = .ok (.aload_n 0, 1) := dk_42 (dk_at dksX10_why_2 9 rfl rfl)
theorem dX10_why_57 : decode cX10_why 57 = .ok (.iload 4, 2) := dk_21 4 (dk_at dksX10_why_2 10 rfl rfl)
theorem dX10_why_59 : decode cX10_why 59 = .ok (.iload_n 2, 1) := dk_28 (dk_at dksX10_why_2 12 rfl rfl)
theorem dX10_why_60 : decode cX10_why 60 = .ok (.invokevirtual 343, 3) := dk_182 1 87 (dk_at dksX10_why_2 13 rfl rfl)
theorem dX10_why_63 : decode cX10_why 63 = .ok (.istore 5, 2) := dk_54 5 (dk_at dksX10_why_2 16 rfl rfl)
theorem dX10_why_65 : decode cX10_why 65 = .ok (.iload_n 3, 1) := dk_29 (dk_at dksX10_why_2 18 rfl rfl)
theorem dX10_why_66 : decode cX10_why 66 = .ok (.ifCond .ne 6, 3) := dk_154 0 6 (dk_at dksX10_why_2 19 rfl rfl)
theorem dX10_why_69 : decode cX10_why 69 = .ok (.iload 5, 2) := dk_21 5 (dk_at dksX10_why_2 22 rfl rfl)
theorem dX10_why_71 : decode cX10_why 71 = .ok (.ireturn, 1) := dk_172 (dk_at dksX10_why_3 0 rfl rfl)
theorem dX10_why_72 : decode cX10_why 72 = .ok (.iload 5, 2) := dk_21 5 (dk_at dksX10_why_3 1 rfl rfl)
theorem dX10_why_74 : decode cX10_why 74 = .ok (.tableswitch 68 1 4 #[30, 37, 49, 61], 30) := by decide +kernel
theorem dX10_why_104 : decode cX10_why 104 = .ok (.aload_n 0, 1) := dk_42 (dk_at dksX10_why_5 0 rfl rfl)
theorem dX10_why_105 : decode cX10_why 105 = .ok (.iload_n 1, 1) := dk_27 (dk_at dksX10_why_5 1 rfl rfl)
theorem dX10_why_106 : decode cX10_why 106 = .ok (.iconst 0, 1) := dk_3 (dk_at dksX10_why_5 2 rfl rfl)
theorem dX10_why_107 : decode cX10_why 107 = .ok (.invokevirtual 65, 3) := dk_182 0 65 (dk_at dksX10_why_5 3 rfl rfl)
theorem dX10_why_110 : decode cX10_why 110 = .ok (.ireturn, 1) := dk_172 (dk_at dksX10_why_5 6 rfl rfl)
theorem dX10_why_111 : decode cX10_why 111 = .ok (.iload 4, 2) := dk_21 4 (dk_at dksX10_why_5 7 rfl rfl)
theorem dX10_why_113 : decode cX10_why 113 = .ok (.aload_n 0, 1) := dk_42 (dk_at dksX10_why_5 9 rfl rfl)
theorem dX10_why_114 : decode cX10_why 114 = .ok (.iload_n 2, 1) := dk_28 (dk_at dksX10_why_5 10 rfl rfl)
theorem dX10_why_115 : decode cX10_why 115 = .ok (.invokevirtual 324, 3) := dk_182 1 68 (dk_at dksX10_why_5 11 rfl rfl)
theorem dX10_why_118 : decode cX10_why 118 = .ok (.iand, 1) := dk_126 (dk_at dksX10_why_5 14 rfl rfl)
theorem dX10_why_119 : decode cX10_why 119 = .ok (.invokestatic 89, 3) := dk_184 0 89 (dk_at dksX10_why_5 15 rfl rfl)
theorem dX10_why_122 : decode cX10_why 122 = .ok (.ireturn, 1) := dk_172 (dk_at dksX10_why_5 18 rfl rfl)
theorem dX10_why_123 : decode cX10_why 123 = .ok (.aload_n 0, 1) := dk_42 (dk_at dksX10_why_5 19 rfl rfl)
theorem dX10_why_124 : decode cX10_why 124 = .ok (.aload_n 0, 1) := dk_42 (dk_at dksX10_why_5 20 rfl rfl)
theorem dX10_why_125 : decode cX10_why 125 = .ok (.iload 4, 2) := dk_21 4 (dk_at dksX10_why_5 21 rfl rfl)
theorem dX10_why_127 : decode cX10_why 127 = .ok (.invokevirtual 86, 3) := dk_182 0 86 (dk_at dksX10_why_6 0 rfl rfl)
theorem dX10_why_130 : decode cX10_why 130 = .ok (.iload_n 2, 1) := dk_28 (dk_at dksX10_why_6 3 rfl rfl)
theorem dX10_why_131 : decode cX10_why 131 = .ok (.invokevirtual 92, 3) := dk_182 0 92 (dk_at dksX10_why_6 4 rfl rfl)
theorem dX10_why_134 : decode cX10_why 134 = .ok (.ireturn, 1) := dk_172 (dk_at dksX10_why_6 7 rfl rfl)
theorem dX10_why_135 : decode cX10_why 135 = .ok (.aload_n 0, 1) := dk_42 (dk_at dksX10_why_6 8 rfl rfl)
theorem dX10_why_136 : decode cX10_why 136 = .ok (.iload 4, 2) := dk_21 4 (dk_at dksX10_why_6 9 rfl rfl)
theorem dX10_why_138 : decode cX10_why 138 = .ok (.invokevirtual 302, 3) := dk_182 1 46 (dk_at dksX10_why_6 11 rfl rfl)
theorem dX10_why_141 : decode cX10_why 141 = .ok (.ireturn, 1) := dk_172 (dk_at dksX10_why_6 14 rfl rfl)
theorem dX10_why_142 : decode cX10_why 142 = .ok (.iload 4, 2) := dk_21 4 (dk_at dksX10_why_6 15 rfl rfl)
theorem dX10_why_144 : decode cX10_why 144 = .ok (.invokestatic 346, 3) := dk_184 1 90 (dk_at dksX10_why_6 17 rfl rfl)
theorem dX10_why_147 : decode cX10_why 147 = .ok (.ireturn, 1) := dk_172 (dk_at dksX10_why_6 20 rfl rfl)
abbrev cX10_throwsOne_3 : ByteArray := prog_17_method_6_code
def yX10_throwsOne_3 : MethodName := ⟨RX10, "throwsOne", "(ZZZ)Z"⟩
def dkwX10_throwsOne_3_2 : List UInt8 := [172]
abbrev dktX10_throwsOne_3_2 : List UInt8 := dkwX10_throwsOne_3_2 ++ []
def dkwX10_throwsOne_3_1 : List UInt8 := [167, 0, 4, 3, 181, 0, 45, 27, 154, 0, 11, 28, 154, 0, 7, 29, 153, 0, 7, 4, 167, 0, 4, 3]
abbrev dktX10_throwsOne_3_1 : List UInt8 := dkwX10_throwsOne_3_1 ++ dktX10_throwsOne_3_2
def dkwX10_throwsOne_3_0 : List UInt8 := [42, 27, 153, 0, 7, 4, 167, 0, 20, 28, 153, 0, 7, 5, 167, 0, 12, 29, 153, 0, 7, 6]
abbrev dktX10_throwsOne_3_0 : List UInt8 := dkwX10_throwsOne_3_0 ++ dktX10_throwsOne_3_1
theorem dksX10_throwsOne_3_0 : cX10_throwsOne_3.data.toList.drop 0 = dktX10_throwsOne_3_0 := by decide +kernel
theorem dksX10_throwsOne_3_1 : cX10_throwsOne_3.data.toList.drop 22 = dktX10_throwsOne_3_1 := dk_seg dksX10_throwsOne_3_0 22 rfl rfl
theorem dksX10_throwsOne_3_2 : cX10_throwsOne_3.data.toList.drop 46 = dktX10_throwsOne_3_2 := dk_seg dksX10_throwsOne_3_1 24 rfl rfl
theorem dX10_throwsOne_3_0 : decode cX10_throwsOne_3 0 = .ok (.aload_n 0, 1) := dk_42 (dk_at dksX10_throwsOne_3_0 0 rfl rfl)
theorem dX10_throwsOne_3_1 : decode cX10_throwsOne_3 1 = .ok (.iload_n 1, 1) := dk_27 (dk_at dksX10_throwsOne_3_0 1 rfl rfl)
theorem dX10_throwsOne_3_2 : decode cX10_throwsOne_3 2 = .ok (.ifCond .eq 7, 3) := dk_153 0 7 (dk_at dksX10_throwsOne_3_0 2 rfl rfl)
theorem dX10_throwsOne_3_5 : decode cX10_throwsOne_3 5 = .ok (.iconst 1, 1) := dk_4 (dk_at dksX10_throwsOne_3_0 5 rfl rfl)
theorem dX10_throwsOne_3_6 : decode cX10_throwsOne_3 6 = .ok (.goto 20, 3) := dk_167 0 20 (dk_at dksX10_throwsOne_3_0 6 rfl rfl)
theorem dX10_throwsOne_3_9 : decode cX10_throwsOne_3 9 = .ok (.iload_n 2, 1) := dk_28 (dk_at dksX10_throwsOne_3_0 9 rfl rfl)
theorem dX10_throwsOne_3_10 : decode cX10_throwsOne_3 10 = .ok (.ifCond .eq 7, 3) := dk_153 0 7 (dk_at dksX10_throwsOne_3_0 10 rfl rfl)
theorem dX10_throwsOne_3_13 : decode cX10_throwsOne_3 13 = .ok (.iconst 2, 1) := dk_5 (dk_at dksX10_throwsOne_3_0 13 rfl rfl)
theorem dX10_throwsOne_3_14 : decode cX10_throwsOne_3 14 = .ok (.goto 12, 3) := dk_167 0 12 (dk_at dksX10_throwsOne_3_0 14 rfl rfl)
theorem dX10_throwsOne_3_17 : decode cX10_throwsOne_3 17 = .ok (.iload_n 3, 1) := dk_29 (dk_at dksX10_throwsOne_3_0 17 rfl rfl)
theorem dX10_throwsOne_3_18 : decode cX10_throwsOne_3 18 = .ok (.ifCond .eq 7, 3) := dk_153 0 7 (dk_at dksX10_throwsOne_3_0 18 rfl rfl)
theorem dX10_throwsOne_3_21 : decode cX10_throwsOne_3 21 = .ok (.iconst 3, 1) := dk_6 (dk_at dksX10_throwsOne_3_0 21 rfl rfl)
theorem dX10_throwsOne_3_22 : decode cX10_throwsOne_3 22 = .ok (.goto 4, 3) := dk_167 0 4 (dk_at dksX10_throwsOne_3_1 0 rfl rfl)
theorem dX10_throwsOne_3_25 : decode cX10_throwsOne_3 25 = .ok (.iconst 0, 1) := dk_3 (dk_at dksX10_throwsOne_3_1 3 rfl rfl)
theorem dX10_throwsOne_3_26 : decode cX10_throwsOne_3 26 = .ok (.putfield 45, 3) := dk_181 0 45 (dk_at dksX10_throwsOne_3_1 4 rfl rfl)
theorem dX10_throwsOne_3_29 : decode cX10_throwsOne_3 29 = .ok (.iload_n 1, 1) := dk_27 (dk_at dksX10_throwsOne_3_1 7 rfl rfl)
theorem dX10_throwsOne_3_30 : decode cX10_throwsOne_3 30 = .ok (.ifCond .ne 11, 3) := dk_154 0 11 (dk_at dksX10_throwsOne_3_1 8 rfl rfl)
theorem dX10_throwsOne_3_33 : decode cX10_throwsOne_3 33 = .ok (.iload_n 2, 1) := dk_28 (dk_at dksX10_throwsOne_3_1 11 rfl rfl)
theorem dX10_throwsOne_3_34 : decode cX10_throwsOne_3 34 = .ok (.ifCond .ne 7, 3) := dk_154 0 7 (dk_at dksX10_throwsOne_3_1 12 rfl rfl)
theorem dX10_throwsOne_3_37 : decode cX10_throwsOne_3 37 = .ok (.iload_n 3, 1) := dk_29 (dk_at dksX10_throwsOne_3_1 15 rfl rfl)
theorem dX10_throwsOne_3_38 : decode cX10_throwsOne_3 38 = .ok (.ifCond .eq 7, 3) := dk_153 0 7 (dk_at dksX10_throwsOne_3_1 16 rfl rfl)
theorem dX10_throwsOne_3_41 : decode cX10_throwsOne_3 41 = .ok (.iconst 1, 1) := dk_4 (dk_at dksX10_throwsOne_3_1 19 rfl rfl)
theorem dX10_throwsOne_3_42 : decode cX10_throwsOne_3 42 = .ok (.goto 4, 3) := dk_167 0 4 (dk_at dksX10_throwsOne_3_1 20 rfl rfl)
theorem dX10_throwsOne_3_45 : decode cX10_throwsOne_3 45 = .ok (.iconst 0, 1) := dk_3 (dk_at dksX10_throwsOne_3_1 23 rfl rfl)
theorem dX10_throwsOne_3_46 : decode cX10_throwsOne_3 46 = .ok (.ireturn, 1) := dk_172 (dk_at dksX10_throwsOne_3_2 0 rfl rfl)
abbrev cX10_reason : ByteArray := prog_17_method_83_code
def yX10_reason : MethodName := ⟨RX10, "reason", "(II)I"⟩
def dkwX10_reason_2 : List UInt8 := [167, 0, 4, 7, 172]
abbrev dktX10_reason_2 : List UInt8 := dkwX10_reason_2 ++ []
def dkwX10_reason_1 : List UInt8 := [5, 172, 42, 29, 28, 182, 0, 92, 2, 159, 0, 5, 6, 172, 42, 27, 182, 1, 46, 28, 160, 0, 7, 3]
abbrev dktX10_reason_1 : List UInt8 := dkwX10_reason_1 ++ dktX10_reason_2
def dkwX10_reason_0 : List UInt8 := [42, 27, 182, 0, 86, 62, 27, 28, 184, 0, 49, 154, 0, 5, 4, 172, 29, 28, 184, 0, 49, 154, 0, 5]
abbrev dktX10_reason_0 : List UInt8 := dkwX10_reason_0 ++ dktX10_reason_1
theorem dksX10_reason_0 : cX10_reason.data.toList.drop 0 = dktX10_reason_0 := by decide +kernel
theorem dksX10_reason_1 : cX10_reason.data.toList.drop 24 = dktX10_reason_1 := dk_seg dksX10_reason_0 24 rfl rfl
theorem dksX10_reason_2 : cX10_reason.data.toList.drop 48 = dktX10_reason_2 := dk_seg dksX10_reason_1 24 rfl rfl
theorem dX10_reason_0 : decode cX10_reason 0 = .ok (.aload_n 0, 1) := dk_42 (dk_at dksX10_reason_0 0 rfl rfl)
theorem dX10_reason_1 : decode cX10_reason 1 = .ok (.iload_n 1, 1) := dk_27 (dk_at dksX10_reason_0 1 rfl rfl)
theorem dX10_reason_2 : decode cX10_reason 2 = .ok (.invokevirtual 86, 3) := dk_182 0 86 (dk_at dksX10_reason_0 2 rfl rfl)
theorem dX10_reason_5 : decode cX10_reason 5 = .ok (.istore_n 3, 1) := dk_62 (dk_at dksX10_reason_0 5 rfl rfl)
theorem dX10_reason_6 : decode cX10_reason 6 = .ok (.iload_n 1, 1) := dk_27 (dk_at dksX10_reason_0 6 rfl rfl)
theorem dX10_reason_7 : decode cX10_reason 7 = .ok (.iload_n 2, 1) := dk_28 (dk_at dksX10_reason_0 7 rfl rfl)
theorem dX10_reason_8 : decode cX10_reason 8 = .ok (.invokestatic 49, 3) := dk_184 0 49 (dk_at dksX10_reason_0 8 rfl rfl)
theorem dX10_reason_11 : decode cX10_reason 11 = .ok (.ifCond .ne 5, 3) := dk_154 0 5 (dk_at dksX10_reason_0 11 rfl rfl)
theorem dX10_reason_14 : decode cX10_reason 14 = .ok (.iconst 1, 1) := dk_4 (dk_at dksX10_reason_0 14 rfl rfl)
theorem dX10_reason_15 : decode cX10_reason 15 = .ok (.ireturn, 1) := dk_172 (dk_at dksX10_reason_0 15 rfl rfl)
theorem dX10_reason_16 : decode cX10_reason 16 = .ok (.iload_n 3, 1) := dk_29 (dk_at dksX10_reason_0 16 rfl rfl)
theorem dX10_reason_17 : decode cX10_reason 17 = .ok (.iload_n 2, 1) := dk_28 (dk_at dksX10_reason_0 17 rfl rfl)
theorem dX10_reason_18 : decode cX10_reason 18 = .ok (.invokestatic 49, 3) := dk_184 0 49 (dk_at dksX10_reason_0 18 rfl rfl)
theorem dX10_reason_21 : decode cX10_reason 21 = .ok (.ifCond .ne 5, 3) := dk_154 0 5 (dk_at dksX10_reason_0 21 rfl rfl)
theorem dX10_reason_24 : decode cX10_reason 24 = .ok (.iconst 2, 1) := dk_5 (dk_at dksX10_reason_1 0 rfl rfl)
theorem dX10_reason_25 : decode cX10_reason 25 = .ok (.ireturn, 1) := dk_172 (dk_at dksX10_reason_1 1 rfl rfl)
theorem dX10_reason_26 : decode cX10_reason 26 = .ok (.aload_n 0, 1) := dk_42 (dk_at dksX10_reason_1 2 rfl rfl)
theorem dX10_reason_27 : decode cX10_reason 27 = .ok (.iload_n 3, 1) := dk_29 (dk_at dksX10_reason_1 3 rfl rfl)
theorem dX10_reason_28 : decode cX10_reason 28 = .ok (.iload_n 2, 1) := dk_28 (dk_at dksX10_reason_1 4 rfl rfl)
theorem dX10_reason_29 : decode cX10_reason 29 = .ok (.invokevirtual 92, 3) := dk_182 0 92 (dk_at dksX10_reason_1 5 rfl rfl)
theorem dX10_reason_32 : decode cX10_reason 32 = .ok (.iconst (-1), 1) := dk_2 (dk_at dksX10_reason_1 8 rfl rfl)
theorem dX10_reason_33 : decode cX10_reason 33 = .ok (.if_icmp .eq 5, 3) := dk_159 0 5 (dk_at dksX10_reason_1 9 rfl rfl)
theorem dX10_reason_36 : decode cX10_reason 36 = .ok (.iconst 3, 1) := dk_6 (dk_at dksX10_reason_1 12 rfl rfl)
theorem dX10_reason_37 : decode cX10_reason 37 = .ok (.ireturn, 1) := dk_172 (dk_at dksX10_reason_1 13 rfl rfl)
theorem dX10_reason_38 : decode cX10_reason 38 = .ok (.aload_n 0, 1) := dk_42 (dk_at dksX10_reason_1 14 rfl rfl)
theorem dX10_reason_39 : decode cX10_reason 39 = .ok (.iload_n 1, 1) := dk_27 (dk_at dksX10_reason_1 15 rfl rfl)
theorem dX10_reason_40 : decode cX10_reason 40 = .ok (.invokevirtual 302, 3) := dk_182 1 46 (dk_at dksX10_reason_1 16 rfl rfl)
theorem dX10_reason_43 : decode cX10_reason 43 = .ok (.iload_n 2, 1) := dk_28 (dk_at dksX10_reason_1 19 rfl rfl)
theorem dX10_reason_44 : decode cX10_reason 44 = .ok (.if_icmp .ne 7, 3) := dk_160 0 7 (dk_at dksX10_reason_1 20 rfl rfl)
theorem dX10_reason_47 : decode cX10_reason 47 = .ok (.iconst 0, 1) := dk_3 (dk_at dksX10_reason_1 23 rfl rfl)
theorem dX10_reason_48 : decode cX10_reason 48 = .ok (.goto 4, 3) := dk_167 0 4 (dk_at dksX10_reason_2 0 rfl rfl)
theorem dX10_reason_51 : decode cX10_reason 51 = .ok (.iconst 4, 1) := dk_7 (dk_at dksX10_reason_2 3 rfl rfl)
theorem dX10_reason_52 : decode cX10_reason 52 = .ok (.ireturn, 1) := dk_172 (dk_at dksX10_reason_2 4 rfl rfl)
abbrev cX10_bits : ByteArray := prog_17_method_8_code
def yX10_bits : MethodName := ⟨RX10, "bits", "(I)I"⟩
def dkwX10_bits_0 : List UInt8 := [3, 60, 26, 61, 28, 158, 0, 16, 27, 28, 5, 112, 96, 60, 28, 5, 108, 61, 167, 255, 242, 27, 172]
abbrev dktX10_bits_0 : List UInt8 := dkwX10_bits_0 ++ []
theorem dksX10_bits_0 : cX10_bits.data.toList.drop 0 = dktX10_bits_0 := by decide +kernel
theorem dX10_bits_0 : decode cX10_bits 0 = .ok (.iconst 0, 1) := dk_3 (dk_at dksX10_bits_0 0 rfl rfl)
theorem dX10_bits_1 : decode cX10_bits 1 = .ok (.istore_n 1, 1) := dk_60 (dk_at dksX10_bits_0 1 rfl rfl)
theorem dX10_bits_2 : decode cX10_bits 2 = .ok (.iload_n 0, 1) := dk_26 (dk_at dksX10_bits_0 2 rfl rfl)
theorem dX10_bits_3 : decode cX10_bits 3 = .ok (.istore_n 2, 1) := dk_61 (dk_at dksX10_bits_0 3 rfl rfl)
theorem dX10_bits_4 : decode cX10_bits 4 = .ok (.iload_n 2, 1) := dk_28 (dk_at dksX10_bits_0 4 rfl rfl)
theorem dX10_bits_5 : decode cX10_bits 5 = .ok (.ifCond .le 16, 3) := dk_158 0 16 (dk_at dksX10_bits_0 5 rfl rfl)
theorem dX10_bits_8 : decode cX10_bits 8 = .ok (.iload_n 1, 1) := dk_27 (dk_at dksX10_bits_0 8 rfl rfl)
theorem dX10_bits_9 : decode cX10_bits 9 = .ok (.iload_n 2, 1) := dk_28 (dk_at dksX10_bits_0 9 rfl rfl)
theorem dX10_bits_10 : decode cX10_bits 10 = .ok (.iconst 2, 1) := dk_5 (dk_at dksX10_bits_0 10 rfl rfl)
theorem dX10_bits_11 : decode cX10_bits 11 = .ok (.irem, 1) := dk_112 (dk_at dksX10_bits_0 11 rfl rfl)
theorem dX10_bits_12 : decode cX10_bits 12 = .ok (.iadd, 1) := dk_96 (dk_at dksX10_bits_0 12 rfl rfl)
theorem dX10_bits_13 : decode cX10_bits 13 = .ok (.istore_n 1, 1) := dk_60 (dk_at dksX10_bits_0 13 rfl rfl)
theorem dX10_bits_14 : decode cX10_bits 14 = .ok (.iload_n 2, 1) := dk_28 (dk_at dksX10_bits_0 14 rfl rfl)
theorem dX10_bits_15 : decode cX10_bits 15 = .ok (.iconst 2, 1) := dk_5 (dk_at dksX10_bits_0 15 rfl rfl)
theorem dX10_bits_16 : decode cX10_bits 16 = .ok (.idiv, 1) := dk_108 (dk_at dksX10_bits_0 16 rfl rfl)
theorem dX10_bits_17 : decode cX10_bits 17 = .ok (.istore_n 2, 1) := dk_61 (dk_at dksX10_bits_0 17 rfl rfl)
theorem dX10_bits_18 : decode cX10_bits 18 = .ok (.goto (-14), 3) := dk_167 255 242 (dk_at dksX10_bits_0 18 rfl rfl)
theorem dX10_bits_21 : decode cX10_bits 21 = .ok (.iload_n 1, 1) := dk_27 (dk_at dksX10_bits_0 21 rfl rfl)
theorem dX10_bits_22 : decode cX10_bits 22 = .ok (.ireturn, 1) := dk_172 (dk_at dksX10_bits_0 22 rfl rfl)
abbrev cX10_example : ByteArray := prog_17_method_85_code
def yX10_example : MethodName := ⟨RX10, "example", "(II)I"⟩
def dkwX10_example_3 : List UInt8 := [132, 5, 1, 167, 255, 221, 2, 172]
abbrev dktX10_example_3 : List UInt8 := dkwX10_example_3 ++ []
def dkwX10_example_2 : List UInt8 := [180, 0, 38, 21, 5, 46, 182, 0, 95, 27, 160, 0, 13, 29, 154, 0, 6, 21, 5, 172, 132, 3, 255]
abbrev dktX10_example_2 : List UInt8 := dkwX10_example_2 ++ dktX10_example_3
def dkwX10_example_1 : List UInt8 := [182, 1, 34, 28, 62, 42, 182, 0, 61, 54, 4, 3, 54, 5, 21, 5, 21, 4, 162, 0, 34, 42, 42]
abbrev dktX10_example_1 : List UInt8 := dkwX10_example_1 ++ dktX10_example_2
def dkwX10_example_0 : List UInt8 := [42, 27, 3, 6, 184, 0, 53, 154, 0, 7, 4, 167, 0, 4, 3, 182, 1, 24, 153, 0, 5, 3, 172, 42]
abbrev dktX10_example_0 : List UInt8 := dkwX10_example_0 ++ dktX10_example_1
theorem dksX10_example_0 : cX10_example.data.toList.drop 0 = dktX10_example_0 := by decide +kernel
theorem dksX10_example_1 : cX10_example.data.toList.drop 24 = dktX10_example_1 := dk_seg dksX10_example_0 24 rfl rfl
theorem dksX10_example_2 : cX10_example.data.toList.drop 47 = dktX10_example_2 := dk_seg dksX10_example_1 23 rfl rfl
theorem dksX10_example_3 : cX10_example.data.toList.drop 70 = dktX10_example_3 := dk_seg dksX10_example_2 23 rfl rfl
theorem dX10_example_0 : decode cX10_example 0 = .ok (.aload_n 0, 1) := dk_42 (dk_at dksX10_example_0 0 rfl rfl)
theorem dX10_example_1 : decode cX10_example 1 = .ok (.iload_n 1, 1) := dk_27 (dk_at dksX10_example_0 1 rfl rfl)
theorem dX10_example_2 : decode cX10_example 2 = .ok (.iconst 0, 1) := dk_3 (dk_at dksX10_example_0 2 rfl rfl)
theorem dX10_example_3 : decode cX10_example 3 = .ok (.iconst 3, 1) := dk_6 (dk_at dksX10_example_0 3 rfl rfl)
theorem dX10_example_4 : decode cX10_example 4 = .ok (.invokestatic 53, 3) := dk_184 0 53 (dk_at dksX10_example_0 4 rfl rfl)
theorem dX10_example_7 : decode cX10_example 7 = .ok (.ifCond .ne 7, 3) := dk_154 0 7 (dk_at dksX10_example_0 7 rfl rfl)
theorem dX10_example_10 : decode cX10_example 10 = .ok (.iconst 1, 1) := dk_4 (dk_at dksX10_example_0 10 rfl rfl)
theorem dX10_example_11 : decode cX10_example 11 = .ok (.goto 4, 3) := dk_167 0 4 (dk_at dksX10_example_0 11 rfl rfl)
theorem dX10_example_14 : decode cX10_example 14 = .ok (.iconst 0, 1) := dk_3 (dk_at dksX10_example_0 14 rfl rfl)
theorem dX10_example_15 : decode cX10_example 15 = .ok (.invokevirtual 280, 3) := dk_182 1 24 (dk_at dksX10_example_0 15 rfl rfl)
theorem dX10_example_18 : decode cX10_example 18 = .ok (.ifCond .eq 5, 3) := dk_153 0 5 (dk_at dksX10_example_0 18 rfl rfl)
theorem dX10_example_21 : decode cX10_example 21 = .ok (.iconst 0, 1) := dk_3 (dk_at dksX10_example_0 21 rfl rfl)
theorem dX10_example_22 : decode cX10_example 22 = .ok (.ireturn, 1) := dk_172 (dk_at dksX10_example_0 22 rfl rfl)
theorem dX10_example_23 : decode cX10_example 23 = .ok (.aload_n 0, 1) := dk_42 (dk_at dksX10_example_0 23 rfl rfl)
theorem dX10_example_24 : decode cX10_example 24 = .ok (.invokevirtual 290, 3) := dk_182 1 34 (dk_at dksX10_example_1 0 rfl rfl)
theorem dX10_example_27 : decode cX10_example 27 = .ok (.iload_n 2, 1) := dk_28 (dk_at dksX10_example_1 3 rfl rfl)
theorem dX10_example_28 : decode cX10_example 28 = .ok (.istore_n 3, 1) := dk_62 (dk_at dksX10_example_1 4 rfl rfl)
theorem dX10_example_29 : decode cX10_example 29 = .ok (.aload_n 0, 1) := dk_42 (dk_at dksX10_example_1 5 rfl rfl)
theorem dX10_example_30 : decode cX10_example 30 = .ok (.invokevirtual 61, 3) := dk_182 0 61 (dk_at dksX10_example_1 6 rfl rfl)
theorem dX10_example_33 : decode cX10_example 33 = .ok (.istore 4, 2) := dk_54 4 (dk_at dksX10_example_1 9 rfl rfl)
theorem dX10_example_35 : decode cX10_example 35 = .ok (.iconst 0, 1) := dk_3 (dk_at dksX10_example_1 11 rfl rfl)
theorem dX10_example_36 : decode cX10_example 36 = .ok (.istore 5, 2) := dk_54 5 (dk_at dksX10_example_1 12 rfl rfl)
theorem dX10_example_38 : decode cX10_example 38 = .ok (.iload 5, 2) := dk_21 5 (dk_at dksX10_example_1 14 rfl rfl)
theorem dX10_example_40 : decode cX10_example 40 = .ok (.iload 4, 2) := dk_21 4 (dk_at dksX10_example_1 16 rfl rfl)
theorem dX10_example_42 : decode cX10_example 42 = .ok (.if_icmp .ge 34, 3) := dk_162 0 34 (dk_at dksX10_example_1 18 rfl rfl)
theorem dX10_example_45 : decode cX10_example 45 = .ok (.aload_n 0, 1) := dk_42 (dk_at dksX10_example_1 21 rfl rfl)
theorem dX10_example_46 : decode cX10_example 46 = .ok (.aload_n 0, 1) := dk_42 (dk_at dksX10_example_1 22 rfl rfl)
theorem dX10_example_47 : decode cX10_example 47 = .ok (.getfield 38, 3) := dk_180 0 38 (dk_at dksX10_example_2 0 rfl rfl)
theorem dX10_example_50 : decode cX10_example 50 = .ok (.iload 5, 2) := dk_21 5 (dk_at dksX10_example_2 3 rfl rfl)
theorem dX10_example_52 : decode cX10_example 52 = .ok (.iaload, 1) := dk_46 (dk_at dksX10_example_2 5 rfl rfl)
theorem dX10_example_53 : decode cX10_example 53 = .ok (.invokevirtual 95, 3) := dk_182 0 95 (dk_at dksX10_example_2 6 rfl rfl)
theorem dX10_example_56 : decode cX10_example 56 = .ok (.iload_n 1, 1) := dk_27 (dk_at dksX10_example_2 9 rfl rfl)
theorem dX10_example_57 : decode cX10_example 57 = .ok (.if_icmp .ne 13, 3) := dk_160 0 13 (dk_at dksX10_example_2 10 rfl rfl)
theorem dX10_example_60 : decode cX10_example 60 = .ok (.iload_n 3, 1) := dk_29 (dk_at dksX10_example_2 13 rfl rfl)
theorem dX10_example_61 : decode cX10_example 61 = .ok (.ifCond .ne 6, 3) := dk_154 0 6 (dk_at dksX10_example_2 14 rfl rfl)
theorem dX10_example_64 : decode cX10_example 64 = .ok (.iload 5, 2) := dk_21 5 (dk_at dksX10_example_2 17 rfl rfl)
theorem dX10_example_66 : decode cX10_example 66 = .ok (.ireturn, 1) := dk_172 (dk_at dksX10_example_2 19 rfl rfl)
theorem dX10_example_67 : decode cX10_example 67 = .ok (.iinc 3 (-1), 3) := dk_132 3 255 (dk_at dksX10_example_2 20 rfl rfl)
theorem dX10_example_70 : decode cX10_example 70 = .ok (.iinc 5 1, 3) := dk_132 5 1 (dk_at dksX10_example_3 0 rfl rfl)
theorem dX10_example_73 : decode cX10_example 73 = .ok (.goto (-35), 3) := dk_167 255 221 (dk_at dksX10_example_3 3 rfl rfl)
theorem dX10_example_76 : decode cX10_example 76 = .ok (.iconst (-1), 1) := dk_2 (dk_at dksX10_example_3 6 rfl rfl)
theorem dX10_example_77 : decode cX10_example 77 = .ok (.ireturn, 1) := dk_172 (dk_at dksX10_example_3 7 rfl rfl)
abbrev cX10_isClosed : ByteArray := prog_17_method_86_code
def yX10_isClosed : MethodName := ⟨RX10, "isClosed", "()Z"⟩
def dkwX10_isClosed_0 : List UInt8 := [42, 3, 181, 0, 45, 42, 182, 1, 34, 42, 2, 182, 1, 93, 154, 0, 7, 4, 167, 0, 4, 3, 172]
abbrev dktX10_isClosed_0 : List UInt8 := dkwX10_isClosed_0 ++ []
theorem dksX10_isClosed_0 : cX10_isClosed.data.toList.drop 0 = dktX10_isClosed_0 := by decide +kernel
theorem dX10_isClosed_0 : decode cX10_isClosed 0 = .ok (.aload_n 0, 1) := dk_42 (dk_at dksX10_isClosed_0 0 rfl rfl)
theorem dX10_isClosed_1 : decode cX10_isClosed 1 = .ok (.iconst 0, 1) := dk_3 (dk_at dksX10_isClosed_0 1 rfl rfl)
theorem dX10_isClosed_2 : decode cX10_isClosed 2 = .ok (.putfield 45, 3) := dk_181 0 45 (dk_at dksX10_isClosed_0 2 rfl rfl)
theorem dX10_isClosed_5 : decode cX10_isClosed 5 = .ok (.aload_n 0, 1) := dk_42 (dk_at dksX10_isClosed_0 5 rfl rfl)
theorem dX10_isClosed_6 : decode cX10_isClosed 6 = .ok (.invokevirtual 290, 3) := dk_182 1 34 (dk_at dksX10_isClosed_0 6 rfl rfl)
theorem dX10_isClosed_9 : decode cX10_isClosed 9 = .ok (.aload_n 0, 1) := dk_42 (dk_at dksX10_isClosed_0 9 rfl rfl)
theorem dX10_isClosed_10 : decode cX10_isClosed 10 = .ok (.iconst (-1), 1) := dk_2 (dk_at dksX10_isClosed_0 10 rfl rfl)
theorem dX10_isClosed_11 : decode cX10_isClosed 11 = .ok (.invokevirtual 349, 3) := dk_182 1 93 (dk_at dksX10_isClosed_0 11 rfl rfl)
theorem dX10_isClosed_14 : decode cX10_isClosed 14 = .ok (.ifCond .ne 7, 3) := dk_154 0 7 (dk_at dksX10_isClosed_0 14 rfl rfl)
theorem dX10_isClosed_17 : decode cX10_isClosed 17 = .ok (.iconst 1, 1) := dk_4 (dk_at dksX10_isClosed_0 17 rfl rfl)
theorem dX10_isClosed_18 : decode cX10_isClosed 18 = .ok (.goto 4, 3) := dk_167 0 4 (dk_at dksX10_isClosed_0 18 rfl rfl)
theorem dX10_isClosed_21 : decode cX10_isClosed 21 = .ok (.iconst 0, 1) := dk_3 (dk_at dksX10_isClosed_0 21 rfl rfl)
theorem dX10_isClosed_22 : decode cX10_isClosed 22 = .ok (.ireturn, 1) := dk_172 (dk_at dksX10_isClosed_0 22 rfl rfl)
abbrev cX10_gaps : ByteArray := prog_17_method_28_code
def yX10_gaps : MethodName := ⟨RX10, "gaps", "(I)I"⟩
def dkwX10_gaps_0 : List UInt8 := [42, 4, 27, 182, 0, 98, 42, 5, 27, 182, 0, 98, 96, 172]
abbrev dktX10_gaps_0 : List UInt8 := dkwX10_gaps_0 ++ []
theorem dksX10_gaps_0 : cX10_gaps.data.toList.drop 0 = dktX10_gaps_0 := by decide +kernel
theorem dX10_gaps_0 : decode cX10_gaps 0 = .ok (.aload_n 0, 1) := dk_42 (dk_at dksX10_gaps_0 0 rfl rfl)
theorem dX10_gaps_1 : decode cX10_gaps 1 = .ok (.iconst 1, 1) := dk_4 (dk_at dksX10_gaps_0 1 rfl rfl)
theorem dX10_gaps_2 : decode cX10_gaps 2 = .ok (.iload_n 1, 1) := dk_27 (dk_at dksX10_gaps_0 2 rfl rfl)
theorem dX10_gaps_3 : decode cX10_gaps 3 = .ok (.invokevirtual 98, 3) := dk_182 0 98 (dk_at dksX10_gaps_0 3 rfl rfl)
theorem dX10_gaps_6 : decode cX10_gaps 6 = .ok (.aload_n 0, 1) := dk_42 (dk_at dksX10_gaps_0 6 rfl rfl)
theorem dX10_gaps_7 : decode cX10_gaps 7 = .ok (.iconst 2, 1) := dk_5 (dk_at dksX10_gaps_0 7 rfl rfl)
theorem dX10_gaps_8 : decode cX10_gaps 8 = .ok (.iload_n 1, 1) := dk_27 (dk_at dksX10_gaps_0 8 rfl rfl)
theorem dX10_gaps_9 : decode cX10_gaps 9 = .ok (.invokevirtual 98, 3) := dk_182 0 98 (dk_at dksX10_gaps_0 9 rfl rfl)
theorem dX10_gaps_12 : decode cX10_gaps 12 = .ok (.iadd, 1) := dk_96 (dk_at dksX10_gaps_0 12 rfl rfl)
theorem dX10_gaps_13 : decode cX10_gaps 13 = .ok (.ireturn, 1) := dk_172 (dk_at dksX10_gaps_0 13 rfl rfl)
abbrev cX10_isWider : ByteArray := prog_17_method_87_code
def yX10_isWider : MethodName := ⟨RX10, "isWider", "(II)Z"⟩
def dkwX10_isWider_4 : List UInt8 := [132, 5, 1, 167, 255, 208, 29, 172]
abbrev dktX10_isWider_4 : List UInt8 := dkwX10_isWider_4 ++ []
def dkwX10_isWider_3 : List UInt8 := [153, 0, 17, 42, 180, 0, 38, 21, 5, 46, 27, 184, 0, 49, 153, 0, 7, 4, 167, 0, 4, 3, 62]
abbrev dktX10_isWider_3 : List UInt8 := dkwX10_isWider_3 ++ dktX10_isWider_4
def dkwX10_isWider_2 : List UInt8 := [21, 5, 21, 4, 162, 0, 47, 29, 153, 0, 35, 42, 180, 0, 38, 21, 5, 46, 28, 184, 0, 49]
abbrev dktX10_isWider_2 : List UInt8 := dkwX10_isWider_2 ++ dktX10_isWider_3
def dkwX10_isWider_1 : List UInt8 := [182, 1, 24, 153, 0, 5, 3, 172, 42, 182, 1, 34, 4, 62, 42, 182, 0, 61, 54, 4, 3, 54, 5]
abbrev dktX10_isWider_1 : List UInt8 := dkwX10_isWider_1 ++ dktX10_isWider_2
def dkwX10_isWider_0 : List UInt8 := [42, 42, 27, 182, 1, 74, 153, 0, 11, 42, 28, 182, 1, 74, 154, 0, 7, 4, 167, 0, 4, 3]
abbrev dktX10_isWider_0 : List UInt8 := dkwX10_isWider_0 ++ dktX10_isWider_1
theorem dksX10_isWider_0 : cX10_isWider.data.toList.drop 0 = dktX10_isWider_0 := by decide +kernel
theorem dksX10_isWider_1 : cX10_isWider.data.toList.drop 22 = dktX10_isWider_1 := dk_seg dksX10_isWider_0 22 rfl rfl
theorem dksX10_isWider_2 : cX10_isWider.data.toList.drop 45 = dktX10_isWider_2 := dk_seg dksX10_isWider_1 23 rfl rfl
theorem dksX10_isWider_3 : cX10_isWider.data.toList.drop 67 = dktX10_isWider_3 := dk_seg dksX10_isWider_2 22 rfl rfl
theorem dksX10_isWider_4 : cX10_isWider.data.toList.drop 90 = dktX10_isWider_4 := dk_seg dksX10_isWider_3 23 rfl rfl
theorem dX10_isWider_0 : decode cX10_isWider 0 = .ok (.aload_n 0, 1) := dk_42 (dk_at dksX10_isWider_0 0 rfl rfl)
theorem dX10_isWider_1 : decode cX10_isWider 1 = .ok (.aload_n 0, 1) := dk_42 (dk_at dksX10_isWider_0 1 rfl rfl)
theorem dX10_isWider_2 : decode cX10_isWider 2 = .ok (.iload_n 1, 1) := dk_27 (dk_at dksX10_isWider_0 2 rfl rfl)
theorem dX10_isWider_3 : decode cX10_isWider 3 = .ok (.invokevirtual 330, 3) := dk_182 1 74 (dk_at dksX10_isWider_0 3 rfl rfl)
theorem dX10_isWider_6 : decode cX10_isWider 6 = .ok (.ifCond .eq 11, 3) := dk_153 0 11 (dk_at dksX10_isWider_0 6 rfl rfl)
theorem dX10_isWider_9 : decode cX10_isWider 9 = .ok (.aload_n 0, 1) := dk_42 (dk_at dksX10_isWider_0 9 rfl rfl)
theorem dX10_isWider_10 : decode cX10_isWider 10 = .ok (.iload_n 2, 1) := dk_28 (dk_at dksX10_isWider_0 10 rfl rfl)
theorem dX10_isWider_11 : decode cX10_isWider 11 = .ok (.invokevirtual 330, 3) := dk_182 1 74 (dk_at dksX10_isWider_0 11 rfl rfl)
theorem dX10_isWider_14 : decode cX10_isWider 14 = .ok (.ifCond .ne 7, 3) := dk_154 0 7 (dk_at dksX10_isWider_0 14 rfl rfl)
theorem dX10_isWider_17 : decode cX10_isWider 17 = .ok (.iconst 1, 1) := dk_4 (dk_at dksX10_isWider_0 17 rfl rfl)
theorem dX10_isWider_18 : decode cX10_isWider 18 = .ok (.goto 4, 3) := dk_167 0 4 (dk_at dksX10_isWider_0 18 rfl rfl)
theorem dX10_isWider_21 : decode cX10_isWider 21 = .ok (.iconst 0, 1) := dk_3 (dk_at dksX10_isWider_0 21 rfl rfl)
theorem dX10_isWider_22 : decode cX10_isWider 22 = .ok (.invokevirtual 280, 3) := dk_182 1 24 (dk_at dksX10_isWider_1 0 rfl rfl)
theorem dX10_isWider_25 : decode cX10_isWider 25 = .ok (.ifCond .eq 5, 3) := dk_153 0 5 (dk_at dksX10_isWider_1 3 rfl rfl)
theorem dX10_isWider_28 : decode cX10_isWider 28 = .ok (.iconst 0, 1) := dk_3 (dk_at dksX10_isWider_1 6 rfl rfl)
theorem dX10_isWider_29 : decode cX10_isWider 29 = .ok (.ireturn, 1) := dk_172 (dk_at dksX10_isWider_1 7 rfl rfl)
theorem dX10_isWider_30 : decode cX10_isWider 30 = .ok (.aload_n 0, 1) := dk_42 (dk_at dksX10_isWider_1 8 rfl rfl)
theorem dX10_isWider_31 : decode cX10_isWider 31 = .ok (.invokevirtual 290, 3) := dk_182 1 34 (dk_at dksX10_isWider_1 9 rfl rfl)
theorem dX10_isWider_34 : decode cX10_isWider 34 = .ok (.iconst 1, 1) := dk_4 (dk_at dksX10_isWider_1 12 rfl rfl)
theorem dX10_isWider_35 : decode cX10_isWider 35 = .ok (.istore_n 3, 1) := dk_62 (dk_at dksX10_isWider_1 13 rfl rfl)
theorem dX10_isWider_36 : decode cX10_isWider 36 = .ok (.aload_n 0, 1) := dk_42 (dk_at dksX10_isWider_1 14 rfl rfl)
theorem dX10_isWider_37 : decode cX10_isWider 37 = .ok (.invokevirtual 61, 3) := dk_182 0 61 (dk_at dksX10_isWider_1 15 rfl rfl)
theorem dX10_isWider_40 : decode cX10_isWider 40 = .ok (.istore 4, 2) := dk_54 4 (dk_at dksX10_isWider_1 18 rfl rfl)
theorem dX10_isWider_42 : decode cX10_isWider 42 = .ok (.iconst 0, 1) := dk_3 (dk_at dksX10_isWider_1 20 rfl rfl)
theorem dX10_isWider_43 : decode cX10_isWider 43 = .ok (.istore 5, 2) := dk_54 5 (dk_at dksX10_isWider_1 21 rfl rfl)
theorem dX10_isWider_45 : decode cX10_isWider 45 = .ok (.iload 5, 2) := dk_21 5 (dk_at dksX10_isWider_2 0 rfl rfl)
theorem dX10_isWider_47 : decode cX10_isWider 47 = .ok (.iload 4, 2) := dk_21 4 (dk_at dksX10_isWider_2 2 rfl rfl)
theorem dX10_isWider_49 : decode cX10_isWider 49 = .ok (.if_icmp .ge 47, 3) := dk_162 0 47 (dk_at dksX10_isWider_2 4 rfl rfl)
theorem dX10_isWider_52 : decode cX10_isWider 52 = .ok (.iload_n 3, 1) := dk_29 (dk_at dksX10_isWider_2 7 rfl rfl)
theorem dX10_isWider_53 : decode cX10_isWider 53 = .ok (.ifCond .eq 35, 3) := dk_153 0 35 (dk_at dksX10_isWider_2 8 rfl rfl)
theorem dX10_isWider_56 : decode cX10_isWider 56 = .ok (.aload_n 0, 1) := dk_42 (dk_at dksX10_isWider_2 11 rfl rfl)
theorem dX10_isWider_57 : decode cX10_isWider 57 = .ok (.getfield 38, 3) := dk_180 0 38 (dk_at dksX10_isWider_2 12 rfl rfl)
theorem dX10_isWider_60 : decode cX10_isWider 60 = .ok (.iload 5, 2) := dk_21 5 (dk_at dksX10_isWider_2 15 rfl rfl)
theorem dX10_isWider_62 : decode cX10_isWider 62 = .ok (.iaload, 1) := dk_46 (dk_at dksX10_isWider_2 17 rfl rfl)
theorem dX10_isWider_63 : decode cX10_isWider 63 = .ok (.iload_n 2, 1) := dk_28 (dk_at dksX10_isWider_2 18 rfl rfl)
theorem dX10_isWider_64 : decode cX10_isWider 64 = .ok (.invokestatic 49, 3) := dk_184 0 49 (dk_at dksX10_isWider_2 19 rfl rfl)
theorem dX10_isWider_67 : decode cX10_isWider 67 = .ok (.ifCond .eq 17, 3) := dk_153 0 17 (dk_at dksX10_isWider_3 0 rfl rfl)
theorem dX10_isWider_70 : decode cX10_isWider 70 = .ok (.aload_n 0, 1) := dk_42 (dk_at dksX10_isWider_3 3 rfl rfl)
theorem dX10_isWider_71 : decode cX10_isWider 71 = .ok (.getfield 38, 3) := dk_180 0 38 (dk_at dksX10_isWider_3 4 rfl rfl)
theorem dX10_isWider_74 : decode cX10_isWider 74 = .ok (.iload 5, 2) := dk_21 5 (dk_at dksX10_isWider_3 7 rfl rfl)
theorem dX10_isWider_76 : decode cX10_isWider 76 = .ok (.iaload, 1) := dk_46 (dk_at dksX10_isWider_3 9 rfl rfl)
theorem dX10_isWider_77 : decode cX10_isWider 77 = .ok (.iload_n 1, 1) := dk_27 (dk_at dksX10_isWider_3 10 rfl rfl)
theorem dX10_isWider_78 : decode cX10_isWider 78 = .ok (.invokestatic 49, 3) := dk_184 0 49 (dk_at dksX10_isWider_3 11 rfl rfl)
theorem dX10_isWider_81 : decode cX10_isWider 81 = .ok (.ifCond .eq 7, 3) := dk_153 0 7 (dk_at dksX10_isWider_3 14 rfl rfl)
theorem dX10_isWider_84 : decode cX10_isWider 84 = .ok (.iconst 1, 1) := dk_4 (dk_at dksX10_isWider_3 17 rfl rfl)
theorem dX10_isWider_85 : decode cX10_isWider 85 = .ok (.goto 4, 3) := dk_167 0 4 (dk_at dksX10_isWider_3 18 rfl rfl)
theorem dX10_isWider_88 : decode cX10_isWider 88 = .ok (.iconst 0, 1) := dk_3 (dk_at dksX10_isWider_3 21 rfl rfl)
theorem dX10_isWider_89 : decode cX10_isWider 89 = .ok (.istore_n 3, 1) := dk_62 (dk_at dksX10_isWider_3 22 rfl rfl)
theorem dX10_isWider_90 : decode cX10_isWider 90 = .ok (.iinc 5 1, 3) := dk_132 5 1 (dk_at dksX10_isWider_4 0 rfl rfl)
theorem dX10_isWider_93 : decode cX10_isWider 93 = .ok (.goto (-48), 3) := dk_167 255 208 (dk_at dksX10_isWider_4 3 rfl rfl)
theorem dX10_isWider_96 : decode cX10_isWider 96 = .ok (.iload_n 3, 1) := dk_29 (dk_at dksX10_isWider_4 6 rfl rfl)
theorem dX10_isWider_97 : decode cX10_isWider 97 = .ok (.ireturn, 1) := dk_172 (dk_at dksX10_isWider_4 7 rfl rfl)
abbrev cX10_common : ByteArray := prog_17_method_88_code
def yX10_common : MethodName := ⟨RX10, "common", "(II)I"⟩
def dkwX10_common_4 : List UInt8 := [167, 255, 210, 29, 172]
abbrev dktX10_common_4 : List UInt8 := dkwX10_common_4 ++ []
def dkwX10_common_3 : List UInt8 := [180, 0, 38, 21, 5, 46, 28, 184, 0, 49, 153, 0, 7, 4, 167, 0, 4, 3, 96, 62, 132, 5, 1]
abbrev dktX10_common_3 : List UInt8 := dkwX10_common_3 ++ dktX10_common_4
def dkwX10_common_2 : List UInt8 := [21, 5, 21, 4, 162, 0, 45, 29, 42, 180, 0, 38, 21, 5, 46, 27, 184, 0, 49, 153, 0, 21, 42]
abbrev dktX10_common_2 : List UInt8 := dkwX10_common_2 ++ dktX10_common_3
def dkwX10_common_1 : List UInt8 := [182, 1, 24, 153, 0, 5, 3, 172, 42, 182, 1, 34, 3, 62, 42, 182, 0, 61, 54, 4, 3, 54, 5]
abbrev dktX10_common_1 : List UInt8 := dkwX10_common_1 ++ dktX10_common_2
def dkwX10_common_0 : List UInt8 := [42, 42, 27, 182, 1, 74, 153, 0, 11, 42, 28, 182, 1, 74, 154, 0, 7, 4, 167, 0, 4, 3]
abbrev dktX10_common_0 : List UInt8 := dkwX10_common_0 ++ dktX10_common_1
theorem dksX10_common_0 : cX10_common.data.toList.drop 0 = dktX10_common_0 := by decide +kernel
theorem dksX10_common_1 : cX10_common.data.toList.drop 22 = dktX10_common_1 := dk_seg dksX10_common_0 22 rfl rfl
theorem dksX10_common_2 : cX10_common.data.toList.drop 45 = dktX10_common_2 := dk_seg dksX10_common_1 23 rfl rfl
theorem dksX10_common_3 : cX10_common.data.toList.drop 68 = dktX10_common_3 := dk_seg dksX10_common_2 23 rfl rfl
theorem dksX10_common_4 : cX10_common.data.toList.drop 91 = dktX10_common_4 := dk_seg dksX10_common_3 23 rfl rfl
theorem dX10_common_0 : decode cX10_common 0 = .ok (.aload_n 0, 1) := dk_42 (dk_at dksX10_common_0 0 rfl rfl)
theorem dX10_common_1 : decode cX10_common 1 = .ok (.aload_n 0, 1) := dk_42 (dk_at dksX10_common_0 1 rfl rfl)
theorem dX10_common_2 : decode cX10_common 2 = .ok (.iload_n 1, 1) := dk_27 (dk_at dksX10_common_0 2 rfl rfl)
theorem dX10_common_3 : decode cX10_common 3 = .ok (.invokevirtual 330, 3) := dk_182 1 74 (dk_at dksX10_common_0 3 rfl rfl)
theorem dX10_common_6 : decode cX10_common 6 = .ok (.ifCond .eq 11, 3) := dk_153 0 11 (dk_at dksX10_common_0 6 rfl rfl)
theorem dX10_common_9 : decode cX10_common 9 = .ok (.aload_n 0, 1) := dk_42 (dk_at dksX10_common_0 9 rfl rfl)
theorem dX10_common_10 : decode cX10_common 10 = .ok (.iload_n 2, 1) := dk_28 (dk_at dksX10_common_0 10 rfl rfl)
theorem dX10_common_11 : decode cX10_common 11 = .ok (.invokevirtual 330, 3) := dk_182 1 74 (dk_at dksX10_common_0 11 rfl rfl)
theorem dX10_common_14 : decode cX10_common 14 = .ok (.ifCond .ne 7, 3) := dk_154 0 7 (dk_at dksX10_common_0 14 rfl rfl)
theorem dX10_common_17 : decode cX10_common 17 = .ok (.iconst 1, 1) := dk_4 (dk_at dksX10_common_0 17 rfl rfl)
theorem dX10_common_18 : decode cX10_common 18 = .ok (.goto 4, 3) := dk_167 0 4 (dk_at dksX10_common_0 18 rfl rfl)
theorem dX10_common_21 : decode cX10_common 21 = .ok (.iconst 0, 1) := dk_3 (dk_at dksX10_common_0 21 rfl rfl)
theorem dX10_common_22 : decode cX10_common 22 = .ok (.invokevirtual 280, 3) := dk_182 1 24 (dk_at dksX10_common_1 0 rfl rfl)
theorem dX10_common_25 : decode cX10_common 25 = .ok (.ifCond .eq 5, 3) := dk_153 0 5 (dk_at dksX10_common_1 3 rfl rfl)
theorem dX10_common_28 : decode cX10_common 28 = .ok (.iconst 0, 1) := dk_3 (dk_at dksX10_common_1 6 rfl rfl)
theorem dX10_common_29 : decode cX10_common 29 = .ok (.ireturn, 1) := dk_172 (dk_at dksX10_common_1 7 rfl rfl)
theorem dX10_common_30 : decode cX10_common 30 = .ok (.aload_n 0, 1) := dk_42 (dk_at dksX10_common_1 8 rfl rfl)
theorem dX10_common_31 : decode cX10_common 31 = .ok (.invokevirtual 290, 3) := dk_182 1 34 (dk_at dksX10_common_1 9 rfl rfl)
theorem dX10_common_34 : decode cX10_common 34 = .ok (.iconst 0, 1) := dk_3 (dk_at dksX10_common_1 12 rfl rfl)
theorem dX10_common_35 : decode cX10_common 35 = .ok (.istore_n 3, 1) := dk_62 (dk_at dksX10_common_1 13 rfl rfl)
theorem dX10_common_36 : decode cX10_common 36 = .ok (.aload_n 0, 1) := dk_42 (dk_at dksX10_common_1 14 rfl rfl)
theorem dX10_common_37 : decode cX10_common 37 = .ok (.invokevirtual 61, 3) := dk_182 0 61 (dk_at dksX10_common_1 15 rfl rfl)
theorem dX10_common_40 : decode cX10_common 40 = .ok (.istore 4, 2) := dk_54 4 (dk_at dksX10_common_1 18 rfl rfl)
theorem dX10_common_42 : decode cX10_common 42 = .ok (.iconst 0, 1) := dk_3 (dk_at dksX10_common_1 20 rfl rfl)
theorem dX10_common_43 : decode cX10_common 43 = .ok (.istore 5, 2) := dk_54 5 (dk_at dksX10_common_1 21 rfl rfl)
theorem dX10_common_45 : decode cX10_common 45 = .ok (.iload 5, 2) := dk_21 5 (dk_at dksX10_common_2 0 rfl rfl)
theorem dX10_common_47 : decode cX10_common 47 = .ok (.iload 4, 2) := dk_21 4 (dk_at dksX10_common_2 2 rfl rfl)
theorem dX10_common_49 : decode cX10_common 49 = .ok (.if_icmp .ge 45, 3) := dk_162 0 45 (dk_at dksX10_common_2 4 rfl rfl)
theorem dX10_common_52 : decode cX10_common 52 = .ok (.iload_n 3, 1) := dk_29 (dk_at dksX10_common_2 7 rfl rfl)
theorem dX10_common_53 : decode cX10_common 53 = .ok (.aload_n 0, 1) := dk_42 (dk_at dksX10_common_2 8 rfl rfl)
theorem dX10_common_54 : decode cX10_common 54 = .ok (.getfield 38, 3) := dk_180 0 38 (dk_at dksX10_common_2 9 rfl rfl)
theorem dX10_common_57 : decode cX10_common 57 = .ok (.iload 5, 2) := dk_21 5 (dk_at dksX10_common_2 12 rfl rfl)
theorem dX10_common_59 : decode cX10_common 59 = .ok (.iaload, 1) := dk_46 (dk_at dksX10_common_2 14 rfl rfl)
theorem dX10_common_60 : decode cX10_common 60 = .ok (.iload_n 1, 1) := dk_27 (dk_at dksX10_common_2 15 rfl rfl)
theorem dX10_common_61 : decode cX10_common 61 = .ok (.invokestatic 49, 3) := dk_184 0 49 (dk_at dksX10_common_2 16 rfl rfl)
theorem dX10_common_64 : decode cX10_common 64 = .ok (.ifCond .eq 21, 3) := dk_153 0 21 (dk_at dksX10_common_2 19 rfl rfl)
theorem dX10_common_67 : decode cX10_common 67 = .ok (.aload_n 0, 1) := dk_42 (dk_at dksX10_common_2 22 rfl rfl)
theorem dX10_common_68 : decode cX10_common 68 = .ok (.getfield 38, 3) := dk_180 0 38 (dk_at dksX10_common_3 0 rfl rfl)
theorem dX10_common_71 : decode cX10_common 71 = .ok (.iload 5, 2) := dk_21 5 (dk_at dksX10_common_3 3 rfl rfl)
theorem dX10_common_73 : decode cX10_common 73 = .ok (.iaload, 1) := dk_46 (dk_at dksX10_common_3 5 rfl rfl)
theorem dX10_common_74 : decode cX10_common 74 = .ok (.iload_n 2, 1) := dk_28 (dk_at dksX10_common_3 6 rfl rfl)
theorem dX10_common_75 : decode cX10_common 75 = .ok (.invokestatic 49, 3) := dk_184 0 49 (dk_at dksX10_common_3 7 rfl rfl)
theorem dX10_common_78 : decode cX10_common 78 = .ok (.ifCond .eq 7, 3) := dk_153 0 7 (dk_at dksX10_common_3 10 rfl rfl)
theorem dX10_common_81 : decode cX10_common 81 = .ok (.iconst 1, 1) := dk_4 (dk_at dksX10_common_3 13 rfl rfl)
theorem dX10_common_82 : decode cX10_common 82 = .ok (.goto 4, 3) := dk_167 0 4 (dk_at dksX10_common_3 14 rfl rfl)
theorem dX10_common_85 : decode cX10_common 85 = .ok (.iconst 0, 1) := dk_3 (dk_at dksX10_common_3 17 rfl rfl)
theorem dX10_common_86 : decode cX10_common 86 = .ok (.iadd, 1) := dk_96 (dk_at dksX10_common_3 18 rfl rfl)
theorem dX10_common_87 : decode cX10_common 87 = .ok (.istore_n 3, 1) := dk_62 (dk_at dksX10_common_3 19 rfl rfl)
theorem dX10_common_88 : decode cX10_common 88 = .ok (.iinc 5 1, 3) := dk_132 5 1 (dk_at dksX10_common_3 20 rfl rfl)
theorem dX10_common_91 : decode cX10_common 91 = .ok (.goto (-46), 3) := dk_167 255 210 (dk_at dksX10_common_4 0 rfl rfl)
theorem dX10_common_94 : decode cX10_common 94 = .ok (.iload_n 3, 1) := dk_29 (dk_at dksX10_common_4 3 rfl rfl)
theorem dX10_common_95 : decode cX10_common 95 = .ok (.ireturn, 1) := dk_172 (dk_at dksX10_common_4 4 rfl rfl)
abbrev cX10_needed : ByteArray := prog_17_method_89_code
def yX10_needed : MethodName := ⟨RX10, "needed", "()I"⟩
def dkwX10_needed_3 : List UInt8 := [172]
abbrev dktX10_needed_3 : List UInt8 := dkwX10_needed_3 ++ []
def dkwX10_needed_2 : List UInt8 := [182, 0, 98, 96, 27, 164, 0, 9, 4, 29, 120, 167, 0, 4, 3, 128, 61, 132, 3, 1, 167, 255, 216, 28]
abbrev dktX10_needed_2 : List UInt8 := dkwX10_needed_2 ++ dktX10_needed_3
def dkwX10_needed_1 : List UInt8 := [3, 62, 29, 42, 180, 0, 7, 16, 17, 46, 162, 0, 35, 28, 42, 29, 182, 1, 93, 42, 6, 29]
abbrev dktX10_needed_1 : List UInt8 := dkwX10_needed_1 ++ dktX10_needed_2
def dkwX10_needed_0 : List UInt8 := [42, 3, 181, 0, 45, 42, 182, 1, 34, 42, 2, 182, 1, 93, 42, 6, 2, 182, 0, 98, 96, 60, 3, 61]
abbrev dktX10_needed_0 : List UInt8 := dkwX10_needed_0 ++ dktX10_needed_1
theorem dksX10_needed_0 : cX10_needed.data.toList.drop 0 = dktX10_needed_0 := by decide +kernel
theorem dksX10_needed_1 : cX10_needed.data.toList.drop 24 = dktX10_needed_1 := dk_seg dksX10_needed_0 24 rfl rfl
theorem dksX10_needed_2 : cX10_needed.data.toList.drop 46 = dktX10_needed_2 := dk_seg dksX10_needed_1 22 rfl rfl
theorem dksX10_needed_3 : cX10_needed.data.toList.drop 70 = dktX10_needed_3 := dk_seg dksX10_needed_2 24 rfl rfl
theorem dX10_needed_0 : decode cX10_needed 0 = .ok (.aload_n 0, 1) := dk_42 (dk_at dksX10_needed_0 0 rfl rfl)
theorem dX10_needed_1 : decode cX10_needed 1 = .ok (.iconst 0, 1) := dk_3 (dk_at dksX10_needed_0 1 rfl rfl)
theorem dX10_needed_2 : decode cX10_needed 2 = .ok (.putfield 45, 3) := dk_181 0 45 (dk_at dksX10_needed_0 2 rfl rfl)
theorem dX10_needed_5 : decode cX10_needed 5 = .ok (.aload_n 0, 1) := dk_42 (dk_at dksX10_needed_0 5 rfl rfl)
theorem dX10_needed_6 : decode cX10_needed 6 = .ok (.invokevirtual 290, 3) := dk_182 1 34 (dk_at dksX10_needed_0 6 rfl rfl)
theorem dX10_needed_9 : decode cX10_needed 9 = .ok (.aload_n 0, 1) := dk_42 (dk_at dksX10_needed_0 9 rfl rfl)
theorem dX10_needed_10 : decode cX10_needed 10 = .ok (.iconst (-1), 1) := dk_2 (dk_at dksX10_needed_0 10 rfl rfl)
theorem dX10_needed_11 : decode cX10_needed 11 = .ok (.invokevirtual 349, 3) := dk_182 1 93 (dk_at dksX10_needed_0 11 rfl rfl)
theorem dX10_needed_14 : decode cX10_needed 14 = .ok (.aload_n 0, 1) := dk_42 (dk_at dksX10_needed_0 14 rfl rfl)
theorem dX10_needed_15 : decode cX10_needed 15 = .ok (.iconst 3, 1) := dk_6 (dk_at dksX10_needed_0 15 rfl rfl)
theorem dX10_needed_16 : decode cX10_needed 16 = .ok (.iconst (-1), 1) := dk_2 (dk_at dksX10_needed_0 16 rfl rfl)
theorem dX10_needed_17 : decode cX10_needed 17 = .ok (.invokevirtual 98, 3) := dk_182 0 98 (dk_at dksX10_needed_0 17 rfl rfl)
theorem dX10_needed_20 : decode cX10_needed 20 = .ok (.iadd, 1) := dk_96 (dk_at dksX10_needed_0 20 rfl rfl)
theorem dX10_needed_21 : decode cX10_needed 21 = .ok (.istore_n 1, 1) := dk_60 (dk_at dksX10_needed_0 21 rfl rfl)
theorem dX10_needed_22 : decode cX10_needed 22 = .ok (.iconst 0, 1) := dk_3 (dk_at dksX10_needed_0 22 rfl rfl)
theorem dX10_needed_23 : decode cX10_needed 23 = .ok (.istore_n 2, 1) := dk_61 (dk_at dksX10_needed_0 23 rfl rfl)
theorem dX10_needed_24 : decode cX10_needed 24 = .ok (.iconst 0, 1) := dk_3 (dk_at dksX10_needed_1 0 rfl rfl)
theorem dX10_needed_25 : decode cX10_needed 25 = .ok (.istore_n 3, 1) := dk_62 (dk_at dksX10_needed_1 1 rfl rfl)
theorem dX10_needed_26 : decode cX10_needed 26 = .ok (.iload_n 3, 1) := dk_29 (dk_at dksX10_needed_1 2 rfl rfl)
theorem dX10_needed_27 : decode cX10_needed 27 = .ok (.aload_n 0, 1) := dk_42 (dk_at dksX10_needed_1 3 rfl rfl)
theorem dX10_needed_28 : decode cX10_needed 28 = .ok (.getfield 7, 3) := dk_180 0 7 (dk_at dksX10_needed_1 4 rfl rfl)
theorem dX10_needed_31 : decode cX10_needed 31 = .ok (.bipush 17, 2) := dk_16 17 (dk_at dksX10_needed_1 7 rfl rfl)
theorem dX10_needed_33 : decode cX10_needed 33 = .ok (.iaload, 1) := dk_46 (dk_at dksX10_needed_1 9 rfl rfl)
theorem dX10_needed_34 : decode cX10_needed 34 = .ok (.if_icmp .ge 35, 3) := dk_162 0 35 (dk_at dksX10_needed_1 10 rfl rfl)
theorem dX10_needed_37 : decode cX10_needed 37 = .ok (.iload_n 2, 1) := dk_28 (dk_at dksX10_needed_1 13 rfl rfl)
theorem dX10_needed_38 : decode cX10_needed 38 = .ok (.aload_n 0, 1) := dk_42 (dk_at dksX10_needed_1 14 rfl rfl)
theorem dX10_needed_39 : decode cX10_needed 39 = .ok (.iload_n 3, 1) := dk_29 (dk_at dksX10_needed_1 15 rfl rfl)
theorem dX10_needed_40 : decode cX10_needed 40 = .ok (.invokevirtual 349, 3) := dk_182 1 93 (dk_at dksX10_needed_1 16 rfl rfl)
theorem dX10_needed_43 : decode cX10_needed 43 = .ok (.aload_n 0, 1) := dk_42 (dk_at dksX10_needed_1 19 rfl rfl)
theorem dX10_needed_44 : decode cX10_needed 44 = .ok (.iconst 3, 1) := dk_6 (dk_at dksX10_needed_1 20 rfl rfl)
theorem dX10_needed_45 : decode cX10_needed 45 = .ok (.iload_n 3, 1) := dk_29 (dk_at dksX10_needed_1 21 rfl rfl)
theorem dX10_needed_46 : decode cX10_needed 46 = .ok (.invokevirtual 98, 3) := dk_182 0 98 (dk_at dksX10_needed_2 0 rfl rfl)
theorem dX10_needed_49 : decode cX10_needed 49 = .ok (.iadd, 1) := dk_96 (dk_at dksX10_needed_2 3 rfl rfl)
theorem dX10_needed_50 : decode cX10_needed 50 = .ok (.iload_n 1, 1) := dk_27 (dk_at dksX10_needed_2 4 rfl rfl)
theorem dX10_needed_51 : decode cX10_needed 51 = .ok (.if_icmp .le 9, 3) := dk_164 0 9 (dk_at dksX10_needed_2 5 rfl rfl)
theorem dX10_needed_54 : decode cX10_needed 54 = .ok (.iconst 1, 1) := dk_4 (dk_at dksX10_needed_2 8 rfl rfl)
theorem dX10_needed_55 : decode cX10_needed 55 = .ok (.iload_n 3, 1) := dk_29 (dk_at dksX10_needed_2 9 rfl rfl)
theorem dX10_needed_56 : decode cX10_needed 56 = .ok (.ishl, 1) := dk_120 (dk_at dksX10_needed_2 10 rfl rfl)
theorem dX10_needed_57 : decode cX10_needed 57 = .ok (.goto 4, 3) := dk_167 0 4 (dk_at dksX10_needed_2 11 rfl rfl)
theorem dX10_needed_60 : decode cX10_needed 60 = .ok (.iconst 0, 1) := dk_3 (dk_at dksX10_needed_2 14 rfl rfl)
theorem dX10_needed_61 : decode cX10_needed 61 = .ok (.ior, 1) := dk_128 (dk_at dksX10_needed_2 15 rfl rfl)
theorem dX10_needed_62 : decode cX10_needed 62 = .ok (.istore_n 2, 1) := dk_61 (dk_at dksX10_needed_2 16 rfl rfl)
theorem dX10_needed_63 : decode cX10_needed 63 = .ok (.iinc 3 1, 3) := dk_132 3 1 (dk_at dksX10_needed_2 17 rfl rfl)
theorem dX10_needed_66 : decode cX10_needed 66 = .ok (.goto (-40), 3) := dk_167 255 216 (dk_at dksX10_needed_2 20 rfl rfl)
theorem dX10_needed_69 : decode cX10_needed 69 = .ok (.iload_n 2, 1) := dk_28 (dk_at dksX10_needed_2 23 rfl rfl)
theorem dX10_needed_70 : decode cX10_needed 70 = .ok (.ireturn, 1) := dk_172 (dk_at dksX10_needed_3 0 rfl rfl)
abbrev cX10_idle : ByteArray := prog_17_method_90_code
def yX10_idle : MethodName := ⟨RX10, "idle", "()I"⟩
def dkwX10_idle_1 : List UInt8 := [182, 1, 71, 154, 0, 9, 4, 28, 120, 167, 0, 4, 3, 128, 60, 132, 2, 1, 167, 255, 223, 27, 172]
abbrev dktX10_idle_1 : List UInt8 := dkwX10_idle_1 ++ []
def dkwX10_idle_0 : List UInt8 := [42, 3, 181, 0, 45, 3, 60, 3, 61, 28, 42, 180, 0, 7, 16, 17, 46, 162, 0, 28, 27, 42, 28, 4]
abbrev dktX10_idle_0 : List UInt8 := dkwX10_idle_0 ++ dktX10_idle_1
theorem dksX10_idle_0 : cX10_idle.data.toList.drop 0 = dktX10_idle_0 := by decide +kernel
theorem dksX10_idle_1 : cX10_idle.data.toList.drop 24 = dktX10_idle_1 := dk_seg dksX10_idle_0 24 rfl rfl
theorem dX10_idle_0 : decode cX10_idle 0 = .ok (.aload_n 0, 1) := dk_42 (dk_at dksX10_idle_0 0 rfl rfl)
theorem dX10_idle_1 : decode cX10_idle 1 = .ok (.iconst 0, 1) := dk_3 (dk_at dksX10_idle_0 1 rfl rfl)
theorem dX10_idle_2 : decode cX10_idle 2 = .ok (.putfield 45, 3) := dk_181 0 45 (dk_at dksX10_idle_0 2 rfl rfl)
theorem dX10_idle_5 : decode cX10_idle 5 = .ok (.iconst 0, 1) := dk_3 (dk_at dksX10_idle_0 5 rfl rfl)
theorem dX10_idle_6 : decode cX10_idle 6 = .ok (.istore_n 1, 1) := dk_60 (dk_at dksX10_idle_0 6 rfl rfl)
theorem dX10_idle_7 : decode cX10_idle 7 = .ok (.iconst 0, 1) := dk_3 (dk_at dksX10_idle_0 7 rfl rfl)
theorem dX10_idle_8 : decode cX10_idle 8 = .ok (.istore_n 2, 1) := dk_61 (dk_at dksX10_idle_0 8 rfl rfl)
theorem dX10_idle_9 : decode cX10_idle 9 = .ok (.iload_n 2, 1) := dk_28 (dk_at dksX10_idle_0 9 rfl rfl)
theorem dX10_idle_10 : decode cX10_idle 10 = .ok (.aload_n 0, 1) := dk_42 (dk_at dksX10_idle_0 10 rfl rfl)
theorem dX10_idle_11 : decode cX10_idle 11 = .ok (.getfield 7, 3) := dk_180 0 7 (dk_at dksX10_idle_0 11 rfl rfl)
theorem dX10_idle_14 : decode cX10_idle 14 = .ok (.bipush 17, 2) := dk_16 17 (dk_at dksX10_idle_0 14 rfl rfl)
theorem dX10_idle_16 : decode cX10_idle 16 = .ok (.iaload, 1) := dk_46 (dk_at dksX10_idle_0 16 rfl rfl)
theorem dX10_idle_17 : decode cX10_idle 17 = .ok (.if_icmp .ge 28, 3) := dk_162 0 28 (dk_at dksX10_idle_0 17 rfl rfl)
theorem dX10_idle_20 : decode cX10_idle 20 = .ok (.iload_n 1, 1) := dk_27 (dk_at dksX10_idle_0 20 rfl rfl)
theorem dX10_idle_21 : decode cX10_idle 21 = .ok (.aload_n 0, 1) := dk_42 (dk_at dksX10_idle_0 21 rfl rfl)
theorem dX10_idle_22 : decode cX10_idle 22 = .ok (.iload_n 2, 1) := dk_28 (dk_at dksX10_idle_0 22 rfl rfl)
theorem dX10_idle_23 : decode cX10_idle 23 = .ok (.iconst 1, 1) := dk_4 (dk_at dksX10_idle_0 23 rfl rfl)
theorem dX10_idle_24 : decode cX10_idle 24 = .ok (.invokevirtual 327, 3) := dk_182 1 71 (dk_at dksX10_idle_1 0 rfl rfl)
theorem dX10_idle_27 : decode cX10_idle 27 = .ok (.ifCond .ne 9, 3) := dk_154 0 9 (dk_at dksX10_idle_1 3 rfl rfl)
theorem dX10_idle_30 : decode cX10_idle 30 = .ok (.iconst 1, 1) := dk_4 (dk_at dksX10_idle_1 6 rfl rfl)
theorem dX10_idle_31 : decode cX10_idle 31 = .ok (.iload_n 2, 1) := dk_28 (dk_at dksX10_idle_1 7 rfl rfl)
theorem dX10_idle_32 : decode cX10_idle 32 = .ok (.ishl, 1) := dk_120 (dk_at dksX10_idle_1 8 rfl rfl)
theorem dX10_idle_33 : decode cX10_idle 33 = .ok (.goto 4, 3) := dk_167 0 4 (dk_at dksX10_idle_1 9 rfl rfl)
theorem dX10_idle_36 : decode cX10_idle 36 = .ok (.iconst 0, 1) := dk_3 (dk_at dksX10_idle_1 12 rfl rfl)
theorem dX10_idle_37 : decode cX10_idle 37 = .ok (.ior, 1) := dk_128 (dk_at dksX10_idle_1 13 rfl rfl)
theorem dX10_idle_38 : decode cX10_idle 38 = .ok (.istore_n 1, 1) := dk_60 (dk_at dksX10_idle_1 14 rfl rfl)
theorem dX10_idle_39 : decode cX10_idle 39 = .ok (.iinc 2 1, 3) := dk_132 2 1 (dk_at dksX10_idle_1 15 rfl rfl)
theorem dX10_idle_42 : decode cX10_idle 42 = .ok (.goto (-33), 3) := dk_167 255 223 (dk_at dksX10_idle_1 18 rfl rfl)
theorem dX10_idle_45 : decode cX10_idle 45 = .ok (.iload_n 1, 1) := dk_27 (dk_at dksX10_idle_1 21 rfl rfl)
theorem dX10_idle_46 : decode cX10_idle 46 = .ok (.ireturn, 1) := dk_172 (dk_at dksX10_idle_1 22 rfl rfl)
abbrev cX10_gapsWithout : ByteArray := prog_17_method_91_code
def yX10_gapsWithout : MethodName := ⟨RX10, "gapsWithout", "(I)I"⟩
def dkwX10_gapsWithout_1 : List UInt8 := [182, 1, 34, 42, 27, 182, 1, 93, 172]
abbrev dktX10_gapsWithout_1 : List UInt8 := dkwX10_gapsWithout_1 ++ []
def dkwX10_gapsWithout_0 : List UInt8 := [42, 42, 27, 182, 1, 74, 154, 0, 7, 4, 167, 0, 4, 3, 182, 1, 24, 153, 0, 5, 3, 172, 42]
abbrev dktX10_gapsWithout_0 : List UInt8 := dkwX10_gapsWithout_0 ++ dktX10_gapsWithout_1
theorem dksX10_gapsWithout_0 : cX10_gapsWithout.data.toList.drop 0 = dktX10_gapsWithout_0 := by decide +kernel
theorem dksX10_gapsWithout_1 : cX10_gapsWithout.data.toList.drop 23 = dktX10_gapsWithout_1 := dk_seg dksX10_gapsWithout_0 23 rfl rfl
theorem dX10_gapsWithout_0 : decode cX10_gapsWithout 0 = .ok (.aload_n 0, 1) := dk_42 (dk_at dksX10_gapsWithout_0 0 rfl rfl)
theorem dX10_gapsWithout_1 : decode cX10_gapsWithout 1 = .ok (.aload_n 0, 1) := dk_42 (dk_at dksX10_gapsWithout_0 1 rfl rfl)
theorem dX10_gapsWithout_2 : decode cX10_gapsWithout 2 = .ok (.iload_n 1, 1) := dk_27 (dk_at dksX10_gapsWithout_0 2 rfl rfl)
theorem dX10_gapsWithout_3 : decode cX10_gapsWithout 3 = .ok (.invokevirtual 330, 3) := dk_182 1 74 (dk_at dksX10_gapsWithout_0 3 rfl rfl)
theorem dX10_gapsWithout_6 : decode cX10_gapsWithout 6 = .ok (.ifCond .ne 7, 3) := dk_154 0 7 (dk_at dksX10_gapsWithout_0 6 rfl rfl)
theorem dX10_gapsWithout_9 : decode cX10_gapsWithout 9 = .ok (.iconst 1, 1) := dk_4 (dk_at dksX10_gapsWithout_0 9 rfl rfl)
theorem dX10_gapsWithout_10 : decode cX10_gapsWithout 10 = .ok (.goto 4, 3) := dk_167 0 4 (dk_at dksX10_gapsWithout_0 10 rfl rfl)
theorem dX10_gapsWithout_13 : decode cX10_gapsWithout 13 = .ok (.iconst 0, 1) := dk_3 (dk_at dksX10_gapsWithout_0 13 rfl rfl)
theorem dX10_gapsWithout_14 : decode cX10_gapsWithout 14 = .ok (.invokevirtual 280, 3) := dk_182 1 24 (dk_at dksX10_gapsWithout_0 14 rfl rfl)
theorem dX10_gapsWithout_17 : decode cX10_gapsWithout 17 = .ok (.ifCond .eq 5, 3) := dk_153 0 5 (dk_at dksX10_gapsWithout_0 17 rfl rfl)
theorem dX10_gapsWithout_20 : decode cX10_gapsWithout 20 = .ok (.iconst 0, 1) := dk_3 (dk_at dksX10_gapsWithout_0 20 rfl rfl)
theorem dX10_gapsWithout_21 : decode cX10_gapsWithout 21 = .ok (.ireturn, 1) := dk_172 (dk_at dksX10_gapsWithout_0 21 rfl rfl)
theorem dX10_gapsWithout_22 : decode cX10_gapsWithout 22 = .ok (.aload_n 0, 1) := dk_42 (dk_at dksX10_gapsWithout_0 22 rfl rfl)
theorem dX10_gapsWithout_23 : decode cX10_gapsWithout 23 = .ok (.invokevirtual 290, 3) := dk_182 1 34 (dk_at dksX10_gapsWithout_1 0 rfl rfl)
theorem dX10_gapsWithout_26 : decode cX10_gapsWithout 26 = .ok (.aload_n 0, 1) := dk_42 (dk_at dksX10_gapsWithout_1 3 rfl rfl)
theorem dX10_gapsWithout_27 : decode cX10_gapsWithout 27 = .ok (.iload_n 1, 1) := dk_27 (dk_at dksX10_gapsWithout_1 4 rfl rfl)
theorem dX10_gapsWithout_28 : decode cX10_gapsWithout 28 = .ok (.invokevirtual 349, 3) := dk_182 1 93 (dk_at dksX10_gapsWithout_1 5 rfl rfl)
theorem dX10_gapsWithout_31 : decode cX10_gapsWithout 31 = .ok (.ireturn, 1) := dk_172 (dk_at dksX10_gapsWithout_1 8 rfl rfl)
abbrev cX10_clashesIf : ByteArray := prog_17_method_92_code
def yX10_clashesIf : MethodName := ⟨RX10, "clashesIf", "(II)I"⟩
def dkwX10_clashesIf_3 : List UInt8 := [2, 182, 0, 98, 54, 4, 42, 180, 0, 7, 27, 184, 0, 57, 16, 33, 96, 29, 79, 21, 4, 172]
abbrev dktX10_clashesIf_3 : List UInt8 := dkwX10_clashesIf_3 ++ []
def dkwX10_clashesIf_2 : List UInt8 := [27, 184, 0, 57, 16, 33, 96, 27, 28, 160, 0, 7, 29, 167, 0, 8, 29, 4, 28, 120, 130, 79, 42, 6]
abbrev dktX10_clashesIf_2 : List UInt8 := dkwX10_clashesIf_2 ++ dktX10_clashesIf_3
def dkwX10_clashesIf_1 : List UInt8 := [182, 1, 24, 153, 0, 5, 3, 172, 42, 182, 1, 34, 42, 27, 16, 33, 182, 0, 69, 62, 42, 180, 0, 7]
abbrev dktX10_clashesIf_1 : List UInt8 := dkwX10_clashesIf_1 ++ dktX10_clashesIf_2
def dkwX10_clashesIf_0 : List UInt8 := [42, 42, 27, 182, 1, 74, 153, 0, 11, 42, 28, 182, 1, 74, 154, 0, 7, 4, 167, 0, 4, 3]
abbrev dktX10_clashesIf_0 : List UInt8 := dkwX10_clashesIf_0 ++ dktX10_clashesIf_1
theorem dksX10_clashesIf_0 : cX10_clashesIf.data.toList.drop 0 = dktX10_clashesIf_0 := by decide +kernel
theorem dksX10_clashesIf_1 : cX10_clashesIf.data.toList.drop 22 = dktX10_clashesIf_1 := dk_seg dksX10_clashesIf_0 22 rfl rfl
theorem dksX10_clashesIf_2 : cX10_clashesIf.data.toList.drop 46 = dktX10_clashesIf_2 := dk_seg dksX10_clashesIf_1 24 rfl rfl
theorem dksX10_clashesIf_3 : cX10_clashesIf.data.toList.drop 70 = dktX10_clashesIf_3 := dk_seg dksX10_clashesIf_2 24 rfl rfl
theorem dX10_clashesIf_0 : decode cX10_clashesIf 0 = .ok (.aload_n 0, 1) := dk_42 (dk_at dksX10_clashesIf_0 0 rfl rfl)
theorem dX10_clashesIf_1 : decode cX10_clashesIf 1 = .ok (.aload_n 0, 1) := dk_42 (dk_at dksX10_clashesIf_0 1 rfl rfl)
theorem dX10_clashesIf_2 : decode cX10_clashesIf 2 = .ok (.iload_n 1, 1) := dk_27 (dk_at dksX10_clashesIf_0 2 rfl rfl)
theorem dX10_clashesIf_3 : decode cX10_clashesIf 3 = .ok (.invokevirtual 330, 3) := dk_182 1 74 (dk_at dksX10_clashesIf_0 3 rfl rfl)
theorem dX10_clashesIf_6 : decode cX10_clashesIf 6 = .ok (.ifCond .eq 11, 3) := dk_153 0 11 (dk_at dksX10_clashesIf_0 6 rfl rfl)
theorem dX10_clashesIf_9 : decode cX10_clashesIf 9 = .ok (.aload_n 0, 1) := dk_42 (dk_at dksX10_clashesIf_0 9 rfl rfl)
theorem dX10_clashesIf_10 : decode cX10_clashesIf 10 = .ok (.iload_n 2, 1) := dk_28 (dk_at dksX10_clashesIf_0 10 rfl rfl)
theorem dX10_clashesIf_11 : decode cX10_clashesIf 11 = .ok (.invokevirtual 330, 3) := dk_182 1 74 (dk_at dksX10_clashesIf_0 11 rfl rfl)
theorem dX10_clashesIf_14 : decode cX10_clashesIf 14 = .ok (.ifCond .ne 7, 3) := dk_154 0 7 (dk_at dksX10_clashesIf_0 14 rfl rfl)
theorem dX10_clashesIf_17 : decode cX10_clashesIf 17 = .ok (.iconst 1, 1) := dk_4 (dk_at dksX10_clashesIf_0 17 rfl rfl)
theorem dX10_clashesIf_18 : decode cX10_clashesIf 18 = .ok (.goto 4, 3) := dk_167 0 4 (dk_at dksX10_clashesIf_0 18 rfl rfl)
theorem dX10_clashesIf_21 : decode cX10_clashesIf 21 = .ok (.iconst 0, 1) := dk_3 (dk_at dksX10_clashesIf_0 21 rfl rfl)
theorem dX10_clashesIf_22 : decode cX10_clashesIf 22 = .ok (.invokevirtual 280, 3) := dk_182 1 24 (dk_at dksX10_clashesIf_1 0 rfl rfl)
theorem dX10_clashesIf_25 : decode cX10_clashesIf 25 = .ok (.ifCond .eq 5, 3) := dk_153 0 5 (dk_at dksX10_clashesIf_1 3 rfl rfl)
theorem dX10_clashesIf_28 : decode cX10_clashesIf 28 = .ok (.iconst 0, 1) := dk_3 (dk_at dksX10_clashesIf_1 6 rfl rfl)
theorem dX10_clashesIf_29 : decode cX10_clashesIf 29 = .ok (.ireturn, 1) := dk_172 (dk_at dksX10_clashesIf_1 7 rfl rfl)
theorem dX10_clashesIf_30 : decode cX10_clashesIf 30 = .ok (.aload_n 0, 1) := dk_42 (dk_at dksX10_clashesIf_1 8 rfl rfl)
theorem dX10_clashesIf_31 : decode cX10_clashesIf 31 = .ok (.invokevirtual 290, 3) := dk_182 1 34 (dk_at dksX10_clashesIf_1 9 rfl rfl)
theorem dX10_clashesIf_34 : decode cX10_clashesIf 34 = .ok (.aload_n 0, 1) := dk_42 (dk_at dksX10_clashesIf_1 12 rfl rfl)
theorem dX10_clashesIf_35 : decode cX10_clashesIf 35 = .ok (.iload_n 1, 1) := dk_27 (dk_at dksX10_clashesIf_1 13 rfl rfl)
theorem dX10_clashesIf_36 : decode cX10_clashesIf 36 = .ok (.bipush 33, 2) := dk_16 33 (dk_at dksX10_clashesIf_1 14 rfl rfl)
theorem dX10_clashesIf_38 : decode cX10_clashesIf 38 = .ok (.invokevirtual 69, 3) := dk_182 0 69 (dk_at dksX10_clashesIf_1 16 rfl rfl)
theorem dX10_clashesIf_41 : decode cX10_clashesIf 41 = .ok (.istore_n 3, 1) := dk_62 (dk_at dksX10_clashesIf_1 19 rfl rfl)
theorem dX10_clashesIf_42 : decode cX10_clashesIf 42 = .ok (.aload_n 0, 1) := dk_42 (dk_at dksX10_clashesIf_1 20 rfl rfl)
theorem dX10_clashesIf_43 : decode cX10_clashesIf 43 = .ok (.getfield 7, 3) := dk_180 0 7 (dk_at dksX10_clashesIf_1 21 rfl rfl)
theorem dX10_clashesIf_46 : decode cX10_clashesIf 46 = .ok (.iload_n 1, 1) := dk_27 (dk_at dksX10_clashesIf_2 0 rfl rfl)
theorem dX10_clashesIf_47 : decode cX10_clashesIf 47 = .ok (.invokestatic 57, 3) := dk_184 0 57 (dk_at dksX10_clashesIf_2 1 rfl rfl)
theorem dX10_clashesIf_50 : decode cX10_clashesIf 50 = .ok (.bipush 33, 2) := dk_16 33 (dk_at dksX10_clashesIf_2 4 rfl rfl)
theorem dX10_clashesIf_52 : decode cX10_clashesIf 52 = .ok (.iadd, 1) := dk_96 (dk_at dksX10_clashesIf_2 6 rfl rfl)
theorem dX10_clashesIf_53 : decode cX10_clashesIf 53 = .ok (.iload_n 1, 1) := dk_27 (dk_at dksX10_clashesIf_2 7 rfl rfl)
theorem dX10_clashesIf_54 : decode cX10_clashesIf 54 = .ok (.iload_n 2, 1) := dk_28 (dk_at dksX10_clashesIf_2 8 rfl rfl)
theorem dX10_clashesIf_55 : decode cX10_clashesIf 55 = .ok (.if_icmp .ne 7, 3) := dk_160 0 7 (dk_at dksX10_clashesIf_2 9 rfl rfl)
theorem dX10_clashesIf_58 : decode cX10_clashesIf 58 = .ok (.iload_n 3, 1) := dk_29 (dk_at dksX10_clashesIf_2 12 rfl rfl)
theorem dX10_clashesIf_59 : decode cX10_clashesIf 59 = .ok (.goto 8, 3) := dk_167 0 8 (dk_at dksX10_clashesIf_2 13 rfl rfl)
theorem dX10_clashesIf_62 : decode cX10_clashesIf 62 = .ok (.iload_n 3, 1) := dk_29 (dk_at dksX10_clashesIf_2 16 rfl rfl)
theorem dX10_clashesIf_63 : decode cX10_clashesIf 63 = .ok (.iconst 1, 1) := dk_4 (dk_at dksX10_clashesIf_2 17 rfl rfl)
theorem dX10_clashesIf_64 : decode cX10_clashesIf 64 = .ok (.iload_n 2, 1) := dk_28 (dk_at dksX10_clashesIf_2 18 rfl rfl)
theorem dX10_clashesIf_65 : decode cX10_clashesIf 65 = .ok (.ishl, 1) := dk_120 (dk_at dksX10_clashesIf_2 19 rfl rfl)
theorem dX10_clashesIf_66 : decode cX10_clashesIf 66 = .ok (.ixor, 1) := dk_130 (dk_at dksX10_clashesIf_2 20 rfl rfl)
theorem dX10_clashesIf_67 : decode cX10_clashesIf 67 = .ok (.iastore, 1) := dk_79 (dk_at dksX10_clashesIf_2 21 rfl rfl)
theorem dX10_clashesIf_68 : decode cX10_clashesIf 68 = .ok (.aload_n 0, 1) := dk_42 (dk_at dksX10_clashesIf_2 22 rfl rfl)
theorem dX10_clashesIf_69 : decode cX10_clashesIf 69 = .ok (.iconst 3, 1) := dk_6 (dk_at dksX10_clashesIf_2 23 rfl rfl)
theorem dX10_clashesIf_70 : decode cX10_clashesIf 70 = .ok (.iconst (-1), 1) := dk_2 (dk_at dksX10_clashesIf_3 0 rfl rfl)
theorem dX10_clashesIf_71 : decode cX10_clashesIf 71 = .ok (.invokevirtual 98, 3) := dk_182 0 98 (dk_at dksX10_clashesIf_3 1 rfl rfl)
theorem dX10_clashesIf_74 : decode cX10_clashesIf 74 = .ok (.istore 4, 2) := dk_54 4 (dk_at dksX10_clashesIf_3 4 rfl rfl)
theorem dX10_clashesIf_76 : decode cX10_clashesIf 76 = .ok (.aload_n 0, 1) := dk_42 (dk_at dksX10_clashesIf_3 6 rfl rfl)
theorem dX10_clashesIf_77 : decode cX10_clashesIf 77 = .ok (.getfield 7, 3) := dk_180 0 7 (dk_at dksX10_clashesIf_3 7 rfl rfl)
theorem dX10_clashesIf_80 : decode cX10_clashesIf 80 = .ok (.iload_n 1, 1) := dk_27 (dk_at dksX10_clashesIf_3 10 rfl rfl)
theorem dX10_clashesIf_81 : decode cX10_clashesIf 81 = .ok (.invokestatic 57, 3) := dk_184 0 57 (dk_at dksX10_clashesIf_3 11 rfl rfl)
theorem dX10_clashesIf_84 : decode cX10_clashesIf 84 = .ok (.bipush 33, 2) := dk_16 33 (dk_at dksX10_clashesIf_3 14 rfl rfl)
theorem dX10_clashesIf_86 : decode cX10_clashesIf 86 = .ok (.iadd, 1) := dk_96 (dk_at dksX10_clashesIf_3 16 rfl rfl)
theorem dX10_clashesIf_87 : decode cX10_clashesIf 87 = .ok (.iload_n 3, 1) := dk_29 (dk_at dksX10_clashesIf_3 17 rfl rfl)
theorem dX10_clashesIf_88 : decode cX10_clashesIf 88 = .ok (.iastore, 1) := dk_79 (dk_at dksX10_clashesIf_3 18 rfl rfl)
theorem dX10_clashesIf_89 : decode cX10_clashesIf 89 = .ok (.iload 4, 2) := dk_21 4 (dk_at dksX10_clashesIf_3 19 rfl rfl)
theorem dX10_clashesIf_91 : decode cX10_clashesIf 91 = .ok (.ireturn, 1) := dk_172 (dk_at dksX10_clashesIf_3 21 rfl rfl)
abbrev cX10_patch : ByteArray := prog_17_method_94_code
def yX10_patch : MethodName := ⟨RX10, "patch", "()I"⟩
def dkwX10_patch_3 : List UInt8 := [132, 4, 1, 167, 255, 214, 132, 3, 1, 167, 255, 195, 27, 172]
abbrev dktX10_patch_3 : List UInt8 := dkwX10_patch_3 ++ []
def dkwX10_patch_2 : List UInt8 := [182, 1, 96, 54, 5, 21, 5, 28, 164, 0, 14, 21, 5, 61, 16, 10, 29, 104, 21, 4, 96, 60]
abbrev dktX10_patch_2 : List UInt8 := dkwX10_patch_2 ++ dktX10_patch_3
def dkwX10_patch_1 : List UInt8 := [162, 0, 57, 3, 54, 4, 21, 4, 42, 180, 0, 7, 4, 29, 96, 46, 162, 0, 35, 42, 29, 21, 4]
abbrev dktX10_patch_1 : List UInt8 := dkwX10_patch_1 ++ dktX10_patch_2
def dkwX10_patch_0 : List UInt8 := [42, 3, 181, 0, 45, 42, 182, 1, 34, 2, 60, 3, 61, 3, 62, 29, 42, 180, 0, 7, 3, 46]
abbrev dktX10_patch_0 : List UInt8 := dkwX10_patch_0 ++ dktX10_patch_1
theorem dksX10_patch_0 : cX10_patch.data.toList.drop 0 = dktX10_patch_0 := by decide +kernel
theorem dksX10_patch_1 : cX10_patch.data.toList.drop 22 = dktX10_patch_1 := dk_seg dksX10_patch_0 22 rfl rfl
theorem dksX10_patch_2 : cX10_patch.data.toList.drop 45 = dktX10_patch_2 := dk_seg dksX10_patch_1 23 rfl rfl
theorem dksX10_patch_3 : cX10_patch.data.toList.drop 67 = dktX10_patch_3 := dk_seg dksX10_patch_2 22 rfl rfl
theorem dX10_patch_0 : decode cX10_patch 0 = .ok (.aload_n 0, 1) := dk_42 (dk_at dksX10_patch_0 0 rfl rfl)
theorem dX10_patch_1 : decode cX10_patch 1 = .ok (.iconst 0, 1) := dk_3 (dk_at dksX10_patch_0 1 rfl rfl)
theorem dX10_patch_2 : decode cX10_patch 2 = .ok (.putfield 45, 3) := dk_181 0 45 (dk_at dksX10_patch_0 2 rfl rfl)
theorem dX10_patch_5 : decode cX10_patch 5 = .ok (.aload_n 0, 1) := dk_42 (dk_at dksX10_patch_0 5 rfl rfl)
theorem dX10_patch_6 : decode cX10_patch 6 = .ok (.invokevirtual 290, 3) := dk_182 1 34 (dk_at dksX10_patch_0 6 rfl rfl)
theorem dX10_patch_9 : decode cX10_patch 9 = .ok (.iconst (-1), 1) := dk_2 (dk_at dksX10_patch_0 9 rfl rfl)
theorem dX10_patch_10 : decode cX10_patch 10 = .ok (.istore_n 1, 1) := dk_60 (dk_at dksX10_patch_0 10 rfl rfl)
theorem dX10_patch_11 : decode cX10_patch 11 = .ok (.iconst 0, 1) := dk_3 (dk_at dksX10_patch_0 11 rfl rfl)
theorem dX10_patch_12 : decode cX10_patch 12 = .ok (.istore_n 2, 1) := dk_61 (dk_at dksX10_patch_0 12 rfl rfl)
theorem dX10_patch_13 : decode cX10_patch 13 = .ok (.iconst 0, 1) := dk_3 (dk_at dksX10_patch_0 13 rfl rfl)
theorem dX10_patch_14 : decode cX10_patch 14 = .ok (.istore_n 3, 1) := dk_62 (dk_at dksX10_patch_0 14 rfl rfl)
theorem dX10_patch_15 : decode cX10_patch 15 = .ok (.iload_n 3, 1) := dk_29 (dk_at dksX10_patch_0 15 rfl rfl)
theorem dX10_patch_16 : decode cX10_patch 16 = .ok (.aload_n 0, 1) := dk_42 (dk_at dksX10_patch_0 16 rfl rfl)
theorem dX10_patch_17 : decode cX10_patch 17 = .ok (.getfield 7, 3) := dk_180 0 7 (dk_at dksX10_patch_0 17 rfl rfl)
theorem dX10_patch_20 : decode cX10_patch 20 = .ok (.iconst 0, 1) := dk_3 (dk_at dksX10_patch_0 20 rfl rfl)
theorem dX10_patch_21 : decode cX10_patch 21 = .ok (.iaload, 1) := dk_46 (dk_at dksX10_patch_0 21 rfl rfl)
theorem dX10_patch_22 : decode cX10_patch 22 = .ok (.if_icmp .ge 57, 3) := dk_162 0 57 (dk_at dksX10_patch_1 0 rfl rfl)
theorem dX10_patch_25 : decode cX10_patch 25 = .ok (.iconst 0, 1) := dk_3 (dk_at dksX10_patch_1 3 rfl rfl)
theorem dX10_patch_26 : decode cX10_patch 26 = .ok (.istore 4, 2) := dk_54 4 (dk_at dksX10_patch_1 4 rfl rfl)
theorem dX10_patch_28 : decode cX10_patch 28 = .ok (.iload 4, 2) := dk_21 4 (dk_at dksX10_patch_1 6 rfl rfl)
theorem dX10_patch_30 : decode cX10_patch 30 = .ok (.aload_n 0, 1) := dk_42 (dk_at dksX10_patch_1 8 rfl rfl)
theorem dX10_patch_31 : decode cX10_patch 31 = .ok (.getfield 7, 3) := dk_180 0 7 (dk_at dksX10_patch_1 9 rfl rfl)
theorem dX10_patch_34 : decode cX10_patch 34 = .ok (.iconst 1, 1) := dk_4 (dk_at dksX10_patch_1 12 rfl rfl)
theorem dX10_patch_35 : decode cX10_patch 35 = .ok (.iload_n 3, 1) := dk_29 (dk_at dksX10_patch_1 13 rfl rfl)
theorem dX10_patch_36 : decode cX10_patch 36 = .ok (.iadd, 1) := dk_96 (dk_at dksX10_patch_1 14 rfl rfl)
theorem dX10_patch_37 : decode cX10_patch 37 = .ok (.iaload, 1) := dk_46 (dk_at dksX10_patch_1 15 rfl rfl)
theorem dX10_patch_38 : decode cX10_patch 38 = .ok (.if_icmp .ge 35, 3) := dk_162 0 35 (dk_at dksX10_patch_1 16 rfl rfl)
theorem dX10_patch_41 : decode cX10_patch 41 = .ok (.aload_n 0, 1) := dk_42 (dk_at dksX10_patch_1 19 rfl rfl)
theorem dX10_patch_42 : decode cX10_patch 42 = .ok (.iload_n 3, 1) := dk_29 (dk_at dksX10_patch_1 20 rfl rfl)
theorem dX10_patch_43 : decode cX10_patch 43 = .ok (.iload 4, 2) := dk_21 4 (dk_at dksX10_patch_1 21 rfl rfl)
theorem dX10_patch_45 : decode cX10_patch 45 = .ok (.invokevirtual 352, 3) := dk_182 1 96 (dk_at dksX10_patch_2 0 rfl rfl)
theorem dX10_patch_48 : decode cX10_patch 48 = .ok (.istore 5, 2) := dk_54 5 (dk_at dksX10_patch_2 3 rfl rfl)
theorem dX10_patch_50 : decode cX10_patch 50 = .ok (.iload 5, 2) := dk_21 5 (dk_at dksX10_patch_2 5 rfl rfl)
theorem dX10_patch_52 : decode cX10_patch 52 = .ok (.iload_n 2, 1) := dk_28 (dk_at dksX10_patch_2 7 rfl rfl)
theorem dX10_patch_53 : decode cX10_patch 53 = .ok (.if_icmp .le 14, 3) := dk_164 0 14 (dk_at dksX10_patch_2 8 rfl rfl)
theorem dX10_patch_56 : decode cX10_patch 56 = .ok (.iload 5, 2) := dk_21 5 (dk_at dksX10_patch_2 11 rfl rfl)
theorem dX10_patch_58 : decode cX10_patch 58 = .ok (.istore_n 2, 1) := dk_61 (dk_at dksX10_patch_2 13 rfl rfl)
theorem dX10_patch_59 : decode cX10_patch 59 = .ok (.bipush 10, 2) := dk_16 10 (dk_at dksX10_patch_2 14 rfl rfl)
theorem dX10_patch_61 : decode cX10_patch 61 = .ok (.iload_n 3, 1) := dk_29 (dk_at dksX10_patch_2 16 rfl rfl)
theorem dX10_patch_62 : decode cX10_patch 62 = .ok (.imul, 1) := dk_104 (dk_at dksX10_patch_2 17 rfl rfl)
theorem dX10_patch_63 : decode cX10_patch 63 = .ok (.iload 4, 2) := dk_21 4 (dk_at dksX10_patch_2 18 rfl rfl)
theorem dX10_patch_65 : decode cX10_patch 65 = .ok (.iadd, 1) := dk_96 (dk_at dksX10_patch_2 20 rfl rfl)
theorem dX10_patch_66 : decode cX10_patch 66 = .ok (.istore_n 1, 1) := dk_60 (dk_at dksX10_patch_2 21 rfl rfl)
theorem dX10_patch_67 : decode cX10_patch 67 = .ok (.iinc 4 1, 3) := dk_132 4 1 (dk_at dksX10_patch_3 0 rfl rfl)
theorem dX10_patch_70 : decode cX10_patch 70 = .ok (.goto (-42), 3) := dk_167 255 214 (dk_at dksX10_patch_3 3 rfl rfl)
theorem dX10_patch_73 : decode cX10_patch 73 = .ok (.iinc 3 1, 3) := dk_132 3 1 (dk_at dksX10_patch_3 6 rfl rfl)
theorem dX10_patch_76 : decode cX10_patch 76 = .ok (.goto (-61), 3) := dk_167 255 195 (dk_at dksX10_patch_3 9 rfl rfl)
theorem dX10_patch_79 : decode cX10_patch 79 = .ok (.iload_n 1, 1) := dk_27 (dk_at dksX10_patch_3 12 rfl rfl)
theorem dX10_patch_80 : decode cX10_patch 80 = .ok (.ireturn, 1) := dk_172 (dk_at dksX10_patch_3 13 rfl rfl)
abbrev cX10_gapsWith : ByteArray := prog_17_method_93_code
def yX10_gapsWith : MethodName := ⟨RX10, "gapsWith", "(II)I"⟩
def dkwX10_gapsWith_2 : List UInt8 := [27, 182, 0, 65, 28, 160, 0, 7, 4, 167, 0, 4, 3, 96, 62, 132, 5, 1, 167, 255, 202, 29, 172]
abbrev dktX10_gapsWith_2 : List UInt8 := dkwX10_gapsWith_2 ++ []
def dkwX10_gapsWith_1 : List UInt8 := [21, 5, 46, 182, 0, 95, 54, 6, 29, 21, 6, 4, 159, 0, 9, 21, 6, 5, 160, 0, 18, 42, 21, 5]
abbrev dktX10_gapsWith_1 : List UInt8 := dkwX10_gapsWith_1 ++ dktX10_gapsWith_2
def dkwX10_gapsWith_0 : List UInt8 := [3, 62, 42, 182, 0, 61, 54, 4, 3, 54, 5, 21, 5, 21, 4, 162, 0, 53, 42, 42, 180, 0, 38]
abbrev dktX10_gapsWith_0 : List UInt8 := dkwX10_gapsWith_0 ++ dktX10_gapsWith_1
theorem dksX10_gapsWith_0 : cX10_gapsWith.data.toList.drop 0 = dktX10_gapsWith_0 := by decide +kernel
theorem dksX10_gapsWith_1 : cX10_gapsWith.data.toList.drop 23 = dktX10_gapsWith_1 := dk_seg dksX10_gapsWith_0 23 rfl rfl
theorem dksX10_gapsWith_2 : cX10_gapsWith.data.toList.drop 47 = dktX10_gapsWith_2 := dk_seg dksX10_gapsWith_1 24 rfl rfl
theorem dX10_gapsWith_0 : decode cX10_gapsWith 0 = .ok (.iconst 0, 1) := dk_3 (dk_at dksX10_gapsWith_0 0 rfl rfl)
theorem dX10_gapsWith_1 : decode cX10_gapsWith 1 = .ok (.istore_n 3, 1) := dk_62 (dk_at dksX10_gapsWith_0 1 rfl rfl)
theorem dX10_gapsWith_2 : decode cX10_gapsWith 2 = .ok (.aload_n 0, 1) := dk_42 (dk_at dksX10_gapsWith_0 2 rfl rfl)
theorem dX10_gapsWith_3 : decode cX10_gapsWith 3 = .ok (.invokevirtual 61, 3) := dk_182 0 61 (dk_at dksX10_gapsWith_0 3 rfl rfl)
theorem dX10_gapsWith_6 : decode cX10_gapsWith 6 = .ok (.istore 4, 2) := dk_54 4 (dk_at dksX10_gapsWith_0 6 rfl rfl)
theorem dX10_gapsWith_8 : decode cX10_gapsWith 8 = .ok (.iconst 0, 1) := dk_3 (dk_at dksX10_gapsWith_0 8 rfl rfl)
theorem dX10_gapsWith_9 : decode cX10_gapsWith 9 = .ok (.istore 5, 2) := dk_54 5 (dk_at dksX10_gapsWith_0 9 rfl rfl)
theorem dX10_gapsWith_11 : decode cX10_gapsWith 11 = .ok (.iload 5, 2) := dk_21 5 (dk_at dksX10_gapsWith_0 11 rfl rfl)
theorem dX10_gapsWith_13 : decode cX10_gapsWith 13 = .ok (.iload 4, 2) := dk_21 4 (dk_at dksX10_gapsWith_0 13 rfl rfl)
theorem dX10_gapsWith_15 : decode cX10_gapsWith 15 = .ok (.if_icmp .ge 53, 3) := dk_162 0 53 (dk_at dksX10_gapsWith_0 15 rfl rfl)
theorem dX10_gapsWith_18 : decode cX10_gapsWith 18 = .ok (.aload_n 0, 1) := dk_42 (dk_at dksX10_gapsWith_0 18 rfl rfl)
theorem dX10_gapsWith_19 : decode cX10_gapsWith 19 = .ok (.aload_n 0, 1) := dk_42 (dk_at dksX10_gapsWith_0 19 rfl rfl)
theorem dX10_gapsWith_20 : decode cX10_gapsWith 20 = .ok (.getfield 38, 3) := dk_180 0 38 (dk_at dksX10_gapsWith_0 20 rfl rfl)
theorem dX10_gapsWith_23 : decode cX10_gapsWith 23 = .ok (.iload 5, 2) := dk_21 5 (dk_at dksX10_gapsWith_1 0 rfl rfl)
theorem dX10_gapsWith_25 : decode cX10_gapsWith 25 = .ok (.iaload, 1) := dk_46 (dk_at dksX10_gapsWith_1 2 rfl rfl)
theorem dX10_gapsWith_26 : decode cX10_gapsWith 26 = .ok (.invokevirtual 95, 3) := dk_182 0 95 (dk_at dksX10_gapsWith_1 3 rfl rfl)
theorem dX10_gapsWith_29 : decode cX10_gapsWith 29 = .ok (.istore 6, 2) := dk_54 6 (dk_at dksX10_gapsWith_1 6 rfl rfl)
theorem dX10_gapsWith_31 : decode cX10_gapsWith 31 = .ok (.iload_n 3, 1) := dk_29 (dk_at dksX10_gapsWith_1 8 rfl rfl)
theorem dX10_gapsWith_32 : decode cX10_gapsWith 32 = .ok (.iload 6, 2) := dk_21 6 (dk_at dksX10_gapsWith_1 9 rfl rfl)
theorem dX10_gapsWith_34 : decode cX10_gapsWith 34 = .ok (.iconst 1, 1) := dk_4 (dk_at dksX10_gapsWith_1 11 rfl rfl)
theorem dX10_gapsWith_35 : decode cX10_gapsWith 35 = .ok (.if_icmp .eq 9, 3) := dk_159 0 9 (dk_at dksX10_gapsWith_1 12 rfl rfl)
theorem dX10_gapsWith_38 : decode cX10_gapsWith 38 = .ok (.iload 6, 2) := dk_21 6 (dk_at dksX10_gapsWith_1 15 rfl rfl)
theorem dX10_gapsWith_40 : decode cX10_gapsWith 40 = .ok (.iconst 2, 1) := dk_5 (dk_at dksX10_gapsWith_1 17 rfl rfl)
theorem dX10_gapsWith_41 : decode cX10_gapsWith 41 = .ok (.if_icmp .ne 18, 3) := dk_160 0 18 (dk_at dksX10_gapsWith_1 18 rfl rfl)
theorem dX10_gapsWith_44 : decode cX10_gapsWith 44 = .ok (.aload_n 0, 1) := dk_42 (dk_at dksX10_gapsWith_1 21 rfl rfl)
theorem dX10_gapsWith_45 : decode cX10_gapsWith 45 = .ok (.iload 5, 2) := dk_21 5 (dk_at dksX10_gapsWith_1 22 rfl rfl)
theorem dX10_gapsWith_47 : decode cX10_gapsWith 47 = .ok (.iload_n 1, 1) := dk_27 (dk_at dksX10_gapsWith_2 0 rfl rfl)
theorem dX10_gapsWith_48 : decode cX10_gapsWith 48 = .ok (.invokevirtual 65, 3) := dk_182 0 65 (dk_at dksX10_gapsWith_2 1 rfl rfl)
theorem dX10_gapsWith_51 : decode cX10_gapsWith 51 = .ok (.iload_n 2, 1) := dk_28 (dk_at dksX10_gapsWith_2 4 rfl rfl)
theorem dX10_gapsWith_52 : decode cX10_gapsWith 52 = .ok (.if_icmp .ne 7, 3) := dk_160 0 7 (dk_at dksX10_gapsWith_2 5 rfl rfl)
theorem dX10_gapsWith_55 : decode cX10_gapsWith 55 = .ok (.iconst 1, 1) := dk_4 (dk_at dksX10_gapsWith_2 8 rfl rfl)
theorem dX10_gapsWith_56 : decode cX10_gapsWith 56 = .ok (.goto 4, 3) := dk_167 0 4 (dk_at dksX10_gapsWith_2 9 rfl rfl)
theorem dX10_gapsWith_59 : decode cX10_gapsWith 59 = .ok (.iconst 0, 1) := dk_3 (dk_at dksX10_gapsWith_2 12 rfl rfl)
theorem dX10_gapsWith_60 : decode cX10_gapsWith 60 = .ok (.iadd, 1) := dk_96 (dk_at dksX10_gapsWith_2 13 rfl rfl)
theorem dX10_gapsWith_61 : decode cX10_gapsWith 61 = .ok (.istore_n 3, 1) := dk_62 (dk_at dksX10_gapsWith_2 14 rfl rfl)
theorem dX10_gapsWith_62 : decode cX10_gapsWith 62 = .ok (.iinc 5 1, 3) := dk_132 5 1 (dk_at dksX10_gapsWith_2 15 rfl rfl)
theorem dX10_gapsWith_65 : decode cX10_gapsWith 65 = .ok (.goto (-54), 3) := dk_167 255 202 (dk_at dksX10_gapsWith_2 18 rfl rfl)
theorem dX10_gapsWith_68 : decode cX10_gapsWith 68 = .ok (.iload_n 3, 1) := dk_29 (dk_at dksX10_gapsWith_2 21 rfl rfl)
theorem dX10_gapsWith_69 : decode cX10_gapsWith 69 = .ok (.ireturn, 1) := dk_172 (dk_at dksX10_gapsWith_2 22 rfl rfl)
abbrev cX10_farFrom : ByteArray := prog_17_method_96_code
def yX10_farFrom : MethodName := ⟨RX10, "farFrom", "(I)I"⟩
def dkwX10_farFrom_4 : List UInt8 := [167, 255, 200, 28, 172]
abbrev dktX10_farFrom_4 : List UInt8 := dkwX10_farFrom_4 ++ []
def dkwX10_farFrom_3 : List UInt8 := [54, 5, 28, 2, 160, 0, 8, 21, 5, 167, 0, 9, 28, 21, 5, 184, 1, 49, 61, 132, 4, 1]
abbrev dktX10_farFrom_3 : List UInt8 := dkwX10_farFrom_3 ++ dktX10_farFrom_4
def dkwX10_farFrom_2 : List UInt8 := [21, 4, 46, 182, 1, 46, 27, 160, 0, 35, 42, 21, 4, 42, 180, 0, 7, 16, 8, 46, 182, 1, 99]
abbrev dktX10_farFrom_2 : List UInt8 := dkwX10_farFrom_2 ++ dktX10_farFrom_3
def dkwX10_farFrom_1 : List UInt8 := [182, 1, 34, 2, 61, 42, 182, 0, 61, 62, 3, 54, 4, 21, 4, 29, 162, 0, 56, 42, 42, 180, 0, 38]
abbrev dktX10_farFrom_1 : List UInt8 := dkwX10_farFrom_1 ++ dktX10_farFrom_2
def dkwX10_farFrom_0 : List UInt8 := [42, 42, 27, 182, 1, 74, 154, 0, 7, 4, 167, 0, 4, 3, 182, 1, 24, 153, 0, 5, 3, 172, 42]
abbrev dktX10_farFrom_0 : List UInt8 := dkwX10_farFrom_0 ++ dktX10_farFrom_1
theorem dksX10_farFrom_0 : cX10_farFrom.data.toList.drop 0 = dktX10_farFrom_0 := by decide +kernel
theorem dksX10_farFrom_1 : cX10_farFrom.data.toList.drop 23 = dktX10_farFrom_1 := dk_seg dksX10_farFrom_0 23 rfl rfl
theorem dksX10_farFrom_2 : cX10_farFrom.data.toList.drop 47 = dktX10_farFrom_2 := dk_seg dksX10_farFrom_1 24 rfl rfl
theorem dksX10_farFrom_3 : cX10_farFrom.data.toList.drop 70 = dktX10_farFrom_3 := dk_seg dksX10_farFrom_2 23 rfl rfl
theorem dksX10_farFrom_4 : cX10_farFrom.data.toList.drop 92 = dktX10_farFrom_4 := dk_seg dksX10_farFrom_3 22 rfl rfl
theorem dX10_farFrom_0 : decode cX10_farFrom 0 = .ok (.aload_n 0, 1) := dk_42 (dk_at dksX10_farFrom_0 0 rfl rfl)
theorem dX10_farFrom_1 : decode cX10_farFrom 1 = .ok (.aload_n 0, 1) := dk_42 (dk_at dksX10_farFrom_0 1 rfl rfl)
theorem dX10_farFrom_2 : decode cX10_farFrom 2 = .ok (.iload_n 1, 1) := dk_27 (dk_at dksX10_farFrom_0 2 rfl rfl)
theorem dX10_farFrom_3 : decode cX10_farFrom 3 = .ok (.invokevirtual 330, 3) := dk_182 1 74 (dk_at dksX10_farFrom_0 3 rfl rfl)
theorem dX10_farFrom_6 : decode cX10_farFrom 6 = .ok (.ifCond .ne 7, 3) := dk_154 0 7 (dk_at dksX10_farFrom_0 6 rfl rfl)
theorem dX10_farFrom_9 : decode cX10_farFrom 9 = .ok (.iconst 1, 1) := dk_4 (dk_at dksX10_farFrom_0 9 rfl rfl)
theorem dX10_farFrom_10 : decode cX10_farFrom 10 = .ok (.goto 4, 3) := dk_167 0 4 (dk_at dksX10_farFrom_0 10 rfl rfl)
theorem dX10_farFrom_13 : decode cX10_farFrom 13 = .ok (.iconst 0, 1) := dk_3 (dk_at dksX10_farFrom_0 13 rfl rfl)
theorem dX10_farFrom_14 : decode cX10_farFrom 14 = .ok (.invokevirtual 280, 3) := dk_182 1 24 (dk_at dksX10_farFrom_0 14 rfl rfl)
theorem dX10_farFrom_17 : decode cX10_farFrom 17 = .ok (.ifCond .eq 5, 3) := dk_153 0 5 (dk_at dksX10_farFrom_0 17 rfl rfl)
theorem dX10_farFrom_20 : decode cX10_farFrom 20 = .ok (.iconst 0, 1) := dk_3 (dk_at dksX10_farFrom_0 20 rfl rfl)
theorem dX10_farFrom_21 : decode cX10_farFrom 21 = .ok (.ireturn, 1) := dk_172 (dk_at dksX10_farFrom_0 21 rfl rfl)
theorem dX10_farFrom_22 : decode cX10_farFrom 22 = .ok (.aload_n 0, 1) := dk_42 (dk_at dksX10_farFrom_0 22 rfl rfl)
theorem dX10_farFrom_23 : decode cX10_farFrom 23 = .ok (.invokevirtual 290, 3) := dk_182 1 34 (dk_at dksX10_farFrom_1 0 rfl rfl)
theorem dX10_farFrom_26 : decode cX10_farFrom 26 = .ok (.iconst (-1), 1) := dk_2 (dk_at dksX10_farFrom_1 3 rfl rfl)
theorem dX10_farFrom_27 : decode cX10_farFrom 27 = .ok (.istore_n 2, 1) := dk_61 (dk_at dksX10_farFrom_1 4 rfl rfl)
theorem dX10_farFrom_28 : decode cX10_farFrom 28 = .ok (.aload_n 0, 1) := dk_42 (dk_at dksX10_farFrom_1 5 rfl rfl)
theorem dX10_farFrom_29 : decode cX10_farFrom 29 = .ok (.invokevirtual 61, 3) := dk_182 0 61 (dk_at dksX10_farFrom_1 6 rfl rfl)
theorem dX10_farFrom_32 : decode cX10_farFrom 32 = .ok (.istore_n 3, 1) := dk_62 (dk_at dksX10_farFrom_1 9 rfl rfl)
theorem dX10_farFrom_33 : decode cX10_farFrom 33 = .ok (.iconst 0, 1) := dk_3 (dk_at dksX10_farFrom_1 10 rfl rfl)
theorem dX10_farFrom_34 : decode cX10_farFrom 34 = .ok (.istore 4, 2) := dk_54 4 (dk_at dksX10_farFrom_1 11 rfl rfl)
theorem dX10_farFrom_36 : decode cX10_farFrom 36 = .ok (.iload 4, 2) := dk_21 4 (dk_at dksX10_farFrom_1 13 rfl rfl)
theorem dX10_farFrom_38 : decode cX10_farFrom 38 = .ok (.iload_n 3, 1) := dk_29 (dk_at dksX10_farFrom_1 15 rfl rfl)
theorem dX10_farFrom_39 : decode cX10_farFrom 39 = .ok (.if_icmp .ge 56, 3) := dk_162 0 56 (dk_at dksX10_farFrom_1 16 rfl rfl)
theorem dX10_farFrom_42 : decode cX10_farFrom 42 = .ok (.aload_n 0, 1) := dk_42 (dk_at dksX10_farFrom_1 19 rfl rfl)
theorem dX10_farFrom_43 : decode cX10_farFrom 43 = .ok (.aload_n 0, 1) := dk_42 (dk_at dksX10_farFrom_1 20 rfl rfl)
theorem dX10_farFrom_44 : decode cX10_farFrom 44 = .ok (.getfield 38, 3) := dk_180 0 38 (dk_at dksX10_farFrom_1 21 rfl rfl)
theorem dX10_farFrom_47 : decode cX10_farFrom 47 = .ok (.iload 4, 2) := dk_21 4 (dk_at dksX10_farFrom_2 0 rfl rfl)
theorem dX10_farFrom_49 : decode cX10_farFrom 49 = .ok (.iaload, 1) := dk_46 (dk_at dksX10_farFrom_2 2 rfl rfl)
theorem dX10_farFrom_50 : decode cX10_farFrom 50 = .ok (.invokevirtual 302, 3) := dk_182 1 46 (dk_at dksX10_farFrom_2 3 rfl rfl)
theorem dX10_farFrom_53 : decode cX10_farFrom 53 = .ok (.iload_n 1, 1) := dk_27 (dk_at dksX10_farFrom_2 6 rfl rfl)
theorem dX10_farFrom_54 : decode cX10_farFrom 54 = .ok (.if_icmp .ne 35, 3) := dk_160 0 35 (dk_at dksX10_farFrom_2 7 rfl rfl)
theorem dX10_farFrom_57 : decode cX10_farFrom 57 = .ok (.aload_n 0, 1) := dk_42 (dk_at dksX10_farFrom_2 10 rfl rfl)
theorem dX10_farFrom_58 : decode cX10_farFrom 58 = .ok (.iload 4, 2) := dk_21 4 (dk_at dksX10_farFrom_2 11 rfl rfl)
theorem dX10_farFrom_60 : decode cX10_farFrom 60 = .ok (.aload_n 0, 1) := dk_42 (dk_at dksX10_farFrom_2 13 rfl rfl)
theorem dX10_farFrom_61 : decode cX10_farFrom 61 = .ok (.getfield 7, 3) := dk_180 0 7 (dk_at dksX10_farFrom_2 14 rfl rfl)
theorem dX10_farFrom_64 : decode cX10_farFrom 64 = .ok (.bipush 8, 2) := dk_16 8 (dk_at dksX10_farFrom_2 17 rfl rfl)
theorem dX10_farFrom_66 : decode cX10_farFrom 66 = .ok (.iaload, 1) := dk_46 (dk_at dksX10_farFrom_2 19 rfl rfl)
theorem dX10_farFrom_67 : decode cX10_farFrom 67 = .ok (.invokevirtual 355, 3) := dk_182 1 99 (dk_at dksX10_farFrom_2 20 rfl rfl)
theorem dX10_farFrom_70 : decode cX10_farFrom 70 = .ok (.istore 5, 2) := dk_54 5 (dk_at dksX10_farFrom_3 0 rfl rfl)
theorem dX10_farFrom_72 : decode cX10_farFrom 72 = .ok (.iload_n 2, 1) := dk_28 (dk_at dksX10_farFrom_3 2 rfl rfl)
theorem dX10_farFrom_73 : decode cX10_farFrom 73 = .ok (.iconst (-1), 1) := dk_2 (dk_at dksX10_farFrom_3 3 rfl rfl)
theorem dX10_farFrom_74 : decode cX10_farFrom 74 = .ok (.if_icmp .ne 8, 3) := dk_160 0 8 (dk_at dksX10_farFrom_3 4 rfl rfl)
theorem dX10_farFrom_77 : decode cX10_farFrom 77 = .ok (.iload 5, 2) := dk_21 5 (dk_at dksX10_farFrom_3 7 rfl rfl)
theorem dX10_farFrom_79 : decode cX10_farFrom 79 = .ok (.goto 9, 3) := dk_167 0 9 (dk_at dksX10_farFrom_3 9 rfl rfl)
theorem dX10_farFrom_82 : decode cX10_farFrom 82 = .ok (.iload_n 2, 1) := dk_28 (dk_at dksX10_farFrom_3 12 rfl rfl)
theorem dX10_farFrom_83 : decode cX10_farFrom 83 = .ok (.iload 5, 2) := dk_21 5 (dk_at dksX10_farFrom_3 13 rfl rfl)
theorem dX10_farFrom_85 : decode cX10_farFrom 85 = .ok (.invokestatic 305, 3) := dk_184 1 49 (dk_at dksX10_farFrom_3 15 rfl rfl)
theorem dX10_farFrom_88 : decode cX10_farFrom 88 = .ok (.istore_n 2, 1) := dk_61 (dk_at dksX10_farFrom_3 18 rfl rfl)
theorem dX10_farFrom_89 : decode cX10_farFrom 89 = .ok (.iinc 4 1, 3) := dk_132 4 1 (dk_at dksX10_farFrom_3 19 rfl rfl)
theorem dX10_farFrom_92 : decode cX10_farFrom 92 = .ok (.goto (-56), 3) := dk_167 255 200 (dk_at dksX10_farFrom_4 0 rfl rfl)
theorem dX10_farFrom_95 : decode cX10_farFrom 95 = .ok (.iload_n 2, 1) := dk_28 (dk_at dksX10_farFrom_4 3 rfl rfl)
theorem dX10_farFrom_96 : decode cX10_farFrom 96 = .ok (.ireturn, 1) := dk_172 (dk_at dksX10_farFrom_4 4 rfl rfl)
abbrev cX10_apart : ByteArray := prog_17_method_95_code
def yX10_apart : MethodName := ⟨RX10, "apart", "(II)I"⟩
def dkwX10_apart_2 : List UInt8 := [172]
abbrev dktX10_apart_2 : List UInt8 := dkwX10_apart_2 ++ []
def dkwX10_apart_1 : List UInt8 := [42, 28, 21, 4, 182, 0, 65, 160, 0, 7, 3, 167, 0, 4, 4, 96, 62, 132, 4, 1, 167, 255, 217, 29]
abbrev dktX10_apart_1 : List UInt8 := dkwX10_apart_1 ++ dktX10_apart_2
def dkwX10_apart_0 : List UInt8 := [3, 62, 3, 54, 4, 21, 4, 42, 180, 0, 7, 3, 46, 162, 0, 34, 29, 42, 27, 21, 4, 182, 0, 65]
abbrev dktX10_apart_0 : List UInt8 := dkwX10_apart_0 ++ dktX10_apart_1
theorem dksX10_apart_0 : cX10_apart.data.toList.drop 0 = dktX10_apart_0 := by decide +kernel
theorem dksX10_apart_1 : cX10_apart.data.toList.drop 24 = dktX10_apart_1 := dk_seg dksX10_apart_0 24 rfl rfl
theorem dksX10_apart_2 : cX10_apart.data.toList.drop 48 = dktX10_apart_2 := dk_seg dksX10_apart_1 24 rfl rfl
theorem dX10_apart_0 : decode cX10_apart 0 = .ok (.iconst 0, 1) := dk_3 (dk_at dksX10_apart_0 0 rfl rfl)
theorem dX10_apart_1 : decode cX10_apart 1 = .ok (.istore_n 3, 1) := dk_62 (dk_at dksX10_apart_0 1 rfl rfl)
theorem dX10_apart_2 : decode cX10_apart 2 = .ok (.iconst 0, 1) := dk_3 (dk_at dksX10_apart_0 2 rfl rfl)
theorem dX10_apart_3 : decode cX10_apart 3 = .ok (.istore 4, 2) := dk_54 4 (dk_at dksX10_apart_0 3 rfl rfl)
theorem dX10_apart_5 : decode cX10_apart 5 = .ok (.iload 4, 2) := dk_21 4 (dk_at dksX10_apart_0 5 rfl rfl)
theorem dX10_apart_7 : decode cX10_apart 7 = .ok (.aload_n 0, 1) := dk_42 (dk_at dksX10_apart_0 7 rfl rfl)
theorem dX10_apart_8 : decode cX10_apart 8 = .ok (.getfield 7, 3) := dk_180 0 7 (dk_at dksX10_apart_0 8 rfl rfl)
theorem dX10_apart_11 : decode cX10_apart 11 = .ok (.iconst 0, 1) := dk_3 (dk_at dksX10_apart_0 11 rfl rfl)
theorem dX10_apart_12 : decode cX10_apart 12 = .ok (.iaload, 1) := dk_46 (dk_at dksX10_apart_0 12 rfl rfl)
theorem dX10_apart_13 : decode cX10_apart 13 = .ok (.if_icmp .ge 34, 3) := dk_162 0 34 (dk_at dksX10_apart_0 13 rfl rfl)
theorem dX10_apart_16 : decode cX10_apart 16 = .ok (.iload_n 3, 1) := dk_29 (dk_at dksX10_apart_0 16 rfl rfl)
theorem dX10_apart_17 : decode cX10_apart 17 = .ok (.aload_n 0, 1) := dk_42 (dk_at dksX10_apart_0 17 rfl rfl)
theorem dX10_apart_18 : decode cX10_apart 18 = .ok (.iload_n 1, 1) := dk_27 (dk_at dksX10_apart_0 18 rfl rfl)
theorem dX10_apart_19 : decode cX10_apart 19 = .ok (.iload 4, 2) := dk_21 4 (dk_at dksX10_apart_0 19 rfl rfl)
theorem dX10_apart_21 : decode cX10_apart 21 = .ok (.invokevirtual 65, 3) := dk_182 0 65 (dk_at dksX10_apart_0 21 rfl rfl)
theorem dX10_apart_24 : decode cX10_apart 24 = .ok (.aload_n 0, 1) := dk_42 (dk_at dksX10_apart_1 0 rfl rfl)
theorem dX10_apart_25 : decode cX10_apart 25 = .ok (.iload_n 2, 1) := dk_28 (dk_at dksX10_apart_1 1 rfl rfl)
theorem dX10_apart_26 : decode cX10_apart 26 = .ok (.iload 4, 2) := dk_21 4 (dk_at dksX10_apart_1 2 rfl rfl)
theorem dX10_apart_28 : decode cX10_apart 28 = .ok (.invokevirtual 65, 3) := dk_182 0 65 (dk_at dksX10_apart_1 4 rfl rfl)
theorem dX10_apart_31 : decode cX10_apart 31 = .ok (.if_icmp .ne 7, 3) := dk_160 0 7 (dk_at dksX10_apart_1 7 rfl rfl)
theorem dX10_apart_34 : decode cX10_apart 34 = .ok (.iconst 0, 1) := dk_3 (dk_at dksX10_apart_1 10 rfl rfl)
theorem dX10_apart_35 : decode cX10_apart 35 = .ok (.goto 4, 3) := dk_167 0 4 (dk_at dksX10_apart_1 11 rfl rfl)
theorem dX10_apart_38 : decode cX10_apart 38 = .ok (.iconst 1, 1) := dk_4 (dk_at dksX10_apart_1 14 rfl rfl)
theorem dX10_apart_39 : decode cX10_apart 39 = .ok (.iadd, 1) := dk_96 (dk_at dksX10_apart_1 15 rfl rfl)
theorem dX10_apart_40 : decode cX10_apart 40 = .ok (.istore_n 3, 1) := dk_62 (dk_at dksX10_apart_1 16 rfl rfl)
theorem dX10_apart_41 : decode cX10_apart 41 = .ok (.iinc 4 1, 3) := dk_132 4 1 (dk_at dksX10_apart_1 17 rfl rfl)
theorem dX10_apart_44 : decode cX10_apart 44 = .ok (.goto (-39), 3) := dk_167 255 217 (dk_at dksX10_apart_1 20 rfl rfl)
theorem dX10_apart_47 : decode cX10_apart 47 = .ok (.iload_n 3, 1) := dk_29 (dk_at dksX10_apart_1 23 rfl rfl)
theorem dX10_apart_48 : decode cX10_apart 48 = .ok (.ireturn, 1) := dk_172 (dk_at dksX10_apart_2 0 rfl rfl)
abbrev cX10_gets : ByteArray := prog_17_method_97_code
def yX10_gets : MethodName := ⟨RX10, "gets", "(III)I"⟩
def dkwX10_gets_3 : List UInt8 := [154, 0, 13, 42, 21, 4, 28, 182, 0, 101, 167, 0, 10, 42, 21, 4, 28, 182, 0, 104, 172]
abbrev dktX10_gets_3 : List UInt8 := dkwX10_gets_3 ++ []
def dkwX10_gets_2 : List UInt8 := [3, 172, 42, 42, 27, 182, 1, 52, 182, 1, 46, 54, 4, 21, 4, 2, 160, 0, 7, 3, 167, 0, 24, 29]
abbrev dktX10_gets_2 : List UInt8 := dkwX10_gets_2 ++ dktX10_gets_3
def dkwX10_gets_1 : List UInt8 := [167, 0, 4, 3, 29, 3, 4, 184, 0, 53, 154, 0, 7, 4, 167, 0, 4, 3, 182, 1, 84, 153, 0, 5]
abbrev dktX10_gets_1 : List UInt8 := dkwX10_gets_1 ++ dktX10_gets_2
def dkwX10_gets_0 : List UInt8 := [42, 42, 27, 182, 1, 40, 154, 0, 7, 4, 167, 0, 4, 3, 42, 28, 182, 1, 59, 154, 0, 7, 4]
abbrev dktX10_gets_0 : List UInt8 := dkwX10_gets_0 ++ dktX10_gets_1
theorem dksX10_gets_0 : cX10_gets.data.toList.drop 0 = dktX10_gets_0 := by decide +kernel
theorem dksX10_gets_1 : cX10_gets.data.toList.drop 23 = dktX10_gets_1 := dk_seg dksX10_gets_0 23 rfl rfl
theorem dksX10_gets_2 : cX10_gets.data.toList.drop 47 = dktX10_gets_2 := dk_seg dksX10_gets_1 24 rfl rfl
theorem dksX10_gets_3 : cX10_gets.data.toList.drop 71 = dktX10_gets_3 := dk_seg dksX10_gets_2 24 rfl rfl
theorem dX10_gets_0 : decode cX10_gets 0 = .ok (.aload_n 0, 1) := dk_42 (dk_at dksX10_gets_0 0 rfl rfl)
theorem dX10_gets_1 : decode cX10_gets 1 = .ok (.aload_n 0, 1) := dk_42 (dk_at dksX10_gets_0 1 rfl rfl)
theorem dX10_gets_2 : decode cX10_gets 2 = .ok (.iload_n 1, 1) := dk_27 (dk_at dksX10_gets_0 2 rfl rfl)
theorem dX10_gets_3 : decode cX10_gets 3 = .ok (.invokevirtual 296, 3) := dk_182 1 40 (dk_at dksX10_gets_0 3 rfl rfl)
theorem dX10_gets_6 : decode cX10_gets 6 = .ok (.ifCond .ne 7, 3) := dk_154 0 7 (dk_at dksX10_gets_0 6 rfl rfl)
theorem dX10_gets_9 : decode cX10_gets 9 = .ok (.iconst 1, 1) := dk_4 (dk_at dksX10_gets_0 9 rfl rfl)
theorem dX10_gets_10 : decode cX10_gets 10 = .ok (.goto 4, 3) := dk_167 0 4 (dk_at dksX10_gets_0 10 rfl rfl)
theorem dX10_gets_13 : decode cX10_gets 13 = .ok (.iconst 0, 1) := dk_3 (dk_at dksX10_gets_0 13 rfl rfl)
theorem dX10_gets_14 : decode cX10_gets 14 = .ok (.aload_n 0, 1) := dk_42 (dk_at dksX10_gets_0 14 rfl rfl)
theorem dX10_gets_15 : decode cX10_gets 15 = .ok (.iload_n 2, 1) := dk_28 (dk_at dksX10_gets_0 15 rfl rfl)
theorem dX10_gets_16 : decode cX10_gets 16 = .ok (.invokevirtual 315, 3) := dk_182 1 59 (dk_at dksX10_gets_0 16 rfl rfl)
theorem dX10_gets_19 : decode cX10_gets 19 = .ok (.ifCond .ne 7, 3) := dk_154 0 7 (dk_at dksX10_gets_0 19 rfl rfl)
theorem dX10_gets_22 : decode cX10_gets 22 = .ok (.iconst 1, 1) := dk_4 (dk_at dksX10_gets_0 22 rfl rfl)
theorem dX10_gets_23 : decode cX10_gets 23 = .ok (.goto 4, 3) := dk_167 0 4 (dk_at dksX10_gets_1 0 rfl rfl)
theorem dX10_gets_26 : decode cX10_gets 26 = .ok (.iconst 0, 1) := dk_3 (dk_at dksX10_gets_1 3 rfl rfl)
theorem dX10_gets_27 : decode cX10_gets 27 = .ok (.iload_n 3, 1) := dk_29 (dk_at dksX10_gets_1 4 rfl rfl)
theorem dX10_gets_28 : decode cX10_gets 28 = .ok (.iconst 0, 1) := dk_3 (dk_at dksX10_gets_1 5 rfl rfl)
theorem dX10_gets_29 : decode cX10_gets 29 = .ok (.iconst 1, 1) := dk_4 (dk_at dksX10_gets_1 6 rfl rfl)
theorem dX10_gets_30 : decode cX10_gets 30 = .ok (.invokestatic 53, 3) := dk_184 0 53 (dk_at dksX10_gets_1 7 rfl rfl)
theorem dX10_gets_33 : decode cX10_gets 33 = .ok (.ifCond .ne 7, 3) := dk_154 0 7 (dk_at dksX10_gets_1 10 rfl rfl)
theorem dX10_gets_36 : decode cX10_gets 36 = .ok (.iconst 1, 1) := dk_4 (dk_at dksX10_gets_1 13 rfl rfl)
theorem dX10_gets_37 : decode cX10_gets 37 = .ok (.goto 4, 3) := dk_167 0 4 (dk_at dksX10_gets_1 14 rfl rfl)
theorem dX10_gets_40 : decode cX10_gets 40 = .ok (.iconst 0, 1) := dk_3 (dk_at dksX10_gets_1 17 rfl rfl)
theorem dX10_gets_41 : decode cX10_gets 41 = .ok (.invokevirtual 340, 3) := dk_182 1 84 (dk_at dksX10_gets_1 18 rfl rfl)
theorem dX10_gets_44 : decode cX10_gets 44 = .ok (.ifCond .eq 5, 3) := dk_153 0 5 (dk_at dksX10_gets_1 21 rfl rfl)
theorem dX10_gets_47 : decode cX10_gets 47 = .ok (.iconst 0, 1) := dk_3 (dk_at dksX10_gets_2 0 rfl rfl)
theorem dX10_gets_48 : decode cX10_gets 48 = .ok (.ireturn, 1) := dk_172 (dk_at dksX10_gets_2 1 rfl rfl)
theorem dX10_gets_49 : decode cX10_gets 49 = .ok (.aload_n 0, 1) := dk_42 (dk_at dksX10_gets_2 2 rfl rfl)
theorem dX10_gets_50 : decode cX10_gets 50 = .ok (.aload_n 0, 1) := dk_42 (dk_at dksX10_gets_2 3 rfl rfl)
theorem dX10_gets_51 : decode cX10_gets 51 = .ok (.iload_n 1, 1) := dk_27 (dk_at dksX10_gets_2 4 rfl rfl)
theorem dX10_gets_52 : decode cX10_gets 52 = .ok (.invokevirtual 308, 3) := dk_182 1 52 (dk_at dksX10_gets_2 5 rfl rfl)
theorem dX10_gets_55 : decode cX10_gets 55 = .ok (.invokevirtual 302, 3) := dk_182 1 46 (dk_at dksX10_gets_2 8 rfl rfl)
theorem dX10_gets_58 : decode cX10_gets 58 = .ok (.istore 4, 2) := dk_54 4 (dk_at dksX10_gets_2 11 rfl rfl)
theorem dX10_gets_60 : decode cX10_gets 60 = .ok (.iload 4, 2) := dk_21 4 (dk_at dksX10_gets_2 13 rfl rfl)
theorem dX10_gets_62 : decode cX10_gets 62 = .ok (.iconst (-1), 1) := dk_2 (dk_at dksX10_gets_2 15 rfl rfl)
theorem dX10_gets_63 : decode cX10_gets 63 = .ok (.if_icmp .ne 7, 3) := dk_160 0 7 (dk_at dksX10_gets_2 16 rfl rfl)
theorem dX10_gets_66 : decode cX10_gets 66 = .ok (.iconst 0, 1) := dk_3 (dk_at dksX10_gets_2 19 rfl rfl)
theorem dX10_gets_67 : decode cX10_gets 67 = .ok (.goto 24, 3) := dk_167 0 24 (dk_at dksX10_gets_2 20 rfl rfl)
theorem dX10_gets_70 : decode cX10_gets 70 = .ok (.iload_n 3, 1) := dk_29 (dk_at dksX10_gets_2 23 rfl rfl)
theorem dX10_gets_71 : decode cX10_gets 71 = .ok (.ifCond .ne 13, 3) := dk_154 0 13 (dk_at dksX10_gets_3 0 rfl rfl)
theorem dX10_gets_74 : decode cX10_gets 74 = .ok (.aload_n 0, 1) := dk_42 (dk_at dksX10_gets_3 3 rfl rfl)
theorem dX10_gets_75 : decode cX10_gets 75 = .ok (.iload 4, 2) := dk_21 4 (dk_at dksX10_gets_3 4 rfl rfl)
theorem dX10_gets_77 : decode cX10_gets 77 = .ok (.iload_n 2, 1) := dk_28 (dk_at dksX10_gets_3 6 rfl rfl)
theorem dX10_gets_78 : decode cX10_gets 78 = .ok (.invokevirtual 101, 3) := dk_182 0 101 (dk_at dksX10_gets_3 7 rfl rfl)
theorem dX10_gets_81 : decode cX10_gets 81 = .ok (.goto 10, 3) := dk_167 0 10 (dk_at dksX10_gets_3 10 rfl rfl)
theorem dX10_gets_84 : decode cX10_gets 84 = .ok (.aload_n 0, 1) := dk_42 (dk_at dksX10_gets_3 13 rfl rfl)
theorem dX10_gets_85 : decode cX10_gets 85 = .ok (.iload 4, 2) := dk_21 4 (dk_at dksX10_gets_3 14 rfl rfl)
theorem dX10_gets_87 : decode cX10_gets 87 = .ok (.iload_n 2, 1) := dk_28 (dk_at dksX10_gets_3 16 rfl rfl)
theorem dX10_gets_88 : decode cX10_gets 88 = .ok (.invokevirtual 104, 3) := dk_182 0 104 (dk_at dksX10_gets_3 17 rfl rfl)
theorem dX10_gets_91 : decode cX10_gets 91 = .ok (.ireturn, 1) := dk_172 (dk_at dksX10_gets_3 20 rfl rfl)
abbrev cX10_duties : ByteArray := prog_17_method_98_code
def yX10_duties : MethodName := ⟨RX10, "duties", "(I)I"⟩
def dkwX10_duties_1 : List UInt8 := [27, 182, 1, 52, 182, 1, 46, 61, 28, 2, 160, 0, 7, 3, 167, 0, 8, 42, 28, 182, 1, 102, 172]
abbrev dktX10_duties_1 : List UInt8 := dkwX10_duties_1 ++ []
def dkwX10_duties_0 : List UInt8 := [42, 42, 27, 182, 1, 40, 154, 0, 7, 4, 167, 0, 4, 3, 182, 1, 24, 153, 0, 5, 3, 172, 42, 42]
abbrev dktX10_duties_0 : List UInt8 := dkwX10_duties_0 ++ dktX10_duties_1
theorem dksX10_duties_0 : cX10_duties.data.toList.drop 0 = dktX10_duties_0 := by decide +kernel
theorem dksX10_duties_1 : cX10_duties.data.toList.drop 24 = dktX10_duties_1 := dk_seg dksX10_duties_0 24 rfl rfl
theorem dX10_duties_0 : decode cX10_duties 0 = .ok (.aload_n 0, 1) := dk_42 (dk_at dksX10_duties_0 0 rfl rfl)
theorem dX10_duties_1 : decode cX10_duties 1 = .ok (.aload_n 0, 1) := dk_42 (dk_at dksX10_duties_0 1 rfl rfl)
theorem dX10_duties_2 : decode cX10_duties 2 = .ok (.iload_n 1, 1) := dk_27 (dk_at dksX10_duties_0 2 rfl rfl)
theorem dX10_duties_3 : decode cX10_duties 3 = .ok (.invokevirtual 296, 3) := dk_182 1 40 (dk_at dksX10_duties_0 3 rfl rfl)
theorem dX10_duties_6 : decode cX10_duties 6 = .ok (.ifCond .ne 7, 3) := dk_154 0 7 (dk_at dksX10_duties_0 6 rfl rfl)
theorem dX10_duties_9 : decode cX10_duties 9 = .ok (.iconst 1, 1) := dk_4 (dk_at dksX10_duties_0 9 rfl rfl)
theorem dX10_duties_10 : decode cX10_duties 10 = .ok (.goto 4, 3) := dk_167 0 4 (dk_at dksX10_duties_0 10 rfl rfl)
theorem dX10_duties_13 : decode cX10_duties 13 = .ok (.iconst 0, 1) := dk_3 (dk_at dksX10_duties_0 13 rfl rfl)
theorem dX10_duties_14 : decode cX10_duties 14 = .ok (.invokevirtual 280, 3) := dk_182 1 24 (dk_at dksX10_duties_0 14 rfl rfl)
theorem dX10_duties_17 : decode cX10_duties 17 = .ok (.ifCond .eq 5, 3) := dk_153 0 5 (dk_at dksX10_duties_0 17 rfl rfl)
theorem dX10_duties_20 : decode cX10_duties 20 = .ok (.iconst 0, 1) := dk_3 (dk_at dksX10_duties_0 20 rfl rfl)
theorem dX10_duties_21 : decode cX10_duties 21 = .ok (.ireturn, 1) := dk_172 (dk_at dksX10_duties_0 21 rfl rfl)
theorem dX10_duties_22 : decode cX10_duties 22 = .ok (.aload_n 0, 1) := dk_42 (dk_at dksX10_duties_0 22 rfl rfl)
theorem dX10_duties_23 : decode cX10_duties 23 = .ok (.aload_n 0, 1) := dk_42 (dk_at dksX10_duties_0 23 rfl rfl)
theorem dX10_duties_24 : decode cX10_duties 24 = .ok (.iload_n 1, 1) := dk_27 (dk_at dksX10_duties_1 0 rfl rfl)
theorem dX10_duties_25 : decode cX10_duties 25 = .ok (.invokevirtual 308, 3) := dk_182 1 52 (dk_at dksX10_duties_1 1 rfl rfl)
theorem dX10_duties_28 : decode cX10_duties 28 = .ok (.invokevirtual 302, 3) := dk_182 1 46 (dk_at dksX10_duties_1 4 rfl rfl)
theorem dX10_duties_31 : decode cX10_duties 31 = .ok (.istore_n 2, 1) := dk_61 (dk_at dksX10_duties_1 7 rfl rfl)
theorem dX10_duties_32 : decode cX10_duties 32 = .ok (.iload_n 2, 1) := dk_28 (dk_at dksX10_duties_1 8 rfl rfl)
theorem dX10_duties_33 : decode cX10_duties 33 = .ok (.iconst (-1), 1) := dk_2 (dk_at dksX10_duties_1 9 rfl rfl)
theorem dX10_duties_34 : decode cX10_duties 34 = .ok (.if_icmp .ne 7, 3) := dk_160 0 7 (dk_at dksX10_duties_1 10 rfl rfl)
theorem dX10_duties_37 : decode cX10_duties 37 = .ok (.iconst 0, 1) := dk_3 (dk_at dksX10_duties_1 13 rfl rfl)
theorem dX10_duties_38 : decode cX10_duties 38 = .ok (.goto 8, 3) := dk_167 0 8 (dk_at dksX10_duties_1 14 rfl rfl)
theorem dX10_duties_41 : decode cX10_duties 41 = .ok (.aload_n 0, 1) := dk_42 (dk_at dksX10_duties_1 17 rfl rfl)
theorem dX10_duties_42 : decode cX10_duties 42 = .ok (.iload_n 2, 1) := dk_28 (dk_at dksX10_duties_1 18 rfl rfl)
theorem dX10_duties_43 : decode cX10_duties 43 = .ok (.invokevirtual 358, 3) := dk_182 1 102 (dk_at dksX10_duties_1 19 rfl rfl)
theorem dX10_duties_46 : decode cX10_duties 46 = .ok (.ireturn, 1) := dk_172 (dk_at dksX10_duties_1 22 rfl rfl)
abbrev cX10_duties0 : ByteArray := prog_17_method_31_code
def yX10_duties0 : MethodName := ⟨RX10, "duties0", "(I)I"⟩
def dkwX10_duties0_1 : List UInt8 := [132, 3, 1, 167, 255, 234, 28, 172]
abbrev dktX10_duties0_1 : List UInt8 := dkwX10_duties0_1 ++ []
def dkwX10_duties0_0 : List UInt8 := [3, 61, 3, 62, 29, 42, 180, 0, 7, 8, 46, 162, 0, 18, 28, 42, 27, 29, 182, 0, 104, 96, 61]
abbrev dktX10_duties0_0 : List UInt8 := dkwX10_duties0_0 ++ dktX10_duties0_1
theorem dksX10_duties0_0 : cX10_duties0.data.toList.drop 0 = dktX10_duties0_0 := by decide +kernel
theorem dksX10_duties0_1 : cX10_duties0.data.toList.drop 23 = dktX10_duties0_1 := dk_seg dksX10_duties0_0 23 rfl rfl
theorem dX10_duties0_0 : decode cX10_duties0 0 = .ok (.iconst 0, 1) := dk_3 (dk_at dksX10_duties0_0 0 rfl rfl)
theorem dX10_duties0_1 : decode cX10_duties0 1 = .ok (.istore_n 2, 1) := dk_61 (dk_at dksX10_duties0_0 1 rfl rfl)
theorem dX10_duties0_2 : decode cX10_duties0 2 = .ok (.iconst 0, 1) := dk_3 (dk_at dksX10_duties0_0 2 rfl rfl)
theorem dX10_duties0_3 : decode cX10_duties0 3 = .ok (.istore_n 3, 1) := dk_62 (dk_at dksX10_duties0_0 3 rfl rfl)
theorem dX10_duties0_4 : decode cX10_duties0 4 = .ok (.iload_n 3, 1) := dk_29 (dk_at dksX10_duties0_0 4 rfl rfl)
theorem dX10_duties0_5 : decode cX10_duties0 5 = .ok (.aload_n 0, 1) := dk_42 (dk_at dksX10_duties0_0 5 rfl rfl)
theorem dX10_duties0_6 : decode cX10_duties0 6 = .ok (.getfield 7, 3) := dk_180 0 7 (dk_at dksX10_duties0_0 6 rfl rfl)
theorem dX10_duties0_9 : decode cX10_duties0 9 = .ok (.iconst 5, 1) := dk_8 (dk_at dksX10_duties0_0 9 rfl rfl)
theorem dX10_duties0_10 : decode cX10_duties0 10 = .ok (.iaload, 1) := dk_46 (dk_at dksX10_duties0_0 10 rfl rfl)
theorem dX10_duties0_11 : decode cX10_duties0 11 = .ok (.if_icmp .ge 18, 3) := dk_162 0 18 (dk_at dksX10_duties0_0 11 rfl rfl)
theorem dX10_duties0_14 : decode cX10_duties0 14 = .ok (.iload_n 2, 1) := dk_28 (dk_at dksX10_duties0_0 14 rfl rfl)
theorem dX10_duties0_15 : decode cX10_duties0 15 = .ok (.aload_n 0, 1) := dk_42 (dk_at dksX10_duties0_0 15 rfl rfl)
theorem dX10_duties0_16 : decode cX10_duties0 16 = .ok (.iload_n 1, 1) := dk_27 (dk_at dksX10_duties0_0 16 rfl rfl)
theorem dX10_duties0_17 : decode cX10_duties0 17 = .ok (.iload_n 3, 1) := dk_29 (dk_at dksX10_duties0_0 17 rfl rfl)
theorem dX10_duties0_18 : decode cX10_duties0 18 = .ok (.invokevirtual 104, 3) := dk_182 0 104 (dk_at dksX10_duties0_0 18 rfl rfl)
theorem dX10_duties0_21 : decode cX10_duties0 21 = .ok (.iadd, 1) := dk_96 (dk_at dksX10_duties0_0 21 rfl rfl)
theorem dX10_duties0_22 : decode cX10_duties0 22 = .ok (.istore_n 2, 1) := dk_61 (dk_at dksX10_duties0_0 22 rfl rfl)
theorem dX10_duties0_23 : decode cX10_duties0 23 = .ok (.iinc 3 1, 3) := dk_132 3 1 (dk_at dksX10_duties0_1 0 rfl rfl)
theorem dX10_duties0_26 : decode cX10_duties0 26 = .ok (.goto (-22), 3) := dk_167 255 234 (dk_at dksX10_duties0_1 3 rfl rfl)
theorem dX10_duties0_29 : decode cX10_duties0 29 = .ok (.iload_n 2, 1) := dk_28 (dk_at dksX10_duties0_1 6 rfl rfl)
theorem dX10_duties0_30 : decode cX10_duties0 30 = .ok (.ireturn, 1) := dk_172 (dk_at dksX10_duties0_1 7 rfl rfl)
abbrev cX10_dearest : ByteArray := prog_17_method_99_code
def yX10_dearest : MethodName := ⟨RX10, "dearest", "()I"⟩
def dkwX10_dearest_3 : List UInt8 := [167, 255, 208, 27, 172]
abbrev dktX10_dearest_3 : List UInt8 := dkwX10_dearest_3 ++ []
def dkwX10_dearest_2 : List UInt8 := [21, 5, 182, 1, 102, 28, 164, 0, 13, 42, 21, 5, 182, 1, 102, 61, 21, 4, 60, 132, 4, 1]
abbrev dktX10_dearest_2 : List UInt8 := dkwX10_dearest_2 ++ dktX10_dearest_3
def dkwX10_dearest_1 : List UInt8 := [162, 0, 48, 42, 42, 180, 0, 38, 21, 4, 46, 182, 1, 46, 54, 5, 21, 5, 2, 159, 0, 23, 42]
abbrev dktX10_dearest_1 : List UInt8 := dkwX10_dearest_1 ++ dktX10_dearest_2
def dkwX10_dearest_0 : List UInt8 := [42, 3, 181, 0, 45, 42, 182, 1, 34, 2, 60, 2, 61, 42, 182, 0, 61, 62, 3, 54, 4, 21, 4, 29]
abbrev dktX10_dearest_0 : List UInt8 := dkwX10_dearest_0 ++ dktX10_dearest_1
theorem dksX10_dearest_0 : cX10_dearest.data.toList.drop 0 = dktX10_dearest_0 := by decide +kernel
theorem dksX10_dearest_1 : cX10_dearest.data.toList.drop 24 = dktX10_dearest_1 := dk_seg dksX10_dearest_0 24 rfl rfl
theorem dksX10_dearest_2 : cX10_dearest.data.toList.drop 47 = dktX10_dearest_2 := dk_seg dksX10_dearest_1 23 rfl rfl
theorem dksX10_dearest_3 : cX10_dearest.data.toList.drop 69 = dktX10_dearest_3 := dk_seg dksX10_dearest_2 22 rfl rfl
theorem dX10_dearest_0 : decode cX10_dearest 0 = .ok (.aload_n 0, 1) := dk_42 (dk_at dksX10_dearest_0 0 rfl rfl)
theorem dX10_dearest_1 : decode cX10_dearest 1 = .ok (.iconst 0, 1) := dk_3 (dk_at dksX10_dearest_0 1 rfl rfl)
theorem dX10_dearest_2 : decode cX10_dearest 2 = .ok (.putfield 45, 3) := dk_181 0 45 (dk_at dksX10_dearest_0 2 rfl rfl)
theorem dX10_dearest_5 : decode cX10_dearest 5 = .ok (.aload_n 0, 1) := dk_42 (dk_at dksX10_dearest_0 5 rfl rfl)
theorem dX10_dearest_6 : decode cX10_dearest 6 = .ok (.invokevirtual 290, 3) := dk_182 1 34 (dk_at dksX10_dearest_0 6 rfl rfl)
theorem dX10_dearest_9 : decode cX10_dearest 9 = .ok (.iconst (-1), 1) := dk_2 (dk_at dksX10_dearest_0 9 rfl rfl)
theorem dX10_dearest_10 : decode cX10_dearest 10 = .ok (.istore_n 1, 1) := dk_60 (dk_at dksX10_dearest_0 10 rfl rfl)
theorem dX10_dearest_11 : decode cX10_dearest 11 = .ok (.iconst (-1), 1) := dk_2 (dk_at dksX10_dearest_0 11 rfl rfl)
theorem dX10_dearest_12 : decode cX10_dearest 12 = .ok (.istore_n 2, 1) := dk_61 (dk_at dksX10_dearest_0 12 rfl rfl)
theorem dX10_dearest_13 : decode cX10_dearest 13 = .ok (.aload_n 0, 1) := dk_42 (dk_at dksX10_dearest_0 13 rfl rfl)
theorem dX10_dearest_14 : decode cX10_dearest 14 = .ok (.invokevirtual 61, 3) := dk_182 0 61 (dk_at dksX10_dearest_0 14 rfl rfl)
theorem dX10_dearest_17 : decode cX10_dearest 17 = .ok (.istore_n 3, 1) := dk_62 (dk_at dksX10_dearest_0 17 rfl rfl)
theorem dX10_dearest_18 : decode cX10_dearest 18 = .ok (.iconst 0, 1) := dk_3 (dk_at dksX10_dearest_0 18 rfl rfl)
theorem dX10_dearest_19 : decode cX10_dearest 19 = .ok (.istore 4, 2) := dk_54 4 (dk_at dksX10_dearest_0 19 rfl rfl)
theorem dX10_dearest_21 : decode cX10_dearest 21 = .ok (.iload 4, 2) := dk_21 4 (dk_at dksX10_dearest_0 21 rfl rfl)
theorem dX10_dearest_23 : decode cX10_dearest 23 = .ok (.iload_n 3, 1) := dk_29 (dk_at dksX10_dearest_0 23 rfl rfl)
theorem dX10_dearest_24 : decode cX10_dearest 24 = .ok (.if_icmp .ge 48, 3) := dk_162 0 48 (dk_at dksX10_dearest_1 0 rfl rfl)
theorem dX10_dearest_27 : decode cX10_dearest 27 = .ok (.aload_n 0, 1) := dk_42 (dk_at dksX10_dearest_1 3 rfl rfl)
theorem dX10_dearest_28 : decode cX10_dearest 28 = .ok (.aload_n 0, 1) := dk_42 (dk_at dksX10_dearest_1 4 rfl rfl)
theorem dX10_dearest_29 : decode cX10_dearest 29 = .ok (.getfield 38, 3) := dk_180 0 38 (dk_at dksX10_dearest_1 5 rfl rfl)
theorem dX10_dearest_32 : decode cX10_dearest 32 = .ok (.iload 4, 2) := dk_21 4 (dk_at dksX10_dearest_1 8 rfl rfl)
theorem dX10_dearest_34 : decode cX10_dearest 34 = .ok (.iaload, 1) := dk_46 (dk_at dksX10_dearest_1 10 rfl rfl)
theorem dX10_dearest_35 : decode cX10_dearest 35 = .ok (.invokevirtual 302, 3) := dk_182 1 46 (dk_at dksX10_dearest_1 11 rfl rfl)
theorem dX10_dearest_38 : decode cX10_dearest 38 = .ok (.istore 5, 2) := dk_54 5 (dk_at dksX10_dearest_1 14 rfl rfl)
theorem dX10_dearest_40 : decode cX10_dearest 40 = .ok (.iload 5, 2) := dk_21 5 (dk_at dksX10_dearest_1 16 rfl rfl)
theorem dX10_dearest_42 : decode cX10_dearest 42 = .ok (.iconst (-1), 1) := dk_2 (dk_at dksX10_dearest_1 18 rfl rfl)
theorem dX10_dearest_43 : decode cX10_dearest 43 = .ok (.if_icmp .eq 23, 3) := dk_159 0 23 (dk_at dksX10_dearest_1 19 rfl rfl)
theorem dX10_dearest_46 : decode cX10_dearest 46 = .ok (.aload_n 0, 1) := dk_42 (dk_at dksX10_dearest_1 22 rfl rfl)
theorem dX10_dearest_47 : decode cX10_dearest 47 = .ok (.iload 5, 2) := dk_21 5 (dk_at dksX10_dearest_2 0 rfl rfl)
theorem dX10_dearest_49 : decode cX10_dearest 49 = .ok (.invokevirtual 358, 3) := dk_182 1 102 (dk_at dksX10_dearest_2 2 rfl rfl)
theorem dX10_dearest_52 : decode cX10_dearest 52 = .ok (.iload_n 2, 1) := dk_28 (dk_at dksX10_dearest_2 5 rfl rfl)
theorem dX10_dearest_53 : decode cX10_dearest 53 = .ok (.if_icmp .le 13, 3) := dk_164 0 13 (dk_at dksX10_dearest_2 6 rfl rfl)
theorem dX10_dearest_56 : decode cX10_dearest 56 = .ok (.aload_n 0, 1) := dk_42 (dk_at dksX10_dearest_2 9 rfl rfl)
theorem dX10_dearest_57 : decode cX10_dearest 57 = .ok (.iload 5, 2) := dk_21 5 (dk_at dksX10_dearest_2 10 rfl rfl)
theorem dX10_dearest_59 : decode cX10_dearest 59 = .ok (.invokevirtual 358, 3) := dk_182 1 102 (dk_at dksX10_dearest_2 12 rfl rfl)
theorem dX10_dearest_62 : decode cX10_dearest 62 = .ok (.istore_n 2, 1) := dk_61 (dk_at dksX10_dearest_2 15 rfl rfl)
theorem dX10_dearest_63 : decode cX10_dearest 63 = .ok (.iload 4, 2) := dk_21 4 (dk_at dksX10_dearest_2 16 rfl rfl)
theorem dX10_dearest_65 : decode cX10_dearest 65 = .ok (.istore_n 1, 1) := dk_60 (dk_at dksX10_dearest_2 18 rfl rfl)
theorem dX10_dearest_66 : decode cX10_dearest 66 = .ok (.iinc 4 1, 3) := dk_132 4 1 (dk_at dksX10_dearest_2 19 rfl rfl)
theorem dX10_dearest_69 : decode cX10_dearest 69 = .ok (.goto (-48), 3) := dk_167 255 208 (dk_at dksX10_dearest_3 0 rfl rfl)
theorem dX10_dearest_72 : decode cX10_dearest 72 = .ok (.iload_n 1, 1) := dk_27 (dk_at dksX10_dearest_3 3 rfl rfl)
theorem dX10_dearest_73 : decode cX10_dearest 73 = .ok (.ireturn, 1) := dk_172 (dk_at dksX10_dearest_3 4 rfl rfl)
abbrev cX10_gap : ByteArray := prog_17_method_100_code
def yX10_gap : MethodName := ⟨RX10, "gap", "()I"⟩
def dkwX10_gap_3 : List UInt8 := [21, 4, 21, 5, 182, 0, 101, 100, 60, 132, 5, 1, 167, 255, 231, 132, 3, 1, 167, 255, 185, 27, 172]
abbrev dktX10_gap_3 : List UInt8 := dkwX10_gap_3 ++ []
def dkwX10_gap_2 : List UInt8 := [180, 0, 7, 16, 7, 46, 96, 60, 3, 54, 5, 21, 5, 42, 180, 0, 7, 8, 46, 162, 0, 20, 27, 42]
abbrev dktX10_gap_2 : List UInt8 := dkwX10_gap_2 ++ dktX10_gap_3
def dkwX10_gap_1 : List UInt8 := [42, 180, 0, 38, 29, 46, 182, 1, 46, 54, 4, 27, 21, 4, 2, 160, 0, 7, 3, 167, 0, 10, 42]
abbrev dktX10_gap_1 : List UInt8 := dkwX10_gap_1 ++ dktX10_gap_2
def dkwX10_gap_0 : List UInt8 := [42, 3, 181, 0, 45, 42, 182, 1, 34, 3, 60, 42, 182, 0, 61, 61, 3, 62, 29, 28, 162, 0, 72, 42]
abbrev dktX10_gap_0 : List UInt8 := dkwX10_gap_0 ++ dktX10_gap_1
theorem dksX10_gap_0 : cX10_gap.data.toList.drop 0 = dktX10_gap_0 := by decide +kernel
theorem dksX10_gap_1 : cX10_gap.data.toList.drop 24 = dktX10_gap_1 := dk_seg dksX10_gap_0 24 rfl rfl
theorem dksX10_gap_2 : cX10_gap.data.toList.drop 47 = dktX10_gap_2 := dk_seg dksX10_gap_1 23 rfl rfl
theorem dksX10_gap_3 : cX10_gap.data.toList.drop 71 = dktX10_gap_3 := dk_seg dksX10_gap_2 24 rfl rfl
theorem dX10_gap_0 : decode cX10_gap 0 = .ok (.aload_n 0, 1) := dk_42 (dk_at dksX10_gap_0 0 rfl rfl)
theorem dX10_gap_1 : decode cX10_gap 1 = .ok (.iconst 0, 1) := dk_3 (dk_at dksX10_gap_0 1 rfl rfl)
theorem dX10_gap_2 : decode cX10_gap 2 = .ok (.putfield 45, 3) := dk_181 0 45 (dk_at dksX10_gap_0 2 rfl rfl)
theorem dX10_gap_5 : decode cX10_gap 5 = .ok (.aload_n 0, 1) := dk_42 (dk_at dksX10_gap_0 5 rfl rfl)
theorem dX10_gap_6 : decode cX10_gap 6 = .ok (.invokevirtual 290, 3) := dk_182 1 34 (dk_at dksX10_gap_0 6 rfl rfl)
theorem dX10_gap_9 : decode cX10_gap 9 = .ok (.iconst 0, 1) := dk_3 (dk_at dksX10_gap_0 9 rfl rfl)
theorem dX10_gap_10 : decode cX10_gap 10 = .ok (.istore_n 1, 1) := dk_60 (dk_at dksX10_gap_0 10 rfl rfl)
theorem dX10_gap_11 : decode cX10_gap 11 = .ok (.aload_n 0, 1) := dk_42 (dk_at dksX10_gap_0 11 rfl rfl)
theorem dX10_gap_12 : decode cX10_gap 12 = .ok (.invokevirtual 61, 3) := dk_182 0 61 (dk_at dksX10_gap_0 12 rfl rfl)
theorem dX10_gap_15 : decode cX10_gap 15 = .ok (.istore_n 2, 1) := dk_61 (dk_at dksX10_gap_0 15 rfl rfl)
theorem dX10_gap_16 : decode cX10_gap 16 = .ok (.iconst 0, 1) := dk_3 (dk_at dksX10_gap_0 16 rfl rfl)
theorem dX10_gap_17 : decode cX10_gap 17 = .ok (.istore_n 3, 1) := dk_62 (dk_at dksX10_gap_0 17 rfl rfl)
theorem dX10_gap_18 : decode cX10_gap 18 = .ok (.iload_n 3, 1) := dk_29 (dk_at dksX10_gap_0 18 rfl rfl)
theorem dX10_gap_19 : decode cX10_gap 19 = .ok (.iload_n 2, 1) := dk_28 (dk_at dksX10_gap_0 19 rfl rfl)
theorem dX10_gap_20 : decode cX10_gap 20 = .ok (.if_icmp .ge 72, 3) := dk_162 0 72 (dk_at dksX10_gap_0 20 rfl rfl)
theorem dX10_gap_23 : decode cX10_gap 23 = .ok (.aload_n 0, 1) := dk_42 (dk_at dksX10_gap_0 23 rfl rfl)
theorem dX10_gap_24 : decode cX10_gap 24 = .ok (.aload_n 0, 1) := dk_42 (dk_at dksX10_gap_1 0 rfl rfl)
theorem dX10_gap_25 : decode cX10_gap 25 = .ok (.getfield 38, 3) := dk_180 0 38 (dk_at dksX10_gap_1 1 rfl rfl)
theorem dX10_gap_28 : decode cX10_gap 28 = .ok (.iload_n 3, 1) := dk_29 (dk_at dksX10_gap_1 4 rfl rfl)
theorem dX10_gap_29 : decode cX10_gap 29 = .ok (.iaload, 1) := dk_46 (dk_at dksX10_gap_1 5 rfl rfl)
theorem dX10_gap_30 : decode cX10_gap 30 = .ok (.invokevirtual 302, 3) := dk_182 1 46 (dk_at dksX10_gap_1 6 rfl rfl)
theorem dX10_gap_33 : decode cX10_gap 33 = .ok (.istore 4, 2) := dk_54 4 (dk_at dksX10_gap_1 9 rfl rfl)
theorem dX10_gap_35 : decode cX10_gap 35 = .ok (.iload_n 1, 1) := dk_27 (dk_at dksX10_gap_1 11 rfl rfl)
theorem dX10_gap_36 : decode cX10_gap 36 = .ok (.iload 4, 2) := dk_21 4 (dk_at dksX10_gap_1 12 rfl rfl)
theorem dX10_gap_38 : decode cX10_gap 38 = .ok (.iconst (-1), 1) := dk_2 (dk_at dksX10_gap_1 14 rfl rfl)
theorem dX10_gap_39 : decode cX10_gap 39 = .ok (.if_icmp .ne 7, 3) := dk_160 0 7 (dk_at dksX10_gap_1 15 rfl rfl)
theorem dX10_gap_42 : decode cX10_gap 42 = .ok (.iconst 0, 1) := dk_3 (dk_at dksX10_gap_1 18 rfl rfl)
theorem dX10_gap_43 : decode cX10_gap 43 = .ok (.goto 10, 3) := dk_167 0 10 (dk_at dksX10_gap_1 19 rfl rfl)
theorem dX10_gap_46 : decode cX10_gap 46 = .ok (.aload_n 0, 1) := dk_42 (dk_at dksX10_gap_1 22 rfl rfl)
theorem dX10_gap_47 : decode cX10_gap 47 = .ok (.getfield 7, 3) := dk_180 0 7 (dk_at dksX10_gap_2 0 rfl rfl)
theorem dX10_gap_50 : decode cX10_gap 50 = .ok (.bipush 7, 2) := dk_16 7 (dk_at dksX10_gap_2 3 rfl rfl)
theorem dX10_gap_52 : decode cX10_gap 52 = .ok (.iaload, 1) := dk_46 (dk_at dksX10_gap_2 5 rfl rfl)
theorem dX10_gap_53 : decode cX10_gap 53 = .ok (.iadd, 1) := dk_96 (dk_at dksX10_gap_2 6 rfl rfl)
theorem dX10_gap_54 : decode cX10_gap 54 = .ok (.istore_n 1, 1) := dk_60 (dk_at dksX10_gap_2 7 rfl rfl)
theorem dX10_gap_55 : decode cX10_gap 55 = .ok (.iconst 0, 1) := dk_3 (dk_at dksX10_gap_2 8 rfl rfl)
theorem dX10_gap_56 : decode cX10_gap 56 = .ok (.istore 5, 2) := dk_54 5 (dk_at dksX10_gap_2 9 rfl rfl)
theorem dX10_gap_58 : decode cX10_gap 58 = .ok (.iload 5, 2) := dk_21 5 (dk_at dksX10_gap_2 11 rfl rfl)
theorem dX10_gap_60 : decode cX10_gap 60 = .ok (.aload_n 0, 1) := dk_42 (dk_at dksX10_gap_2 13 rfl rfl)
theorem dX10_gap_61 : decode cX10_gap 61 = .ok (.getfield 7, 3) := dk_180 0 7 (dk_at dksX10_gap_2 14 rfl rfl)
theorem dX10_gap_64 : decode cX10_gap 64 = .ok (.iconst 5, 1) := dk_8 (dk_at dksX10_gap_2 17 rfl rfl)
theorem dX10_gap_65 : decode cX10_gap 65 = .ok (.iaload, 1) := dk_46 (dk_at dksX10_gap_2 18 rfl rfl)
theorem dX10_gap_66 : decode cX10_gap 66 = .ok (.if_icmp .ge 20, 3) := dk_162 0 20 (dk_at dksX10_gap_2 19 rfl rfl)
theorem dX10_gap_69 : decode cX10_gap 69 = .ok (.iload_n 1, 1) := dk_27 (dk_at dksX10_gap_2 22 rfl rfl)
theorem dX10_gap_70 : decode cX10_gap 70 = .ok (.aload_n 0, 1) := dk_42 (dk_at dksX10_gap_2 23 rfl rfl)
theorem dX10_gap_71 : decode cX10_gap 71 = .ok (.iload 4, 2) := dk_21 4 (dk_at dksX10_gap_3 0 rfl rfl)
theorem dX10_gap_73 : decode cX10_gap 73 = .ok (.iload 5, 2) := dk_21 5 (dk_at dksX10_gap_3 2 rfl rfl)
theorem dX10_gap_75 : decode cX10_gap 75 = .ok (.invokevirtual 101, 3) := dk_182 0 101 (dk_at dksX10_gap_3 4 rfl rfl)
theorem dX10_gap_78 : decode cX10_gap 78 = .ok (.isub, 1) := dk_100 (dk_at dksX10_gap_3 7 rfl rfl)
theorem dX10_gap_79 : decode cX10_gap 79 = .ok (.istore_n 1, 1) := dk_60 (dk_at dksX10_gap_3 8 rfl rfl)
theorem dX10_gap_80 : decode cX10_gap 80 = .ok (.iinc 5 1, 3) := dk_132 5 1 (dk_at dksX10_gap_3 9 rfl rfl)
theorem dX10_gap_83 : decode cX10_gap 83 = .ok (.goto (-25), 3) := dk_167 255 231 (dk_at dksX10_gap_3 12 rfl rfl)
theorem dX10_gap_86 : decode cX10_gap 86 = .ok (.iinc 3 1, 3) := dk_132 3 1 (dk_at dksX10_gap_3 15 rfl rfl)
theorem dX10_gap_89 : decode cX10_gap 89 = .ok (.goto (-71), 3) := dk_167 255 185 (dk_at dksX10_gap_3 18 rfl rfl)
theorem dX10_gap_92 : decode cX10_gap 92 = .ok (.iload_n 1, 1) := dk_27 (dk_at dksX10_gap_3 21 rfl rfl)
theorem dX10_gap_93 : decode cX10_gap 93 = .ok (.ireturn, 1) := dk_172 (dk_at dksX10_gap_3 22 rfl rfl)
abbrev cX10_settledShare : ByteArray := prog_17_method_101_code
def yX10_settledShare : MethodName := ⟨RX10, "settledShare", "()F"⟩
def dkwX10_settledShare_0 : List UInt8 := [42, 3, 181, 0, 45, 42, 182, 1, 34, 42, 3, 2, 182, 0, 98, 134, 42, 182, 0, 61, 134, 110, 174]
abbrev dktX10_settledShare_0 : List UInt8 := dkwX10_settledShare_0 ++ []
theorem dksX10_settledShare_0 : cX10_settledShare.data.toList.drop 0 = dktX10_settledShare_0 := by decide +kernel
theorem dX10_settledShare_0 : decode cX10_settledShare 0 = .ok (.aload_n 0, 1) := dk_42 (dk_at dksX10_settledShare_0 0 rfl rfl)
theorem dX10_settledShare_1 : decode cX10_settledShare 1 = .ok (.iconst 0, 1) := dk_3 (dk_at dksX10_settledShare_0 1 rfl rfl)
theorem dX10_settledShare_2 : decode cX10_settledShare 2 = .ok (.putfield 45, 3) := dk_181 0 45 (dk_at dksX10_settledShare_0 2 rfl rfl)
theorem dX10_settledShare_5 : decode cX10_settledShare 5 = .ok (.aload_n 0, 1) := dk_42 (dk_at dksX10_settledShare_0 5 rfl rfl)
theorem dX10_settledShare_6 : decode cX10_settledShare 6 = .ok (.invokevirtual 290, 3) := dk_182 1 34 (dk_at dksX10_settledShare_0 6 rfl rfl)
theorem dX10_settledShare_9 : decode cX10_settledShare 9 = .ok (.aload_n 0, 1) := dk_42 (dk_at dksX10_settledShare_0 9 rfl rfl)
theorem dX10_settledShare_10 : decode cX10_settledShare 10 = .ok (.iconst 0, 1) := dk_3 (dk_at dksX10_settledShare_0 10 rfl rfl)
theorem dX10_settledShare_11 : decode cX10_settledShare 11 = .ok (.iconst (-1), 1) := dk_2 (dk_at dksX10_settledShare_0 11 rfl rfl)
theorem dX10_settledShare_12 : decode cX10_settledShare 12 = .ok (.invokevirtual 98, 3) := dk_182 0 98 (dk_at dksX10_settledShare_0 12 rfl rfl)
theorem dX10_settledShare_15 : decode cX10_settledShare 15 = .ok (.i2f, 1) := dk_134 (dk_at dksX10_settledShare_0 15 rfl rfl)
theorem dX10_settledShare_16 : decode cX10_settledShare 16 = .ok (.aload_n 0, 1) := dk_42 (dk_at dksX10_settledShare_0 16 rfl rfl)
theorem dX10_settledShare_17 : decode cX10_settledShare 17 = .ok (.invokevirtual 61, 3) := dk_182 0 61 (dk_at dksX10_settledShare_0 17 rfl rfl)
theorem dX10_settledShare_20 : decode cX10_settledShare 20 = .ok (.i2f, 1) := dk_134 (dk_at dksX10_settledShare_0 20 rfl rfl)
theorem dX10_settledShare_21 : decode cX10_settledShare 21 = .ok (.fdiv, 1) := dk_110 (dk_at dksX10_settledShare_0 21 rfl rfl)
theorem dX10_settledShare_22 : decode cX10_settledShare 22 = .ok (.freturn, 1) := dk_174 (dk_at dksX10_settledShare_0 22 rfl rfl)
abbrev cX10_meanDuties : ByteArray := prog_17_method_102_code
def yX10_meanDuties : MethodName := ⟨RX10, "meanDuties", "()D"⟩
def dkwX10_meanDuties_3 : List UInt8 := [61, 132, 4, 1, 167, 255, 201, 28, 154, 0, 7, 14, 167, 0, 8, 27, 135, 28, 135, 111, 175]
abbrev dktX10_meanDuties_3 : List UInt8 := dkwX10_meanDuties_3 ++ []
def dkwX10_meanDuties_2 : List UInt8 := [167, 0, 9, 42, 21, 5, 182, 1, 102, 96, 60, 28, 21, 5, 2, 160, 0, 7, 3, 167, 0, 4, 4, 96]
abbrev dktX10_meanDuties_2 : List UInt8 := dkwX10_meanDuties_2 ++ dktX10_meanDuties_3
def dkwX10_meanDuties_1 : List UInt8 := [162, 0, 55, 42, 42, 180, 0, 38, 21, 4, 46, 182, 1, 46, 54, 5, 27, 21, 5, 2, 160, 0, 7, 3]
abbrev dktX10_meanDuties_1 : List UInt8 := dkwX10_meanDuties_1 ++ dktX10_meanDuties_2
def dkwX10_meanDuties_0 : List UInt8 := [42, 3, 181, 0, 45, 42, 182, 1, 34, 3, 60, 3, 61, 42, 182, 0, 61, 62, 3, 54, 4, 21, 4, 29]
abbrev dktX10_meanDuties_0 : List UInt8 := dkwX10_meanDuties_0 ++ dktX10_meanDuties_1
theorem dksX10_meanDuties_0 : cX10_meanDuties.data.toList.drop 0 = dktX10_meanDuties_0 := by decide +kernel
theorem dksX10_meanDuties_1 : cX10_meanDuties.data.toList.drop 24 = dktX10_meanDuties_1 := dk_seg dksX10_meanDuties_0 24 rfl rfl
theorem dksX10_meanDuties_2 : cX10_meanDuties.data.toList.drop 48 = dktX10_meanDuties_2 := dk_seg dksX10_meanDuties_1 24 rfl rfl
theorem dksX10_meanDuties_3 : cX10_meanDuties.data.toList.drop 72 = dktX10_meanDuties_3 := dk_seg dksX10_meanDuties_2 24 rfl rfl
theorem dX10_meanDuties_0 : decode cX10_meanDuties 0 = .ok (.aload_n 0, 1) := dk_42 (dk_at dksX10_meanDuties_0 0 rfl rfl)
theorem dX10_meanDuties_1 : decode cX10_meanDuties 1 = .ok (.iconst 0, 1) := dk_3 (dk_at dksX10_meanDuties_0 1 rfl rfl)
theorem dX10_meanDuties_2 : decode cX10_meanDuties 2 = .ok (.putfield 45, 3) := dk_181 0 45 (dk_at dksX10_meanDuties_0 2 rfl rfl)
theorem dX10_meanDuties_5 : decode cX10_meanDuties 5 = .ok (.aload_n 0, 1) := dk_42 (dk_at dksX10_meanDuties_0 5 rfl rfl)
theorem dX10_meanDuties_6 : decode cX10_meanDuties 6 = .ok (.invokevirtual 290, 3) := dk_182 1 34 (dk_at dksX10_meanDuties_0 6 rfl rfl)
theorem dX10_meanDuties_9 : decode cX10_meanDuties 9 = .ok (.iconst 0, 1) := dk_3 (dk_at dksX10_meanDuties_0 9 rfl rfl)
theorem dX10_meanDuties_10 : decode cX10_meanDuties 10 = .ok (.istore_n 1, 1) := dk_60 (dk_at dksX10_meanDuties_0 10 rfl rfl)
theorem dX10_meanDuties_11 : decode cX10_meanDuties 11 = .ok (.iconst 0, 1) := dk_3 (dk_at dksX10_meanDuties_0 11 rfl rfl)
theorem dX10_meanDuties_12 : decode cX10_meanDuties 12 = .ok (.istore_n 2, 1) := dk_61 (dk_at dksX10_meanDuties_0 12 rfl rfl)
theorem dX10_meanDuties_13 : decode cX10_meanDuties 13 = .ok (.aload_n 0, 1) := dk_42 (dk_at dksX10_meanDuties_0 13 rfl rfl)
theorem dX10_meanDuties_14 : decode cX10_meanDuties 14 = .ok (.invokevirtual 61, 3) := dk_182 0 61 (dk_at dksX10_meanDuties_0 14 rfl rfl)
theorem dX10_meanDuties_17 : decode cX10_meanDuties 17 = .ok (.istore_n 3, 1) := dk_62 (dk_at dksX10_meanDuties_0 17 rfl rfl)
theorem dX10_meanDuties_18 : decode cX10_meanDuties 18 = .ok (.iconst 0, 1) := dk_3 (dk_at dksX10_meanDuties_0 18 rfl rfl)
theorem dX10_meanDuties_19 : decode cX10_meanDuties 19 = .ok (.istore 4, 2) := dk_54 4 (dk_at dksX10_meanDuties_0 19 rfl rfl)
theorem dX10_meanDuties_21 : decode cX10_meanDuties 21 = .ok (.iload 4, 2) := dk_21 4 (dk_at dksX10_meanDuties_0 21 rfl rfl)
theorem dX10_meanDuties_23 : decode cX10_meanDuties 23 = .ok (.iload_n 3, 1) := dk_29 (dk_at dksX10_meanDuties_0 23 rfl rfl)
theorem dX10_meanDuties_24 : decode cX10_meanDuties 24 = .ok (.if_icmp .ge 55, 3) := dk_162 0 55 (dk_at dksX10_meanDuties_1 0 rfl rfl)
theorem dX10_meanDuties_27 : decode cX10_meanDuties 27 = .ok (.aload_n 0, 1) := dk_42 (dk_at dksX10_meanDuties_1 3 rfl rfl)
theorem dX10_meanDuties_28 : decode cX10_meanDuties 28 = .ok (.aload_n 0, 1) := dk_42 (dk_at dksX10_meanDuties_1 4 rfl rfl)
theorem dX10_meanDuties_29 : decode cX10_meanDuties 29 = .ok (.getfield 38, 3) := dk_180 0 38 (dk_at dksX10_meanDuties_1 5 rfl rfl)
theorem dX10_meanDuties_32 : decode cX10_meanDuties 32 = .ok (.iload 4, 2) := dk_21 4 (dk_at dksX10_meanDuties_1 8 rfl rfl)
theorem dX10_meanDuties_34 : decode cX10_meanDuties 34 = .ok (.iaload, 1) := dk_46 (dk_at dksX10_meanDuties_1 10 rfl rfl)
theorem dX10_meanDuties_35 : decode cX10_meanDuties 35 = .ok (.invokevirtual 302, 3) := dk_182 1 46 (dk_at dksX10_meanDuties_1 11 rfl rfl)
theorem dX10_meanDuties_38 : decode cX10_meanDuties 38 = .ok (.istore 5, 2) := dk_54 5 (dk_at dksX10_meanDuties_1 14 rfl rfl)
theorem dX10_meanDuties_40 : decode cX10_meanDuties 40 = .ok (.iload_n 1, 1) := dk_27 (dk_at dksX10_meanDuties_1 16 rfl rfl)
theorem dX10_meanDuties_41 : decode cX10_meanDuties 41 = .ok (.iload 5, 2) := dk_21 5 (dk_at dksX10_meanDuties_1 17 rfl rfl)
theorem dX10_meanDuties_43 : decode cX10_meanDuties 43 = .ok (.iconst (-1), 1) := dk_2 (dk_at dksX10_meanDuties_1 19 rfl rfl)
theorem dX10_meanDuties_44 : decode cX10_meanDuties 44 = .ok (.if_icmp .ne 7, 3) := dk_160 0 7 (dk_at dksX10_meanDuties_1 20 rfl rfl)
theorem dX10_meanDuties_47 : decode cX10_meanDuties 47 = .ok (.iconst 0, 1) := dk_3 (dk_at dksX10_meanDuties_1 23 rfl rfl)
theorem dX10_meanDuties_48 : decode cX10_meanDuties 48 = .ok (.goto 9, 3) := dk_167 0 9 (dk_at dksX10_meanDuties_2 0 rfl rfl)
theorem dX10_meanDuties_51 : decode cX10_meanDuties 51 = .ok (.aload_n 0, 1) := dk_42 (dk_at dksX10_meanDuties_2 3 rfl rfl)
theorem dX10_meanDuties_52 : decode cX10_meanDuties 52 = .ok (.iload 5, 2) := dk_21 5 (dk_at dksX10_meanDuties_2 4 rfl rfl)
theorem dX10_meanDuties_54 : decode cX10_meanDuties 54 = .ok (.invokevirtual 358, 3) := dk_182 1 102 (dk_at dksX10_meanDuties_2 6 rfl rfl)
theorem dX10_meanDuties_57 : decode cX10_meanDuties 57 = .ok (.iadd, 1) := dk_96 (dk_at dksX10_meanDuties_2 9 rfl rfl)
theorem dX10_meanDuties_58 : decode cX10_meanDuties 58 = .ok (.istore_n 1, 1) := dk_60 (dk_at dksX10_meanDuties_2 10 rfl rfl)
theorem dX10_meanDuties_59 : decode cX10_meanDuties 59 = .ok (.iload_n 2, 1) := dk_28 (dk_at dksX10_meanDuties_2 11 rfl rfl)
theorem dX10_meanDuties_60 : decode cX10_meanDuties 60 = .ok (.iload 5, 2) := dk_21 5 (dk_at dksX10_meanDuties_2 12 rfl rfl)
theorem dX10_meanDuties_62 : decode cX10_meanDuties 62 = .ok (.iconst (-1), 1) := dk_2 (dk_at dksX10_meanDuties_2 14 rfl rfl)
theorem dX10_meanDuties_63 : decode cX10_meanDuties 63 = .ok (.if_icmp .ne 7, 3) := dk_160 0 7 (dk_at dksX10_meanDuties_2 15 rfl rfl)
theorem dX10_meanDuties_66 : decode cX10_meanDuties 66 = .ok (.iconst 0, 1) := dk_3 (dk_at dksX10_meanDuties_2 18 rfl rfl)
theorem dX10_meanDuties_67 : decode cX10_meanDuties 67 = .ok (.goto 4, 3) := dk_167 0 4 (dk_at dksX10_meanDuties_2 19 rfl rfl)
theorem dX10_meanDuties_70 : decode cX10_meanDuties 70 = .ok (.iconst 1, 1) := dk_4 (dk_at dksX10_meanDuties_2 22 rfl rfl)
theorem dX10_meanDuties_71 : decode cX10_meanDuties 71 = .ok (.iadd, 1) := dk_96 (dk_at dksX10_meanDuties_2 23 rfl rfl)
theorem dX10_meanDuties_72 : decode cX10_meanDuties 72 = .ok (.istore_n 2, 1) := dk_61 (dk_at dksX10_meanDuties_3 0 rfl rfl)
theorem dX10_meanDuties_73 : decode cX10_meanDuties 73 = .ok (.iinc 4 1, 3) := dk_132 4 1 (dk_at dksX10_meanDuties_3 1 rfl rfl)
theorem dX10_meanDuties_76 : decode cX10_meanDuties 76 = .ok (.goto (-55), 3) := dk_167 255 201 (dk_at dksX10_meanDuties_3 4 rfl rfl)
theorem dX10_meanDuties_79 : decode cX10_meanDuties 79 = .ok (.iload_n 2, 1) := dk_28 (dk_at dksX10_meanDuties_3 7 rfl rfl)
theorem dX10_meanDuties_80 : decode cX10_meanDuties 80 = .ok (.ifCond .ne 7, 3) := dk_154 0 7 (dk_at dksX10_meanDuties_3 8 rfl rfl)
theorem dX10_meanDuties_83 : decode cX10_meanDuties 83 = .ok (.dconst 0, 1) := dk_14 (dk_at dksX10_meanDuties_3 11 rfl rfl)
theorem dX10_meanDuties_84 : decode cX10_meanDuties 84 = .ok (.goto 8, 3) := dk_167 0 8 (dk_at dksX10_meanDuties_3 12 rfl rfl)
theorem dX10_meanDuties_87 : decode cX10_meanDuties 87 = .ok (.iload_n 1, 1) := dk_27 (dk_at dksX10_meanDuties_3 15 rfl rfl)
theorem dX10_meanDuties_88 : decode cX10_meanDuties 88 = .ok (.i2d, 1) := dk_135 (dk_at dksX10_meanDuties_3 16 rfl rfl)
theorem dX10_meanDuties_89 : decode cX10_meanDuties 89 = .ok (.iload_n 2, 1) := dk_28 (dk_at dksX10_meanDuties_3 17 rfl rfl)
theorem dX10_meanDuties_90 : decode cX10_meanDuties 90 = .ok (.i2d, 1) := dk_135 (dk_at dksX10_meanDuties_3 18 rfl rfl)
theorem dX10_meanDuties_91 : decode cX10_meanDuties 91 = .ok (.ddiv, 1) := dk_111 (dk_at dksX10_meanDuties_3 19 rfl rfl)
theorem dX10_meanDuties_92 : decode cX10_meanDuties 92 = .ok (.dreturn, 1) := dk_175 (dk_at dksX10_meanDuties_3 20 rfl rfl)
abbrev cX10_writeRule : ByteArray := prog_17_method_110_code
def yX10_writeRule : MethodName := ⟨RX10, "writeRule", "(I)I"⟩
def dkwX10_writeRule_4 : List UInt8 := [42, 19, 1, 114, 182, 1, 116, 42, 28, 182, 1, 105, 132, 2, 1, 167, 255, 216, 42, 180, 1, 31, 172]
abbrev dktX10_writeRule_4 : List UInt8 := dkwX10_writeRule_4 ++ []
def dkwX10_writeRule_3 : List UInt8 := [42, 180, 0, 7, 16, 17, 46, 162, 0, 35, 42, 27, 16, 33, 182, 0, 69, 28, 184, 0, 49, 153, 0, 15]
abbrev dktX10_writeRule_3 : List UInt8 := dkwX10_writeRule_3 ++ dktX10_writeRule_4
def dkwX10_writeRule_2 : List UInt8 := [42, 27, 182, 1, 136, 42, 27, 16, 33, 182, 0, 69, 153, 0, 9, 42, 18, 224, 182, 1, 116, 3, 61, 28]
abbrev dktX10_writeRule_2 : List UInt8 := dkwX10_writeRule_2 ++ dktX10_writeRule_3
def dkwX10_writeRule_1 : List UInt8 := [181, 1, 31, 42, 27, 42, 27, 3, 182, 0, 69, 4, 100, 16, 9, 182, 1, 128, 42, 18, 226, 182, 1, 116]
abbrev dktX10_writeRule_1 : List UInt8 := dkwX10_writeRule_1 ++ dktX10_writeRule_2
def dkwX10_writeRule_0 : List UInt8 := [42, 42, 27, 182, 1, 74, 154, 0, 7, 4, 167, 0, 4, 3, 182, 1, 24, 153, 0, 5, 3, 172, 42, 3]
abbrev dktX10_writeRule_0 : List UInt8 := dkwX10_writeRule_0 ++ dktX10_writeRule_1
theorem dksX10_writeRule_0 : cX10_writeRule.data.toList.drop 0 = dktX10_writeRule_0 := by decide +kernel
theorem dksX10_writeRule_1 : cX10_writeRule.data.toList.drop 24 = dktX10_writeRule_1 := dk_seg dksX10_writeRule_0 24 rfl rfl
theorem dksX10_writeRule_2 : cX10_writeRule.data.toList.drop 48 = dktX10_writeRule_2 := dk_seg dksX10_writeRule_1 24 rfl rfl
theorem dksX10_writeRule_3 : cX10_writeRule.data.toList.drop 72 = dktX10_writeRule_3 := dk_seg dksX10_writeRule_2 24 rfl rfl
theorem dksX10_writeRule_4 : cX10_writeRule.data.toList.drop 96 = dktX10_writeRule_4 := dk_seg dksX10_writeRule_3 24 rfl rfl
theorem dX10_writeRule_0 : decode cX10_writeRule 0 = .ok (.aload_n 0, 1) := dk_42 (dk_at dksX10_writeRule_0 0 rfl rfl)
theorem dX10_writeRule_1 : decode cX10_writeRule 1 = .ok (.aload_n 0, 1) := dk_42 (dk_at dksX10_writeRule_0 1 rfl rfl)
theorem dX10_writeRule_2 : decode cX10_writeRule 2 = .ok (.iload_n 1, 1) := dk_27 (dk_at dksX10_writeRule_0 2 rfl rfl)
theorem dX10_writeRule_3 : decode cX10_writeRule 3 = .ok (.invokevirtual 330, 3) := dk_182 1 74 (dk_at dksX10_writeRule_0 3 rfl rfl)
theorem dX10_writeRule_6 : decode cX10_writeRule 6 = .ok (.ifCond .ne 7, 3) := dk_154 0 7 (dk_at dksX10_writeRule_0 6 rfl rfl)
theorem dX10_writeRule_9 : decode cX10_writeRule 9 = .ok (.iconst 1, 1) := dk_4 (dk_at dksX10_writeRule_0 9 rfl rfl)
theorem dX10_writeRule_10 : decode cX10_writeRule 10 = .ok (.goto 4, 3) := dk_167 0 4 (dk_at dksX10_writeRule_0 10 rfl rfl)
theorem dX10_writeRule_13 : decode cX10_writeRule 13 = .ok (.iconst 0, 1) := dk_3 (dk_at dksX10_writeRule_0 13 rfl rfl)
theorem dX10_writeRule_14 : decode cX10_writeRule 14 = .ok (.invokevirtual 280, 3) := dk_182 1 24 (dk_at dksX10_writeRule_0 14 rfl rfl)
theorem dX10_writeRule_17 : decode cX10_writeRule 17 = .ok (.ifCond .eq 5, 3) := dk_153 0 5 (dk_at dksX10_writeRule_0 17 rfl rfl)
theorem dX10_writeRule_20 : decode cX10_writeRule 20 = .ok (.iconst 0, 1) := dk_3 (dk_at dksX10_writeRule_0 20 rfl rfl)
theorem dX10_writeRule_21 : decode cX10_writeRule 21 = .ok (.ireturn, 1) := dk_172 (dk_at dksX10_writeRule_0 21 rfl rfl)
theorem dX10_writeRule_22 : decode cX10_writeRule 22 = .ok (.aload_n 0, 1) := dk_42 (dk_at dksX10_writeRule_0 22 rfl rfl)
theorem dX10_writeRule_23 : decode cX10_writeRule 23 = .ok (.iconst 0, 1) := dk_3 (dk_at dksX10_writeRule_0 23 rfl rfl)
theorem dX10_writeRule_24 : decode cX10_writeRule 24 = .ok (.putfield 287, 3) := dk_181 1 31 (dk_at dksX10_writeRule_1 0 rfl rfl)
theorem dX10_writeRule_27 : decode cX10_writeRule 27 = .ok (.aload_n 0, 1) := dk_42 (dk_at dksX10_writeRule_1 3 rfl rfl)
theorem dX10_writeRule_28 : decode cX10_writeRule 28 = .ok (.iload_n 1, 1) := dk_27 (dk_at dksX10_writeRule_1 4 rfl rfl)
theorem dX10_writeRule_29 : decode cX10_writeRule 29 = .ok (.aload_n 0, 1) := dk_42 (dk_at dksX10_writeRule_1 5 rfl rfl)
theorem dX10_writeRule_30 : decode cX10_writeRule 30 = .ok (.iload_n 1, 1) := dk_27 (dk_at dksX10_writeRule_1 6 rfl rfl)
theorem dX10_writeRule_31 : decode cX10_writeRule 31 = .ok (.iconst 0, 1) := dk_3 (dk_at dksX10_writeRule_1 7 rfl rfl)
theorem dX10_writeRule_32 : decode cX10_writeRule 32 = .ok (.invokevirtual 69, 3) := dk_182 0 69 (dk_at dksX10_writeRule_1 8 rfl rfl)
theorem dX10_writeRule_35 : decode cX10_writeRule 35 = .ok (.iconst 1, 1) := dk_4 (dk_at dksX10_writeRule_1 11 rfl rfl)
theorem dX10_writeRule_36 : decode cX10_writeRule 36 = .ok (.isub, 1) := dk_100 (dk_at dksX10_writeRule_1 12 rfl rfl)
theorem dX10_writeRule_37 : decode cX10_writeRule 37 = .ok (.bipush 9, 2) := dk_16 9 (dk_at dksX10_writeRule_1 13 rfl rfl)
theorem dX10_writeRule_39 : decode cX10_writeRule 39 = .ok (.invokevirtual 384, 3) := dk_182 1 128 (dk_at dksX10_writeRule_1 15 rfl rfl)
theorem dX10_writeRule_42 : decode cX10_writeRule 42 = .ok (.aload_n 0, 1) := dk_42 (dk_at dksX10_writeRule_1 18 rfl rfl)
theorem dX10_writeRule_43 : decode cX10_writeRule 43 = .ok (.ldc 226, 2) := dk_18 226 (dk_at dksX10_writeRule_1 19 rfl rfl)
theorem dX10_writeRule_45 : decode cX10_writeRule 45 = .ok (.invokevirtual 372, 3) := dk_182 1 116 (dk_at dksX10_writeRule_1 21 rfl rfl)
theorem dX10_writeRule_48 : decode cX10_writeRule 48 = .ok (.aload_n 0, 1) := dk_42 (dk_at dksX10_writeRule_2 0 rfl rfl)
theorem dX10_writeRule_49 : decode cX10_writeRule 49 = .ok (.iload_n 1, 1) := dk_27 (dk_at dksX10_writeRule_2 1 rfl rfl)
theorem dX10_writeRule_50 : decode cX10_writeRule 50 = .ok (.invokevirtual 392, 3) := dk_182 1 136 (dk_at dksX10_writeRule_2 2 rfl rfl)
theorem dX10_writeRule_53 : decode cX10_writeRule 53 = .ok (.aload_n 0, 1) := dk_42 (dk_at dksX10_writeRule_2 5 rfl rfl)
theorem dX10_writeRule_54 : decode cX10_writeRule 54 = .ok (.iload_n 1, 1) := dk_27 (dk_at dksX10_writeRule_2 6 rfl rfl)
theorem dX10_writeRule_55 : decode cX10_writeRule 55 = .ok (.bipush 33, 2) := dk_16 33 (dk_at dksX10_writeRule_2 7 rfl rfl)
theorem dX10_writeRule_57 : decode cX10_writeRule 57 = .ok (.invokevirtual 69, 3) := dk_182 0 69 (dk_at dksX10_writeRule_2 9 rfl rfl)
theorem dX10_writeRule_60 : decode cX10_writeRule 60 = .ok (.ifCond .eq 9, 3) := dk_153 0 9 (dk_at dksX10_writeRule_2 12 rfl rfl)
theorem dX10_writeRule_63 : decode cX10_writeRule 63 = .ok (.aload_n 0, 1) := dk_42 (dk_at dksX10_writeRule_2 15 rfl rfl)
theorem dX10_writeRule_64 : decode cX10_writeRule 64 = .ok (.ldc 224, 2) := dk_18 224 (dk_at dksX10_writeRule_2 16 rfl rfl)
theorem dX10_writeRule_66 : decode cX10_writeRule 66 = .ok (.invokevirtual 372, 3) := dk_182 1 116 (dk_at dksX10_writeRule_2 18 rfl rfl)
theorem dX10_writeRule_69 : decode cX10_writeRule 69 = .ok (.iconst 0, 1) := dk_3 (dk_at dksX10_writeRule_2 21 rfl rfl)
theorem dX10_writeRule_70 : decode cX10_writeRule 70 = .ok (.istore_n 2, 1) := dk_61 (dk_at dksX10_writeRule_2 22 rfl rfl)
theorem dX10_writeRule_71 : decode cX10_writeRule 71 = .ok (.iload_n 2, 1) := dk_28 (dk_at dksX10_writeRule_2 23 rfl rfl)
theorem dX10_writeRule_72 : decode cX10_writeRule 72 = .ok (.aload_n 0, 1) := dk_42 (dk_at dksX10_writeRule_3 0 rfl rfl)
theorem dX10_writeRule_73 : decode cX10_writeRule 73 = .ok (.getfield 7, 3) := dk_180 0 7 (dk_at dksX10_writeRule_3 1 rfl rfl)
theorem dX10_writeRule_76 : decode cX10_writeRule 76 = .ok (.bipush 17, 2) := dk_16 17 (dk_at dksX10_writeRule_3 4 rfl rfl)
theorem dX10_writeRule_78 : decode cX10_writeRule 78 = .ok (.iaload, 1) := dk_46 (dk_at dksX10_writeRule_3 6 rfl rfl)
theorem dX10_writeRule_79 : decode cX10_writeRule 79 = .ok (.if_icmp .ge 35, 3) := dk_162 0 35 (dk_at dksX10_writeRule_3 7 rfl rfl)
theorem dX10_writeRule_82 : decode cX10_writeRule 82 = .ok (.aload_n 0, 1) := dk_42 (dk_at dksX10_writeRule_3 10 rfl rfl)
theorem dX10_writeRule_83 : decode cX10_writeRule 83 = .ok (.iload_n 1, 1) := dk_27 (dk_at dksX10_writeRule_3 11 rfl rfl)
theorem dX10_writeRule_84 : decode cX10_writeRule 84 = .ok (.bipush 33, 2) := dk_16 33 (dk_at dksX10_writeRule_3 12 rfl rfl)
theorem dX10_writeRule_86 : decode cX10_writeRule 86 = .ok (.invokevirtual 69, 3) := dk_182 0 69 (dk_at dksX10_writeRule_3 14 rfl rfl)
theorem dX10_writeRule_89 : decode cX10_writeRule 89 = .ok (.iload_n 2, 1) := dk_28 (dk_at dksX10_writeRule_3 17 rfl rfl)
theorem dX10_writeRule_90 : decode cX10_writeRule 90 = .ok (.invokestatic 49, 3) := dk_184 0 49 (dk_at dksX10_writeRule_3 18 rfl rfl)
theorem dX10_writeRule_93 : decode cX10_writeRule 93 = .ok (.ifCond .eq 15, 3) := dk_153 0 15 (dk_at dksX10_writeRule_3 21 rfl rfl)
theorem dX10_writeRule_96 : decode cX10_writeRule 96 = .ok (.aload_n 0, 1) := dk_42 (dk_at dksX10_writeRule_4 0 rfl rfl)
theorem dX10_writeRule_97 : decode cX10_writeRule 97 = .ok (.ldc_w 370, 3) := dk_19 1 114 (dk_at dksX10_writeRule_4 1 rfl rfl)
theorem dX10_writeRule_100 : decode cX10_writeRule 100 = .ok (.invokevirtual 372, 3) := dk_182 1 116 (dk_at dksX10_writeRule_4 4 rfl rfl)
theorem dX10_writeRule_103 : decode cX10_writeRule 103 = .ok (.aload_n 0, 1) := dk_42 (dk_at dksX10_writeRule_4 7 rfl rfl)
theorem dX10_writeRule_104 : decode cX10_writeRule 104 = .ok (.iload_n 2, 1) := dk_28 (dk_at dksX10_writeRule_4 8 rfl rfl)
theorem dX10_writeRule_105 : decode cX10_writeRule 105 = .ok (.invokevirtual 361, 3) := dk_182 1 105 (dk_at dksX10_writeRule_4 9 rfl rfl)
theorem dX10_writeRule_108 : decode cX10_writeRule 108 = .ok (.iinc 2 1, 3) := dk_132 2 1 (dk_at dksX10_writeRule_4 12 rfl rfl)
theorem dX10_writeRule_111 : decode cX10_writeRule 111 = .ok (.goto (-40), 3) := dk_167 255 216 (dk_at dksX10_writeRule_4 15 rfl rfl)
theorem dX10_writeRule_114 : decode cX10_writeRule 114 = .ok (.aload_n 0, 1) := dk_42 (dk_at dksX10_writeRule_4 18 rfl rfl)
theorem dX10_writeRule_115 : decode cX10_writeRule 115 = .ok (.getfield 287, 3) := dk_180 1 31 (dk_at dksX10_writeRule_4 19 rfl rfl)
theorem dX10_writeRule_118 : decode cX10_writeRule 118 = .ok (.ireturn, 1) := dk_172 (dk_at dksX10_writeRule_4 22 rfl rfl)
abbrev cX10_writePart : ByteArray := prog_17_method_108_code
def yX10_writePart : MethodName := ⟨RX10, "writePart", "(III)V"⟩
def dkwX10_writePart_5 : List UInt8 := [42, 27, 28, 4, 100, 21, 4, 182, 1, 128, 21, 5, 153, 0, 10, 42, 19, 1, 134, 182, 1, 116, 177]
abbrev dktX10_writePart_5 : List UInt8 := dkwX10_writePart_5 ++ []
def dkwX10_writePart_4 : List UInt8 := [4, 100, 21, 4, 182, 1, 128, 42, 21, 4, 5, 160, 0, 8, 18, 210, 167, 0, 5, 18, 215, 182, 1, 116]
abbrev dktX10_writePart_4 : List UInt8 := dkwX10_writePart_4 ++ dktX10_writePart_5
def dkwX10_writePart_3 : List UInt8 := [54, 5, 21, 5, 153, 0, 10, 42, 19, 1, 132, 182, 1, 116, 42, 27, 42, 27, 28, 4, 100, 182, 1, 111]
abbrev dktX10_writePart_3 : List UInt8 := dkwX10_writePart_3 ++ dktX10_writePart_4
def dkwX10_writePart_2 : List UInt8 := [182, 1, 116, 42, 27, 28, 4, 100, 4, 182, 1, 128, 177, 29, 21, 4, 162, 0, 7, 4, 167, 0, 4, 3]
abbrev dktX10_writePart_2 : List UInt8 := dkwX10_writePart_2 ++ dktX10_writePart_3
def dkwX10_writePart_1 : List UInt8 := [21, 4, 7, 160, 0, 10, 42, 18, 205, 182, 1, 116, 177, 21, 4, 4, 160, 0, 19, 42, 18, 188]
abbrev dktX10_writePart_1 : List UInt8 := dkwX10_writePart_1 ++ dktX10_writePart_2
def dkwX10_writePart_0 : List UInt8 := [42, 27, 4, 28, 96, 182, 0, 69, 54, 4, 21, 4, 16, 10, 161, 0, 10, 42, 21, 4, 182, 1, 125, 177]
abbrev dktX10_writePart_0 : List UInt8 := dkwX10_writePart_0 ++ dktX10_writePart_1
theorem dksX10_writePart_0 : cX10_writePart.data.toList.drop 0 = dktX10_writePart_0 := by decide +kernel
theorem dksX10_writePart_1 : cX10_writePart.data.toList.drop 24 = dktX10_writePart_1 := dk_seg dksX10_writePart_0 24 rfl rfl
theorem dksX10_writePart_2 : cX10_writePart.data.toList.drop 46 = dktX10_writePart_2 := dk_seg dksX10_writePart_1 22 rfl rfl
theorem dksX10_writePart_3 : cX10_writePart.data.toList.drop 70 = dktX10_writePart_3 := dk_seg dksX10_writePart_2 24 rfl rfl
theorem dksX10_writePart_4 : cX10_writePart.data.toList.drop 94 = dktX10_writePart_4 := dk_seg dksX10_writePart_3 24 rfl rfl
theorem dksX10_writePart_5 : cX10_writePart.data.toList.drop 118 = dktX10_writePart_5 := dk_seg dksX10_writePart_4 24 rfl rfl
theorem dX10_writePart_0 : decode cX10_writePart 0 = .ok (.aload_n 0, 1) := dk_42 (dk_at dksX10_writePart_0 0 rfl rfl)
theorem dX10_writePart_1 : decode cX10_writePart 1 = .ok (.iload_n 1, 1) := dk_27 (dk_at dksX10_writePart_0 1 rfl rfl)
theorem dX10_writePart_2 : decode cX10_writePart 2 = .ok (.iconst 1, 1) := dk_4 (dk_at dksX10_writePart_0 2 rfl rfl)
theorem dX10_writePart_3 : decode cX10_writePart 3 = .ok (.iload_n 2, 1) := dk_28 (dk_at dksX10_writePart_0 3 rfl rfl)
theorem dX10_writePart_4 : decode cX10_writePart 4 = .ok (.iadd, 1) := dk_96 (dk_at dksX10_writePart_0 4 rfl rfl)
theorem dX10_writePart_5 : decode cX10_writePart 5 = .ok (.invokevirtual 69, 3) := dk_182 0 69 (dk_at dksX10_writePart_0 5 rfl rfl)
theorem dX10_writePart_8 : decode cX10_writePart 8 = .ok (.istore 4, 2) := dk_54 4 (dk_at dksX10_writePart_0 8 rfl rfl)
theorem dX10_writePart_10 : decode cX10_writePart 10 = .ok (.iload 4, 2) := dk_21 4 (dk_at dksX10_writePart_0 10 rfl rfl)
theorem dX10_writePart_12 : decode cX10_writePart 12 = .ok (.bipush 10, 2) := dk_16 10 (dk_at dksX10_writePart_0 12 rfl rfl)
theorem dX10_writePart_14 : decode cX10_writePart 14 = .ok (.if_icmp .lt 10, 3) := dk_161 0 10 (dk_at dksX10_writePart_0 14 rfl rfl)
theorem dX10_writePart_17 : decode cX10_writePart 17 = .ok (.aload_n 0, 1) := dk_42 (dk_at dksX10_writePart_0 17 rfl rfl)
theorem dX10_writePart_18 : decode cX10_writePart 18 = .ok (.iload 4, 2) := dk_21 4 (dk_at dksX10_writePart_0 18 rfl rfl)
theorem dX10_writePart_20 : decode cX10_writePart 20 = .ok (.invokevirtual 381, 3) := dk_182 1 125 (dk_at dksX10_writePart_0 20 rfl rfl)
theorem dX10_writePart_23 : decode cX10_writePart 23 = .ok (.return_, 1) := dk_177 (dk_at dksX10_writePart_0 23 rfl rfl)
theorem dX10_writePart_24 : decode cX10_writePart 24 = .ok (.iload 4, 2) := dk_21 4 (dk_at dksX10_writePart_1 0 rfl rfl)
theorem dX10_writePart_26 : decode cX10_writePart 26 = .ok (.iconst 4, 1) := dk_7 (dk_at dksX10_writePart_1 2 rfl rfl)
theorem dX10_writePart_27 : decode cX10_writePart 27 = .ok (.if_icmp .ne 10, 3) := dk_160 0 10 (dk_at dksX10_writePart_1 3 rfl rfl)
theorem dX10_writePart_30 : decode cX10_writePart 30 = .ok (.aload_n 0, 1) := dk_42 (dk_at dksX10_writePart_1 6 rfl rfl)
theorem dX10_writePart_31 : decode cX10_writePart 31 = .ok (.ldc 205, 2) := dk_18 205 (dk_at dksX10_writePart_1 7 rfl rfl)
theorem dX10_writePart_33 : decode cX10_writePart 33 = .ok (.invokevirtual 372, 3) := dk_182 1 116 (dk_at dksX10_writePart_1 9 rfl rfl)
theorem dX10_writePart_36 : decode cX10_writePart 36 = .ok (.return_, 1) := dk_177 (dk_at dksX10_writePart_1 12 rfl rfl)
theorem dX10_writePart_37 : decode cX10_writePart 37 = .ok (.iload 4, 2) := dk_21 4 (dk_at dksX10_writePart_1 13 rfl rfl)
theorem dX10_writePart_39 : decode cX10_writePart 39 = .ok (.iconst 1, 1) := dk_4 (dk_at dksX10_writePart_1 15 rfl rfl)
theorem dX10_writePart_40 : decode cX10_writePart 40 = .ok (.if_icmp .ne 19, 3) := dk_160 0 19 (dk_at dksX10_writePart_1 16 rfl rfl)
theorem dX10_writePart_43 : decode cX10_writePart 43 = .ok (.aload_n 0, 1) := dk_42 (dk_at dksX10_writePart_1 19 rfl rfl)
theorem dX10_writePart_44 : decode cX10_writePart 44 = .ok (.ldc 188, 2) := dk_18 188 (dk_at dksX10_writePart_1 20 rfl rfl)
theorem dX10_writePart_46 : decode cX10_writePart 46 = .ok (.invokevirtual 372, 3) := dk_182 1 116 (dk_at dksX10_writePart_2 0 rfl rfl)
theorem dX10_writePart_49 : decode cX10_writePart 49 = .ok (.aload_n 0, 1) := dk_42 (dk_at dksX10_writePart_2 3 rfl rfl)
theorem dX10_writePart_50 : decode cX10_writePart 50 = .ok (.iload_n 1, 1) := dk_27 (dk_at dksX10_writePart_2 4 rfl rfl)
theorem dX10_writePart_51 : decode cX10_writePart 51 = .ok (.iload_n 2, 1) := dk_28 (dk_at dksX10_writePart_2 5 rfl rfl)
theorem dX10_writePart_52 : decode cX10_writePart 52 = .ok (.iconst 1, 1) := dk_4 (dk_at dksX10_writePart_2 6 rfl rfl)
theorem dX10_writePart_53 : decode cX10_writePart 53 = .ok (.isub, 1) := dk_100 (dk_at dksX10_writePart_2 7 rfl rfl)
theorem dX10_writePart_54 : decode cX10_writePart 54 = .ok (.iconst 1, 1) := dk_4 (dk_at dksX10_writePart_2 8 rfl rfl)
theorem dX10_writePart_55 : decode cX10_writePart 55 = .ok (.invokevirtual 384, 3) := dk_182 1 128 (dk_at dksX10_writePart_2 9 rfl rfl)
theorem dX10_writePart_58 : decode cX10_writePart 58 = .ok (.return_, 1) := dk_177 (dk_at dksX10_writePart_2 12 rfl rfl)
theorem dX10_writePart_59 : decode cX10_writePart 59 = .ok (.iload_n 3, 1) := dk_29 (dk_at dksX10_writePart_2 13 rfl rfl)
theorem dX10_writePart_60 : decode cX10_writePart 60 = .ok (.iload 4, 2) := dk_21 4 (dk_at dksX10_writePart_2 14 rfl rfl)
theorem dX10_writePart_62 : decode cX10_writePart 62 = .ok (.if_icmp .ge 7, 3) := dk_162 0 7 (dk_at dksX10_writePart_2 16 rfl rfl)
theorem dX10_writePart_65 : decode cX10_writePart 65 = .ok (.iconst 1, 1) := dk_4 (dk_at dksX10_writePart_2 19 rfl rfl)
theorem dX10_writePart_66 : decode cX10_writePart 66 = .ok (.goto 4, 3) := dk_167 0 4 (dk_at dksX10_writePart_2 20 rfl rfl)
theorem dX10_writePart_69 : decode cX10_writePart 69 = .ok (.iconst 0, 1) := dk_3 (dk_at dksX10_writePart_2 23 rfl rfl)
theorem dX10_writePart_70 : decode cX10_writePart 70 = .ok (.istore 5, 2) := dk_54 5 (dk_at dksX10_writePart_3 0 rfl rfl)
theorem dX10_writePart_72 : decode cX10_writePart 72 = .ok (.iload 5, 2) := dk_21 5 (dk_at dksX10_writePart_3 2 rfl rfl)
theorem dX10_writePart_74 : decode cX10_writePart 74 = .ok (.ifCond .eq 10, 3) := dk_153 0 10 (dk_at dksX10_writePart_3 4 rfl rfl)
theorem dX10_writePart_77 : decode cX10_writePart 77 = .ok (.aload_n 0, 1) := dk_42 (dk_at dksX10_writePart_3 7 rfl rfl)
theorem dX10_writePart_78 : decode cX10_writePart 78 = .ok (.ldc_w 388, 3) := dk_19 1 132 (dk_at dksX10_writePart_3 8 rfl rfl)
theorem dX10_writePart_81 : decode cX10_writePart 81 = .ok (.invokevirtual 372, 3) := dk_182 1 116 (dk_at dksX10_writePart_3 11 rfl rfl)
theorem dX10_writePart_84 : decode cX10_writePart 84 = .ok (.aload_n 0, 1) := dk_42 (dk_at dksX10_writePart_3 14 rfl rfl)
theorem dX10_writePart_85 : decode cX10_writePart 85 = .ok (.iload_n 1, 1) := dk_27 (dk_at dksX10_writePart_3 15 rfl rfl)
theorem dX10_writePart_86 : decode cX10_writePart 86 = .ok (.aload_n 0, 1) := dk_42 (dk_at dksX10_writePart_3 16 rfl rfl)
theorem dX10_writePart_87 : decode cX10_writePart 87 = .ok (.iload_n 1, 1) := dk_27 (dk_at dksX10_writePart_3 17 rfl rfl)
theorem dX10_writePart_88 : decode cX10_writePart 88 = .ok (.iload_n 2, 1) := dk_28 (dk_at dksX10_writePart_3 18 rfl rfl)
theorem dX10_writePart_89 : decode cX10_writePart 89 = .ok (.iconst 1, 1) := dk_4 (dk_at dksX10_writePart_3 19 rfl rfl)
theorem dX10_writePart_90 : decode cX10_writePart 90 = .ok (.isub, 1) := dk_100 (dk_at dksX10_writePart_3 20 rfl rfl)
theorem dX10_writePart_91 : decode cX10_writePart 91 = .ok (.invokevirtual 367, 3) := dk_182 1 111 (dk_at dksX10_writePart_3 21 rfl rfl)
theorem dX10_writePart_94 : decode cX10_writePart 94 = .ok (.iconst 1, 1) := dk_4 (dk_at dksX10_writePart_4 0 rfl rfl)
theorem dX10_writePart_95 : decode cX10_writePart 95 = .ok (.isub, 1) := dk_100 (dk_at dksX10_writePart_4 1 rfl rfl)
theorem dX10_writePart_96 : decode cX10_writePart 96 = .ok (.iload 4, 2) := dk_21 4 (dk_at dksX10_writePart_4 2 rfl rfl)
theorem dX10_writePart_98 : decode cX10_writePart 98 = .ok (.invokevirtual 384, 3) := dk_182 1 128 (dk_at dksX10_writePart_4 4 rfl rfl)
theorem dX10_writePart_101 : decode cX10_writePart 101 = .ok (.aload_n 0, 1) := dk_42 (dk_at dksX10_writePart_4 7 rfl rfl)
theorem dX10_writePart_102 : decode cX10_writePart 102 = .ok (.iload 4, 2) := dk_21 4 (dk_at dksX10_writePart_4 8 rfl rfl)
theorem dX10_writePart_104 : decode cX10_writePart 104 = .ok (.iconst 2, 1) := dk_5 (dk_at dksX10_writePart_4 10 rfl rfl)
theorem dX10_writePart_105 : decode cX10_writePart 105 = .ok (.if_icmp .ne 8, 3) := dk_160 0 8 (dk_at dksX10_writePart_4 11 rfl rfl)
theorem dX10_writePart_108 : decode cX10_writePart 108 = .ok (.ldc 210, 2) := dk_18 210 (dk_at dksX10_writePart_4 14 rfl rfl)
theorem dX10_writePart_110 : decode cX10_writePart 110 = .ok (.goto 5, 3) := dk_167 0 5 (dk_at dksX10_writePart_4 16 rfl rfl)
theorem dX10_writePart_113 : decode cX10_writePart 113 = .ok (.ldc 215, 2) := dk_18 215 (dk_at dksX10_writePart_4 19 rfl rfl)
theorem dX10_writePart_115 : decode cX10_writePart 115 = .ok (.invokevirtual 372, 3) := dk_182 1 116 (dk_at dksX10_writePart_4 21 rfl rfl)
theorem dX10_writePart_118 : decode cX10_writePart 118 = .ok (.aload_n 0, 1) := dk_42 (dk_at dksX10_writePart_5 0 rfl rfl)
theorem dX10_writePart_119 : decode cX10_writePart 119 = .ok (.iload_n 1, 1) := dk_27 (dk_at dksX10_writePart_5 1 rfl rfl)
theorem dX10_writePart_120 : decode cX10_writePart 120 = .ok (.iload_n 2, 1) := dk_28 (dk_at dksX10_writePart_5 2 rfl rfl)
theorem dX10_writePart_121 : decode cX10_writePart 121 = .ok (.iconst 1, 1) := dk_4 (dk_at dksX10_writePart_5 3 rfl rfl)
theorem dX10_writePart_122 : decode cX10_writePart 122 = .ok (.isub, 1) := dk_100 (dk_at dksX10_writePart_5 4 rfl rfl)
theorem dX10_writePart_123 : decode cX10_writePart 123 = .ok (.iload 4, 2) := dk_21 4 (dk_at dksX10_writePart_5 5 rfl rfl)
theorem dX10_writePart_125 : decode cX10_writePart 125 = .ok (.invokevirtual 384, 3) := dk_182 1 128 (dk_at dksX10_writePart_5 7 rfl rfl)
theorem dX10_writePart_128 : decode cX10_writePart 128 = .ok (.iload 5, 2) := dk_21 5 (dk_at dksX10_writePart_5 10 rfl rfl)
theorem dX10_writePart_130 : decode cX10_writePart 130 = .ok (.ifCond .eq 10, 3) := dk_153 0 10 (dk_at dksX10_writePart_5 12 rfl rfl)
theorem dX10_writePart_133 : decode cX10_writePart 133 = .ok (.aload_n 0, 1) := dk_42 (dk_at dksX10_writePart_5 15 rfl rfl)
theorem dX10_writePart_134 : decode cX10_writePart 134 = .ok (.ldc_w 390, 3) := dk_19 1 134 (dk_at dksX10_writePart_5 16 rfl rfl)
theorem dX10_writePart_137 : decode cX10_writePart 137 = .ok (.invokevirtual 372, 3) := dk_182 1 116 (dk_at dksX10_writePart_5 19 rfl rfl)
theorem dX10_writePart_140 : decode cX10_writePart 140 = .ok (.return_, 1) := dk_177 (dk_at dksX10_writePart_5 22 rfl rfl)
abbrev cX10_writeCompare : ByteArray := prog_17_method_107_code
def yX10_writeCompare : MethodName := ⟨RX10, "writeCompare", "(I)V"⟩
def dkwX10_writeCompare_3 : List UInt8 := [182, 1, 105, 177]
abbrev dktX10_writeCompare_3 : List UInt8 := dkwX10_writeCompare_3 ++ []
def dkwX10_writeCompare_2 : List UInt8 := [19, 1, 121, 167, 0, 6, 19, 1, 123, 182, 1, 116, 42, 19, 1, 114, 182, 1, 116, 42, 28, 7, 112]
abbrev dktX10_writeCompare_2 : List UInt8 := dkwX10_writeCompare_2 ++ dktX10_writeCompare_3
def dkwX10_writeCompare_1 : List UInt8 := [28, 7, 108, 7, 112, 154, 0, 9, 19, 1, 119, 167, 0, 21, 28, 7, 108, 7, 112, 4, 160, 0, 9]
abbrev dktX10_writeCompare_1 : List UInt8 := dkwX10_writeCompare_1 ++ dktX10_writeCompare_2
def dkwX10_writeCompare_0 : List UInt8 := [27, 16, 10, 100, 61, 42, 19, 1, 114, 182, 1, 116, 42, 16, 97, 28, 16, 16, 108, 96, 182, 1, 108, 42]
abbrev dktX10_writeCompare_0 : List UInt8 := dkwX10_writeCompare_0 ++ dktX10_writeCompare_1
theorem dksX10_writeCompare_0 : cX10_writeCompare.data.toList.drop 0 = dktX10_writeCompare_0 := by decide +kernel
theorem dksX10_writeCompare_1 : cX10_writeCompare.data.toList.drop 24 = dktX10_writeCompare_1 := dk_seg dksX10_writeCompare_0 24 rfl rfl
theorem dksX10_writeCompare_2 : cX10_writeCompare.data.toList.drop 47 = dktX10_writeCompare_2 := dk_seg dksX10_writeCompare_1 23 rfl rfl
theorem dksX10_writeCompare_3 : cX10_writeCompare.data.toList.drop 70 = dktX10_writeCompare_3 := dk_seg dksX10_writeCompare_2 23 rfl rfl
theorem dX10_writeCompare_0 : decode cX10_writeCompare 0 = .ok (.iload_n 1, 1) := dk_27 (dk_at dksX10_writeCompare_0 0 rfl rfl)
theorem dX10_writeCompare_1 : decode cX10_writeCompare 1 = .ok (.bipush 10, 2) := dk_16 10 (dk_at dksX10_writeCompare_0 1 rfl rfl)
theorem dX10_writeCompare_3 : decode cX10_writeCompare 3 = .ok (.isub, 1) := dk_100 (dk_at dksX10_writeCompare_0 3 rfl rfl)
theorem dX10_writeCompare_4 : decode cX10_writeCompare 4 = .ok (.istore_n 2, 1) := dk_61 (dk_at dksX10_writeCompare_0 4 rfl rfl)
theorem dX10_writeCompare_5 : decode cX10_writeCompare 5 = .ok (.aload_n 0, 1) := dk_42 (dk_at dksX10_writeCompare_0 5 rfl rfl)
theorem dX10_writeCompare_6 : decode cX10_writeCompare 6 = .ok (.ldc_w 370, 3) := dk_19 1 114 (dk_at dksX10_writeCompare_0 6 rfl rfl)
theorem dX10_writeCompare_9 : decode cX10_writeCompare 9 = .ok (.invokevirtual 372, 3) := dk_182 1 116 (dk_at dksX10_writeCompare_0 9 rfl rfl)
theorem dX10_writeCompare_12 : decode cX10_writeCompare 12 = .ok (.aload_n 0, 1) := dk_42 (dk_at dksX10_writeCompare_0 12 rfl rfl)
theorem dX10_writeCompare_13 : decode cX10_writeCompare 13 = .ok (.bipush 97, 2) := dk_16 97 (dk_at dksX10_writeCompare_0 13 rfl rfl)
theorem dX10_writeCompare_15 : decode cX10_writeCompare 15 = .ok (.iload_n 2, 1) := dk_28 (dk_at dksX10_writeCompare_0 15 rfl rfl)
theorem dX10_writeCompare_16 : decode cX10_writeCompare 16 = .ok (.bipush 16, 2) := dk_16 16 (dk_at dksX10_writeCompare_0 16 rfl rfl)
theorem dX10_writeCompare_18 : decode cX10_writeCompare 18 = .ok (.idiv, 1) := dk_108 (dk_at dksX10_writeCompare_0 18 rfl rfl)
theorem dX10_writeCompare_19 : decode cX10_writeCompare 19 = .ok (.iadd, 1) := dk_96 (dk_at dksX10_writeCompare_0 19 rfl rfl)
theorem dX10_writeCompare_20 : decode cX10_writeCompare 20 = .ok (.invokevirtual 364, 3) := dk_182 1 108 (dk_at dksX10_writeCompare_0 20 rfl rfl)
theorem dX10_writeCompare_23 : decode cX10_writeCompare 23 = .ok (.aload_n 0, 1) := dk_42 (dk_at dksX10_writeCompare_0 23 rfl rfl)
theorem dX10_writeCompare_24 : decode cX10_writeCompare 24 = .ok (.iload_n 2, 1) := dk_28 (dk_at dksX10_writeCompare_1 0 rfl rfl)
theorem dX10_writeCompare_25 : decode cX10_writeCompare 25 = .ok (.iconst 4, 1) := dk_7 (dk_at dksX10_writeCompare_1 1 rfl rfl)
theorem dX10_writeCompare_26 : decode cX10_writeCompare 26 = .ok (.idiv, 1) := dk_108 (dk_at dksX10_writeCompare_1 2 rfl rfl)
theorem dX10_writeCompare_27 : decode cX10_writeCompare 27 = .ok (.iconst 4, 1) := dk_7 (dk_at dksX10_writeCompare_1 3 rfl rfl)
theorem dX10_writeCompare_28 : decode cX10_writeCompare 28 = .ok (.irem, 1) := dk_112 (dk_at dksX10_writeCompare_1 4 rfl rfl)
theorem dX10_writeCompare_29 : decode cX10_writeCompare 29 = .ok (.ifCond .ne 9, 3) := dk_154 0 9 (dk_at dksX10_writeCompare_1 5 rfl rfl)
theorem dX10_writeCompare_32 : decode cX10_writeCompare 32 = .ok (.ldc_w 375, 3) := dk_19 1 119 (dk_at dksX10_writeCompare_1 8 rfl rfl)
theorem dX10_writeCompare_35 : decode cX10_writeCompare 35 = .ok (.goto 21, 3) := dk_167 0 21 (dk_at dksX10_writeCompare_1 11 rfl rfl)
theorem dX10_writeCompare_38 : decode cX10_writeCompare 38 = .ok (.iload_n 2, 1) := dk_28 (dk_at dksX10_writeCompare_1 14 rfl rfl)
theorem dX10_writeCompare_39 : decode cX10_writeCompare 39 = .ok (.iconst 4, 1) := dk_7 (dk_at dksX10_writeCompare_1 15 rfl rfl)
theorem dX10_writeCompare_40 : decode cX10_writeCompare 40 = .ok (.idiv, 1) := dk_108 (dk_at dksX10_writeCompare_1 16 rfl rfl)
theorem dX10_writeCompare_41 : decode cX10_writeCompare 41 = .ok (.iconst 4, 1) := dk_7 (dk_at dksX10_writeCompare_1 17 rfl rfl)
theorem dX10_writeCompare_42 : decode cX10_writeCompare 42 = .ok (.irem, 1) := dk_112 (dk_at dksX10_writeCompare_1 18 rfl rfl)
theorem dX10_writeCompare_43 : decode cX10_writeCompare 43 = .ok (.iconst 1, 1) := dk_4 (dk_at dksX10_writeCompare_1 19 rfl rfl)
theorem dX10_writeCompare_44 : decode cX10_writeCompare 44 = .ok (.if_icmp .ne 9, 3) := dk_160 0 9 (dk_at dksX10_writeCompare_1 20 rfl rfl)
theorem dX10_writeCompare_47 : decode cX10_writeCompare 47 = .ok (.ldc_w 377, 3) := dk_19 1 121 (dk_at dksX10_writeCompare_2 0 rfl rfl)
theorem dX10_writeCompare_50 : decode cX10_writeCompare 50 = .ok (.goto 6, 3) := dk_167 0 6 (dk_at dksX10_writeCompare_2 3 rfl rfl)
theorem dX10_writeCompare_53 : decode cX10_writeCompare 53 = .ok (.ldc_w 379, 3) := dk_19 1 123 (dk_at dksX10_writeCompare_2 6 rfl rfl)
theorem dX10_writeCompare_56 : decode cX10_writeCompare 56 = .ok (.invokevirtual 372, 3) := dk_182 1 116 (dk_at dksX10_writeCompare_2 9 rfl rfl)
theorem dX10_writeCompare_59 : decode cX10_writeCompare 59 = .ok (.aload_n 0, 1) := dk_42 (dk_at dksX10_writeCompare_2 12 rfl rfl)
theorem dX10_writeCompare_60 : decode cX10_writeCompare 60 = .ok (.ldc_w 370, 3) := dk_19 1 114 (dk_at dksX10_writeCompare_2 13 rfl rfl)
theorem dX10_writeCompare_63 : decode cX10_writeCompare 63 = .ok (.invokevirtual 372, 3) := dk_182 1 116 (dk_at dksX10_writeCompare_2 16 rfl rfl)
theorem dX10_writeCompare_66 : decode cX10_writeCompare 66 = .ok (.aload_n 0, 1) := dk_42 (dk_at dksX10_writeCompare_2 19 rfl rfl)
theorem dX10_writeCompare_67 : decode cX10_writeCompare 67 = .ok (.iload_n 2, 1) := dk_28 (dk_at dksX10_writeCompare_2 20 rfl rfl)
theorem dX10_writeCompare_68 : decode cX10_writeCompare 68 = .ok (.iconst 4, 1) := dk_7 (dk_at dksX10_writeCompare_2 21 rfl rfl)
theorem dX10_writeCompare_69 : decode cX10_writeCompare 69 = .ok (.irem, 1) := dk_112 (dk_at dksX10_writeCompare_2 22 rfl rfl)
theorem dX10_writeCompare_70 : decode cX10_writeCompare 70 = .ok (.invokevirtual 361, 3) := dk_182 1 105 (dk_at dksX10_writeCompare_3 0 rfl rfl)
theorem dX10_writeCompare_73 : decode cX10_writeCompare 73 = .ok (.return_, 1) := dk_177 (dk_at dksX10_writeCompare_3 3 rfl rfl)
abbrev cX10_writeToken : ByteArray := prog_17_method_105_code
def yX10_writeToken : MethodName := ⟨RX10, "writeToken", "(Ljava/lang/String;)V"⟩
def dkwX10_writeToken_1 : List UInt8 := [43, 28, 182, 0, 118, 182, 1, 108, 132, 2, 1, 167, 255, 236, 177]
abbrev dktX10_writeToken_1 : List UInt8 := dkwX10_writeToken_1 ++ []
def dkwX10_writeToken_0 : List UInt8 := [42, 180, 1, 31, 158, 0, 9, 42, 16, 32, 182, 1, 108, 3, 61, 28, 43, 182, 0, 110, 162, 0, 18, 42]
abbrev dktX10_writeToken_0 : List UInt8 := dkwX10_writeToken_0 ++ dktX10_writeToken_1
theorem dksX10_writeToken_0 : cX10_writeToken.data.toList.drop 0 = dktX10_writeToken_0 := by decide +kernel
theorem dksX10_writeToken_1 : cX10_writeToken.data.toList.drop 24 = dktX10_writeToken_1 := dk_seg dksX10_writeToken_0 24 rfl rfl
theorem dX10_writeToken_0 : decode cX10_writeToken 0 = .ok (.aload_n 0, 1) := dk_42 (dk_at dksX10_writeToken_0 0 rfl rfl)
theorem dX10_writeToken_1 : decode cX10_writeToken 1 = .ok (.getfield 287, 3) := dk_180 1 31 (dk_at dksX10_writeToken_0 1 rfl rfl)
theorem dX10_writeToken_4 : decode cX10_writeToken 4 = .ok (.ifCond .le 9, 3) := dk_158 0 9 (dk_at dksX10_writeToken_0 4 rfl rfl)
theorem dX10_writeToken_7 : decode cX10_writeToken 7 = .ok (.aload_n 0, 1) := dk_42 (dk_at dksX10_writeToken_0 7 rfl rfl)
theorem dX10_writeToken_8 : decode cX10_writeToken 8 = .ok (.bipush 32, 2) := dk_16 32 (dk_at dksX10_writeToken_0 8 rfl rfl)
theorem dX10_writeToken_10 : decode cX10_writeToken 10 = .ok (.invokevirtual 364, 3) := dk_182 1 108 (dk_at dksX10_writeToken_0 10 rfl rfl)
theorem dX10_writeToken_13 : decode cX10_writeToken 13 = .ok (.iconst 0, 1) := dk_3 (dk_at dksX10_writeToken_0 13 rfl rfl)
theorem dX10_writeToken_14 : decode cX10_writeToken 14 = .ok (.istore_n 2, 1) := dk_61 (dk_at dksX10_writeToken_0 14 rfl rfl)
theorem dX10_writeToken_15 : decode cX10_writeToken 15 = .ok (.iload_n 2, 1) := dk_28 (dk_at dksX10_writeToken_0 15 rfl rfl)
theorem dX10_writeToken_16 : decode cX10_writeToken 16 = .ok (.aload_n 1, 1) := dk_43 (dk_at dksX10_writeToken_0 16 rfl rfl)
theorem dX10_writeToken_17 : decode cX10_writeToken 17 = .ok (.invokevirtual 110, 3) := dk_182 0 110 (dk_at dksX10_writeToken_0 17 rfl rfl)
theorem dX10_writeToken_20 : decode cX10_writeToken 20 = .ok (.if_icmp .ge 18, 3) := dk_162 0 18 (dk_at dksX10_writeToken_0 20 rfl rfl)
theorem dX10_writeToken_23 : decode cX10_writeToken 23 = .ok (.aload_n 0, 1) := dk_42 (dk_at dksX10_writeToken_0 23 rfl rfl)
theorem dX10_writeToken_24 : decode cX10_writeToken 24 = .ok (.aload_n 1, 1) := dk_43 (dk_at dksX10_writeToken_1 0 rfl rfl)
theorem dX10_writeToken_25 : decode cX10_writeToken 25 = .ok (.iload_n 2, 1) := dk_28 (dk_at dksX10_writeToken_1 1 rfl rfl)
theorem dX10_writeToken_26 : decode cX10_writeToken 26 = .ok (.invokevirtual 118, 3) := dk_182 0 118 (dk_at dksX10_writeToken_1 2 rfl rfl)
theorem dX10_writeToken_29 : decode cX10_writeToken 29 = .ok (.invokevirtual 364, 3) := dk_182 1 108 (dk_at dksX10_writeToken_1 5 rfl rfl)
theorem dX10_writeToken_32 : decode cX10_writeToken 32 = .ok (.iinc 2 1, 3) := dk_132 2 1 (dk_at dksX10_writeToken_1 8 rfl rfl)
theorem dX10_writeToken_35 : decode cX10_writeToken 35 = .ok (.goto (-20), 3) := dk_167 255 236 (dk_at dksX10_writeToken_1 11 rfl rfl)
theorem dX10_writeToken_38 : decode cX10_writeToken 38 = .ok (.return_, 1) := dk_177 (dk_at dksX10_writeToken_1 14 rfl rfl)
abbrev cX10_write : ByteArray := prog_17_method_103_code
def yX10_write : MethodName := ⟨RX10, "write", "(I)V"⟩
def dkwX10_write_0 : List UInt8 := [42, 180, 0, 31, 42, 180, 1, 31, 27, 146, 85, 42, 89, 180, 1, 31, 4, 96, 181, 1, 31, 177]
abbrev dktX10_write_0 : List UInt8 := dkwX10_write_0 ++ []
theorem dksX10_write_0 : cX10_write.data.toList.drop 0 = dktX10_write_0 := by decide +kernel
theorem dX10_write_0 : decode cX10_write 0 = .ok (.aload_n 0, 1) := dk_42 (dk_at dksX10_write_0 0 rfl rfl)
theorem dX10_write_1 : decode cX10_write 1 = .ok (.getfield 31, 3) := dk_180 0 31 (dk_at dksX10_write_0 1 rfl rfl)
theorem dX10_write_4 : decode cX10_write 4 = .ok (.aload_n 0, 1) := dk_42 (dk_at dksX10_write_0 4 rfl rfl)
theorem dX10_write_5 : decode cX10_write 5 = .ok (.getfield 287, 3) := dk_180 1 31 (dk_at dksX10_write_0 5 rfl rfl)
theorem dX10_write_8 : decode cX10_write 8 = .ok (.iload_n 1, 1) := dk_27 (dk_at dksX10_write_0 8 rfl rfl)
theorem dX10_write_9 : decode cX10_write 9 = .ok (.i2c, 1) := dk_146 (dk_at dksX10_write_0 9 rfl rfl)
theorem dX10_write_10 : decode cX10_write 10 = .ok (.castore, 1) := dk_85 (dk_at dksX10_write_0 10 rfl rfl)
theorem dX10_write_11 : decode cX10_write 11 = .ok (.aload_n 0, 1) := dk_42 (dk_at dksX10_write_0 11 rfl rfl)
theorem dX10_write_12 : decode cX10_write 12 = .ok (.dup, 1) := dk_89 (dk_at dksX10_write_0 12 rfl rfl)
theorem dX10_write_13 : decode cX10_write 13 = .ok (.getfield 287, 3) := dk_180 1 31 (dk_at dksX10_write_0 13 rfl rfl)
theorem dX10_write_16 : decode cX10_write 16 = .ok (.iconst 1, 1) := dk_4 (dk_at dksX10_write_0 16 rfl rfl)
theorem dX10_write_17 : decode cX10_write 17 = .ok (.iadd, 1) := dk_96 (dk_at dksX10_write_0 17 rfl rfl)
theorem dX10_write_18 : decode cX10_write 18 = .ok (.putfield 287, 3) := dk_181 1 31 (dk_at dksX10_write_0 18 rfl rfl)
theorem dX10_write_21 : decode cX10_write 21 = .ok (.return_, 1) := dk_177 (dk_at dksX10_write_0 21 rfl rfl)
abbrev cX10_writeNumber : ByteArray := prog_17_method_104_code
def yX10_writeNumber : MethodName := ⟨RX10, "writeNumber", "(I)V"⟩
def dkwX10_writeNumber_1 : List UInt8 := [182, 1, 108, 177]
abbrev dktX10_writeNumber_1 : List UInt8 := dkwX10_writeNumber_1 ++ []
def dkwX10_writeNumber_0 : List UInt8 := [27, 16, 9, 164, 0, 11, 42, 27, 16, 10, 108, 182, 1, 105, 42, 16, 48, 27, 16, 10, 112, 96]
abbrev dktX10_writeNumber_0 : List UInt8 := dkwX10_writeNumber_0 ++ dktX10_writeNumber_1
theorem dksX10_writeNumber_0 : cX10_writeNumber.data.toList.drop 0 = dktX10_writeNumber_0 := by decide +kernel
theorem dksX10_writeNumber_1 : cX10_writeNumber.data.toList.drop 22 = dktX10_writeNumber_1 := dk_seg dksX10_writeNumber_0 22 rfl rfl
theorem dX10_writeNumber_0 : decode cX10_writeNumber 0 = .ok (.iload_n 1, 1) := dk_27 (dk_at dksX10_writeNumber_0 0 rfl rfl)
theorem dX10_writeNumber_1 : decode cX10_writeNumber 1 = .ok (.bipush 9, 2) := dk_16 9 (dk_at dksX10_writeNumber_0 1 rfl rfl)
theorem dX10_writeNumber_3 : decode cX10_writeNumber 3 = .ok (.if_icmp .le 11, 3) := dk_164 0 11 (dk_at dksX10_writeNumber_0 3 rfl rfl)
theorem dX10_writeNumber_6 : decode cX10_writeNumber 6 = .ok (.aload_n 0, 1) := dk_42 (dk_at dksX10_writeNumber_0 6 rfl rfl)
theorem dX10_writeNumber_7 : decode cX10_writeNumber 7 = .ok (.iload_n 1, 1) := dk_27 (dk_at dksX10_writeNumber_0 7 rfl rfl)
theorem dX10_writeNumber_8 : decode cX10_writeNumber 8 = .ok (.bipush 10, 2) := dk_16 10 (dk_at dksX10_writeNumber_0 8 rfl rfl)
theorem dX10_writeNumber_10 : decode cX10_writeNumber 10 = .ok (.idiv, 1) := dk_108 (dk_at dksX10_writeNumber_0 10 rfl rfl)
theorem dX10_writeNumber_11 : decode cX10_writeNumber 11 = .ok (.invokevirtual 361, 3) := dk_182 1 105 (dk_at dksX10_writeNumber_0 11 rfl rfl)
theorem dX10_writeNumber_14 : decode cX10_writeNumber 14 = .ok (.aload_n 0, 1) := dk_42 (dk_at dksX10_writeNumber_0 14 rfl rfl)
theorem dX10_writeNumber_15 : decode cX10_writeNumber 15 = .ok (.bipush 48, 2) := dk_16 48 (dk_at dksX10_writeNumber_0 15 rfl rfl)
theorem dX10_writeNumber_17 : decode cX10_writeNumber 17 = .ok (.iload_n 1, 1) := dk_27 (dk_at dksX10_writeNumber_0 17 rfl rfl)
theorem dX10_writeNumber_18 : decode cX10_writeNumber 18 = .ok (.bipush 10, 2) := dk_16 10 (dk_at dksX10_writeNumber_0 18 rfl rfl)
theorem dX10_writeNumber_20 : decode cX10_writeNumber 20 = .ok (.irem, 1) := dk_112 (dk_at dksX10_writeNumber_0 20 rfl rfl)
theorem dX10_writeNumber_21 : decode cX10_writeNumber 21 = .ok (.iadd, 1) := dk_96 (dk_at dksX10_writeNumber_0 21 rfl rfl)
theorem dX10_writeNumber_22 : decode cX10_writeNumber 22 = .ok (.invokevirtual 364, 3) := dk_182 1 108 (dk_at dksX10_writeNumber_1 0 rfl rfl)
theorem dX10_writeNumber_25 : decode cX10_writeNumber 25 = .ok (.return_, 1) := dk_177 (dk_at dksX10_writeNumber_1 3 rfl rfl)
abbrev cX10_beginOf : ByteArray := prog_17_method_106_code
def yX10_beginOf : MethodName := ⟨RX10, "beginOf", "(II)I"⟩
def dkwX10_beginOf_1 : List UInt8 := [54, 4, 29, 4, 160, 0, 8, 21, 4, 167, 0, 12, 42, 27, 21, 4, 4, 100, 182, 1, 111, 172]
abbrev dktX10_beginOf_1 : List UInt8 := dkwX10_beginOf_1 ++ []
def dkwX10_beginOf_0 : List UInt8 := [42, 27, 4, 28, 96, 182, 0, 69, 62, 29, 7, 161, 0, 5, 28, 172, 42, 27, 28, 4, 100, 182, 1, 111]
abbrev dktX10_beginOf_0 : List UInt8 := dkwX10_beginOf_0 ++ dktX10_beginOf_1
theorem dksX10_beginOf_0 : cX10_beginOf.data.toList.drop 0 = dktX10_beginOf_0 := by decide +kernel
theorem dksX10_beginOf_1 : cX10_beginOf.data.toList.drop 24 = dktX10_beginOf_1 := dk_seg dksX10_beginOf_0 24 rfl rfl
theorem dX10_beginOf_0 : decode cX10_beginOf 0 = .ok (.aload_n 0, 1) := dk_42 (dk_at dksX10_beginOf_0 0 rfl rfl)
theorem dX10_beginOf_1 : decode cX10_beginOf 1 = .ok (.iload_n 1, 1) := dk_27 (dk_at dksX10_beginOf_0 1 rfl rfl)
theorem dX10_beginOf_2 : decode cX10_beginOf 2 = .ok (.iconst 1, 1) := dk_4 (dk_at dksX10_beginOf_0 2 rfl rfl)
theorem dX10_beginOf_3 : decode cX10_beginOf 3 = .ok (.iload_n 2, 1) := dk_28 (dk_at dksX10_beginOf_0 3 rfl rfl)
theorem dX10_beginOf_4 : decode cX10_beginOf 4 = .ok (.iadd, 1) := dk_96 (dk_at dksX10_beginOf_0 4 rfl rfl)
theorem dX10_beginOf_5 : decode cX10_beginOf 5 = .ok (.invokevirtual 69, 3) := dk_182 0 69 (dk_at dksX10_beginOf_0 5 rfl rfl)
theorem dX10_beginOf_8 : decode cX10_beginOf 8 = .ok (.istore_n 3, 1) := dk_62 (dk_at dksX10_beginOf_0 8 rfl rfl)
theorem dX10_beginOf_9 : decode cX10_beginOf 9 = .ok (.iload_n 3, 1) := dk_29 (dk_at dksX10_beginOf_0 9 rfl rfl)
theorem dX10_beginOf_10 : decode cX10_beginOf 10 = .ok (.iconst 4, 1) := dk_7 (dk_at dksX10_beginOf_0 10 rfl rfl)
theorem dX10_beginOf_11 : decode cX10_beginOf 11 = .ok (.if_icmp .lt 5, 3) := dk_161 0 5 (dk_at dksX10_beginOf_0 11 rfl rfl)
theorem dX10_beginOf_14 : decode cX10_beginOf 14 = .ok (.iload_n 2, 1) := dk_28 (dk_at dksX10_beginOf_0 14 rfl rfl)
theorem dX10_beginOf_15 : decode cX10_beginOf 15 = .ok (.ireturn, 1) := dk_172 (dk_at dksX10_beginOf_0 15 rfl rfl)
theorem dX10_beginOf_16 : decode cX10_beginOf 16 = .ok (.aload_n 0, 1) := dk_42 (dk_at dksX10_beginOf_0 16 rfl rfl)
theorem dX10_beginOf_17 : decode cX10_beginOf 17 = .ok (.iload_n 1, 1) := dk_27 (dk_at dksX10_beginOf_0 17 rfl rfl)
theorem dX10_beginOf_18 : decode cX10_beginOf 18 = .ok (.iload_n 2, 1) := dk_28 (dk_at dksX10_beginOf_0 18 rfl rfl)
theorem dX10_beginOf_19 : decode cX10_beginOf 19 = .ok (.iconst 1, 1) := dk_4 (dk_at dksX10_beginOf_0 19 rfl rfl)
theorem dX10_beginOf_20 : decode cX10_beginOf 20 = .ok (.isub, 1) := dk_100 (dk_at dksX10_beginOf_0 20 rfl rfl)
theorem dX10_beginOf_21 : decode cX10_beginOf 21 = .ok (.invokevirtual 367, 3) := dk_182 1 111 (dk_at dksX10_beginOf_0 21 rfl rfl)
theorem dX10_beginOf_24 : decode cX10_beginOf 24 = .ok (.istore 4, 2) := dk_54 4 (dk_at dksX10_beginOf_1 0 rfl rfl)
theorem dX10_beginOf_26 : decode cX10_beginOf 26 = .ok (.iload_n 3, 1) := dk_29 (dk_at dksX10_beginOf_1 2 rfl rfl)
theorem dX10_beginOf_27 : decode cX10_beginOf 27 = .ok (.iconst 1, 1) := dk_4 (dk_at dksX10_beginOf_1 3 rfl rfl)
theorem dX10_beginOf_28 : decode cX10_beginOf 28 = .ok (.if_icmp .ne 8, 3) := dk_160 0 8 (dk_at dksX10_beginOf_1 4 rfl rfl)
theorem dX10_beginOf_31 : decode cX10_beginOf 31 = .ok (.iload 4, 2) := dk_21 4 (dk_at dksX10_beginOf_1 7 rfl rfl)
theorem dX10_beginOf_33 : decode cX10_beginOf 33 = .ok (.goto 12, 3) := dk_167 0 12 (dk_at dksX10_beginOf_1 9 rfl rfl)
theorem dX10_beginOf_36 : decode cX10_beginOf 36 = .ok (.aload_n 0, 1) := dk_42 (dk_at dksX10_beginOf_1 12 rfl rfl)
theorem dX10_beginOf_37 : decode cX10_beginOf 37 = .ok (.iload_n 1, 1) := dk_27 (dk_at dksX10_beginOf_1 13 rfl rfl)
theorem dX10_beginOf_38 : decode cX10_beginOf 38 = .ok (.iload 4, 2) := dk_21 4 (dk_at dksX10_beginOf_1 14 rfl rfl)
theorem dX10_beginOf_40 : decode cX10_beginOf 40 = .ok (.iconst 1, 1) := dk_4 (dk_at dksX10_beginOf_1 16 rfl rfl)
theorem dX10_beginOf_41 : decode cX10_beginOf 41 = .ok (.isub, 1) := dk_100 (dk_at dksX10_beginOf_1 17 rfl rfl)
theorem dX10_beginOf_42 : decode cX10_beginOf 42 = .ok (.invokevirtual 367, 3) := dk_182 1 111 (dk_at dksX10_beginOf_1 18 rfl rfl)
theorem dX10_beginOf_45 : decode cX10_beginOf 45 = .ok (.ireturn, 1) := dk_172 (dk_at dksX10_beginOf_1 21 rfl rfl)
abbrev cX10_writeParts : ByteArray := prog_17_method_109_code
def yX10_writeParts : MethodName := ⟨RX10, "writeParts", "(I)V"⟩
def dkwX10_writeParts_4 : List UInt8 := [167, 255, 169, 28, 154, 0, 9, 42, 18, 219, 182, 1, 116, 177]
abbrev dktX10_writeParts_4 : List UInt8 := dkwX10_writeParts_4 ++ []
def dkwX10_writeParts_3 : List UInt8 := [182, 1, 105, 42, 16, 47, 182, 1, 108, 42, 42, 27, 29, 4, 182, 1, 80, 182, 1, 105, 132, 3, 1]
abbrev dktX10_writeParts_3 : List UInt8 := dkwX10_writeParts_3 ++ dktX10_writeParts_4
def dkwX10_writeParts_2 : List UInt8 := [182, 1, 116, 42, 29, 182, 1, 105, 42, 19, 1, 114, 182, 1, 116, 42, 42, 27, 29, 3, 182, 1, 80]
abbrev dktX10_writeParts_2 : List UInt8 := dkwX10_writeParts_2 ++ dktX10_writeParts_3
def dkwX10_writeParts_1 : List UInt8 := [154, 0, 6, 167, 0, 62, 28, 153, 0, 9, 42, 16, 44, 182, 1, 108, 4, 61, 42, 19, 1, 114]
abbrev dktX10_writeParts_1 : List UInt8 := dkwX10_writeParts_1 ++ dktX10_writeParts_2
def dkwX10_writeParts_0 : List UInt8 := [3, 61, 3, 62, 29, 42, 180, 0, 7, 8, 46, 162, 0, 83, 42, 27, 16, 29, 29, 96, 182, 0, 69]
abbrev dktX10_writeParts_0 : List UInt8 := dkwX10_writeParts_0 ++ dktX10_writeParts_1
theorem dksX10_writeParts_0 : cX10_writeParts.data.toList.drop 0 = dktX10_writeParts_0 := by decide +kernel
theorem dksX10_writeParts_1 : cX10_writeParts.data.toList.drop 23 = dktX10_writeParts_1 := dk_seg dksX10_writeParts_0 23 rfl rfl
theorem dksX10_writeParts_2 : cX10_writeParts.data.toList.drop 45 = dktX10_writeParts_2 := dk_seg dksX10_writeParts_1 22 rfl rfl
theorem dksX10_writeParts_3 : cX10_writeParts.data.toList.drop 68 = dktX10_writeParts_3 := dk_seg dksX10_writeParts_2 23 rfl rfl
theorem dksX10_writeParts_4 : cX10_writeParts.data.toList.drop 91 = dktX10_writeParts_4 := dk_seg dksX10_writeParts_3 23 rfl rfl
theorem dX10_writeParts_0 : decode cX10_writeParts 0 = .ok (.iconst 0, 1) := dk_3 (dk_at dksX10_writeParts_0 0 rfl rfl)
theorem dX10_writeParts_1 : decode cX10_writeParts 1 = .ok (.istore_n 2, 1) := dk_61 (dk_at dksX10_writeParts_0 1 rfl rfl)
theorem dX10_writeParts_2 : decode cX10_writeParts 2 = .ok (.iconst 0, 1) := dk_3 (dk_at dksX10_writeParts_0 2 rfl rfl)
theorem dX10_writeParts_3 : decode cX10_writeParts 3 = .ok (.istore_n 3, 1) := dk_62 (dk_at dksX10_writeParts_0 3 rfl rfl)
theorem dX10_writeParts_4 : decode cX10_writeParts 4 = .ok (.iload_n 3, 1) := dk_29 (dk_at dksX10_writeParts_0 4 rfl rfl)
theorem dX10_writeParts_5 : decode cX10_writeParts 5 = .ok (.aload_n 0, 1) := dk_42 (dk_at dksX10_writeParts_0 5 rfl rfl)
theorem dX10_writeParts_6 : decode cX10_writeParts 6 = .ok (.getfield 7, 3) := dk_180 0 7 (dk_at dksX10_writeParts_0 6 rfl rfl)
theorem dX10_writeParts_9 : decode cX10_writeParts 9 = .ok (.iconst 5, 1) := dk_8 (dk_at dksX10_writeParts_0 9 rfl rfl)
theorem dX10_writeParts_10 : decode cX10_writeParts 10 = .ok (.iaload, 1) := dk_46 (dk_at dksX10_writeParts_0 10 rfl rfl)
theorem dX10_writeParts_11 : decode cX10_writeParts 11 = .ok (.if_icmp .ge 83, 3) := dk_162 0 83 (dk_at dksX10_writeParts_0 11 rfl rfl)
theorem dX10_writeParts_14 : decode cX10_writeParts 14 = .ok (.aload_n 0, 1) := dk_42 (dk_at dksX10_writeParts_0 14 rfl rfl)
theorem dX10_writeParts_15 : decode cX10_writeParts 15 = .ok (.iload_n 1, 1) := dk_27 (dk_at dksX10_writeParts_0 15 rfl rfl)
theorem dX10_writeParts_16 : decode cX10_writeParts 16 = .ok (.bipush 29, 2) := dk_16 29 (dk_at dksX10_writeParts_0 16 rfl rfl)
theorem dX10_writeParts_18 : decode cX10_writeParts 18 = .ok (.iload_n 3, 1) := dk_29 (dk_at dksX10_writeParts_0 18 rfl rfl)
theorem dX10_writeParts_19 : decode cX10_writeParts 19 = .ok (.iadd, 1) := dk_96 (dk_at dksX10_writeParts_0 19 rfl rfl)
theorem dX10_writeParts_20 : decode cX10_writeParts 20 = .ok (.invokevirtual 69, 3) := dk_182 0 69 (dk_at dksX10_writeParts_0 20 rfl rfl)
theorem dX10_writeParts_23 : decode cX10_writeParts 23 = .ok (.ifCond .ne 6, 3) := dk_154 0 6 (dk_at dksX10_writeParts_1 0 rfl rfl)
theorem dX10_writeParts_26 : decode cX10_writeParts 26 = .ok (.goto 62, 3) := dk_167 0 62 (dk_at dksX10_writeParts_1 3 rfl rfl)
theorem dX10_writeParts_29 : decode cX10_writeParts 29 = .ok (.iload_n 2, 1) := dk_28 (dk_at dksX10_writeParts_1 6 rfl rfl)
theorem dX10_writeParts_30 : decode cX10_writeParts 30 = .ok (.ifCond .eq 9, 3) := dk_153 0 9 (dk_at dksX10_writeParts_1 7 rfl rfl)
theorem dX10_writeParts_33 : decode cX10_writeParts 33 = .ok (.aload_n 0, 1) := dk_42 (dk_at dksX10_writeParts_1 10 rfl rfl)
theorem dX10_writeParts_34 : decode cX10_writeParts 34 = .ok (.bipush 44, 2) := dk_16 44 (dk_at dksX10_writeParts_1 11 rfl rfl)
theorem dX10_writeParts_36 : decode cX10_writeParts 36 = .ok (.invokevirtual 364, 3) := dk_182 1 108 (dk_at dksX10_writeParts_1 13 rfl rfl)
theorem dX10_writeParts_39 : decode cX10_writeParts 39 = .ok (.iconst 1, 1) := dk_4 (dk_at dksX10_writeParts_1 16 rfl rfl)
theorem dX10_writeParts_40 : decode cX10_writeParts 40 = .ok (.istore_n 2, 1) := dk_61 (dk_at dksX10_writeParts_1 17 rfl rfl)
theorem dX10_writeParts_41 : decode cX10_writeParts 41 = .ok (.aload_n 0, 1) := dk_42 (dk_at dksX10_writeParts_1 18 rfl rfl)
theorem dX10_writeParts_42 : decode cX10_writeParts 42 = .ok (.ldc_w 370, 3) := dk_19 1 114 (dk_at dksX10_writeParts_1 19 rfl rfl)
theorem dX10_writeParts_45 : decode cX10_writeParts 45 = .ok (.invokevirtual 372, 3) := dk_182 1 116 (dk_at dksX10_writeParts_2 0 rfl rfl)
theorem dX10_writeParts_48 : decode cX10_writeParts 48 = .ok (.aload_n 0, 1) := dk_42 (dk_at dksX10_writeParts_2 3 rfl rfl)
theorem dX10_writeParts_49 : decode cX10_writeParts 49 = .ok (.iload_n 3, 1) := dk_29 (dk_at dksX10_writeParts_2 4 rfl rfl)
theorem dX10_writeParts_50 : decode cX10_writeParts 50 = .ok (.invokevirtual 361, 3) := dk_182 1 105 (dk_at dksX10_writeParts_2 5 rfl rfl)
theorem dX10_writeParts_53 : decode cX10_writeParts 53 = .ok (.aload_n 0, 1) := dk_42 (dk_at dksX10_writeParts_2 8 rfl rfl)
theorem dX10_writeParts_54 : decode cX10_writeParts 54 = .ok (.ldc_w 370, 3) := dk_19 1 114 (dk_at dksX10_writeParts_2 9 rfl rfl)
theorem dX10_writeParts_57 : decode cX10_writeParts 57 = .ok (.invokevirtual 372, 3) := dk_182 1 116 (dk_at dksX10_writeParts_2 12 rfl rfl)
theorem dX10_writeParts_60 : decode cX10_writeParts 60 = .ok (.aload_n 0, 1) := dk_42 (dk_at dksX10_writeParts_2 15 rfl rfl)
theorem dX10_writeParts_61 : decode cX10_writeParts 61 = .ok (.aload_n 0, 1) := dk_42 (dk_at dksX10_writeParts_2 16 rfl rfl)
theorem dX10_writeParts_62 : decode cX10_writeParts 62 = .ok (.iload_n 1, 1) := dk_27 (dk_at dksX10_writeParts_2 17 rfl rfl)
theorem dX10_writeParts_63 : decode cX10_writeParts 63 = .ok (.iload_n 3, 1) := dk_29 (dk_at dksX10_writeParts_2 18 rfl rfl)
theorem dX10_writeParts_64 : decode cX10_writeParts 64 = .ok (.iconst 0, 1) := dk_3 (dk_at dksX10_writeParts_2 19 rfl rfl)
theorem dX10_writeParts_65 : decode cX10_writeParts 65 = .ok (.invokevirtual 336, 3) := dk_182 1 80 (dk_at dksX10_writeParts_2 20 rfl rfl)
theorem dX10_writeParts_68 : decode cX10_writeParts 68 = .ok (.invokevirtual 361, 3) := dk_182 1 105 (dk_at dksX10_writeParts_3 0 rfl rfl)
theorem dX10_writeParts_71 : decode cX10_writeParts 71 = .ok (.aload_n 0, 1) := dk_42 (dk_at dksX10_writeParts_3 3 rfl rfl)
theorem dX10_writeParts_72 : decode cX10_writeParts 72 = .ok (.bipush 47, 2) := dk_16 47 (dk_at dksX10_writeParts_3 4 rfl rfl)
theorem dX10_writeParts_74 : decode cX10_writeParts 74 = .ok (.invokevirtual 364, 3) := dk_182 1 108 (dk_at dksX10_writeParts_3 6 rfl rfl)
theorem dX10_writeParts_77 : decode cX10_writeParts 77 = .ok (.aload_n 0, 1) := dk_42 (dk_at dksX10_writeParts_3 9 rfl rfl)
theorem dX10_writeParts_78 : decode cX10_writeParts 78 = .ok (.aload_n 0, 1) := dk_42 (dk_at dksX10_writeParts_3 10 rfl rfl)
theorem dX10_writeParts_79 : decode cX10_writeParts 79 = .ok (.iload_n 1, 1) := dk_27 (dk_at dksX10_writeParts_3 11 rfl rfl)
theorem dX10_writeParts_80 : decode cX10_writeParts 80 = .ok (.iload_n 3, 1) := dk_29 (dk_at dksX10_writeParts_3 12 rfl rfl)
theorem dX10_writeParts_81 : decode cX10_writeParts 81 = .ok (.iconst 1, 1) := dk_4 (dk_at dksX10_writeParts_3 13 rfl rfl)
theorem dX10_writeParts_82 : decode cX10_writeParts 82 = .ok (.invokevirtual 336, 3) := dk_182 1 80 (dk_at dksX10_writeParts_3 14 rfl rfl)
theorem dX10_writeParts_85 : decode cX10_writeParts 85 = .ok (.invokevirtual 361, 3) := dk_182 1 105 (dk_at dksX10_writeParts_3 17 rfl rfl)
theorem dX10_writeParts_88 : decode cX10_writeParts 88 = .ok (.iinc 3 1, 3) := dk_132 3 1 (dk_at dksX10_writeParts_3 20 rfl rfl)
theorem dX10_writeParts_91 : decode cX10_writeParts 91 = .ok (.goto (-87), 3) := dk_167 255 169 (dk_at dksX10_writeParts_4 0 rfl rfl)
theorem dX10_writeParts_94 : decode cX10_writeParts 94 = .ok (.iload_n 2, 1) := dk_28 (dk_at dksX10_writeParts_4 3 rfl rfl)
theorem dX10_writeParts_95 : decode cX10_writeParts 95 = .ok (.ifCond .ne 9, 3) := dk_154 0 9 (dk_at dksX10_writeParts_4 4 rfl rfl)
theorem dX10_writeParts_98 : decode cX10_writeParts 98 = .ok (.aload_n 0, 1) := dk_42 (dk_at dksX10_writeParts_4 7 rfl rfl)
theorem dX10_writeParts_99 : decode cX10_writeParts 99 = .ok (.ldc 219, 2) := dk_18 219 (dk_at dksX10_writeParts_4 8 rfl rfl)
theorem dX10_writeParts_101 : decode cX10_writeParts 101 = .ok (.invokevirtual 372, 3) := dk_182 1 116 (dk_at dksX10_writeParts_4 10 rfl rfl)
theorem dX10_writeParts_104 : decode cX10_writeParts 104 = .ok (.return_, 1) := dk_177 (dk_at dksX10_writeParts_4 13 rfl rfl)
abbrev cX10_writeVerdicts : ByteArray := prog_17_method_111_code
def yX10_writeVerdicts : MethodName := ⟨RX10, "writeVerdicts", "()I"⟩
def dkwX10_writeVerdicts_3 : List UInt8 := [167, 0, 5, 16, 63, 182, 1, 108, 132, 2, 1, 167, 255, 198, 42, 180, 1, 31, 172]
abbrev dktX10_writeVerdicts_3 : List UInt8 := dkwX10_writeVerdicts_3 ++ []
def dkwX10_writeVerdicts_2 : List UInt8 := [180, 0, 38, 28, 46, 182, 1, 46, 16, 10, 112, 96, 167, 0, 15, 29, 6, 160, 0, 8, 16, 33]
abbrev dktX10_writeVerdicts_2 : List UInt8 := dkwX10_writeVerdicts_2 ++ dktX10_writeVerdicts_3
def dkwX10_writeVerdicts_1 : List UInt8 := [162, 0, 59, 42, 42, 180, 0, 38, 28, 46, 182, 0, 95, 62, 42, 29, 154, 0, 22, 16, 48, 42, 42]
abbrev dktX10_writeVerdicts_1 : List UInt8 := dkwX10_writeVerdicts_1 ++ dktX10_writeVerdicts_2
def dkwX10_writeVerdicts_0 : List UInt8 := [42, 3, 181, 0, 45, 42, 182, 1, 34, 42, 3, 181, 1, 31, 42, 182, 0, 61, 60, 3, 61, 28, 27]
abbrev dktX10_writeVerdicts_0 : List UInt8 := dkwX10_writeVerdicts_0 ++ dktX10_writeVerdicts_1
theorem dksX10_writeVerdicts_0 : cX10_writeVerdicts.data.toList.drop 0 = dktX10_writeVerdicts_0 := by decide +kernel
theorem dksX10_writeVerdicts_1 : cX10_writeVerdicts.data.toList.drop 23 = dktX10_writeVerdicts_1 := dk_seg dksX10_writeVerdicts_0 23 rfl rfl
theorem dksX10_writeVerdicts_2 : cX10_writeVerdicts.data.toList.drop 46 = dktX10_writeVerdicts_2 := dk_seg dksX10_writeVerdicts_1 23 rfl rfl
theorem dksX10_writeVerdicts_3 : cX10_writeVerdicts.data.toList.drop 68 = dktX10_writeVerdicts_3 := dk_seg dksX10_writeVerdicts_2 22 rfl rfl
theorem dX10_writeVerdicts_0 : decode cX10_writeVerdicts 0 = .ok (.aload_n 0, 1) := dk_42 (dk_at dksX10_writeVerdicts_0 0 rfl rfl)
theorem dX10_writeVerdicts_1 : decode cX10_writeVerdicts 1 = .ok (.iconst 0, 1) := dk_3 (dk_at dksX10_writeVerdicts_0 1 rfl rfl)
theorem dX10_writeVerdicts_2 : decode cX10_writeVerdicts 2 = .ok (.putfield 45, 3) := dk_181 0 45 (dk_at dksX10_writeVerdicts_0 2 rfl rfl)
theorem dX10_writeVerdicts_5 : decode cX10_writeVerdicts 5 = .ok (.aload_n 0, 1) := dk_42 (dk_at dksX10_writeVerdicts_0 5 rfl rfl)
theorem dX10_writeVerdicts_6 : decode cX10_writeVerdicts 6 = .ok (.invokevirtual 290, 3) := dk_182 1 34 (dk_at dksX10_writeVerdicts_0 6 rfl rfl)
theorem dX10_writeVerdicts_9 : decode cX10_writeVerdicts 9 = .ok (.aload_n 0, 1) := dk_42 (dk_at dksX10_writeVerdicts_0 9 rfl rfl)
theorem dX10_writeVerdicts_10 : decode cX10_writeVerdicts 10 = .ok (.iconst 0, 1) := dk_3 (dk_at dksX10_writeVerdicts_0 10 rfl rfl)
theorem dX10_writeVerdicts_11 : decode cX10_writeVerdicts 11 = .ok (.putfield 287, 3) := dk_181 1 31 (dk_at dksX10_writeVerdicts_0 11 rfl rfl)
theorem dX10_writeVerdicts_14 : decode cX10_writeVerdicts 14 = .ok (.aload_n 0, 1) := dk_42 (dk_at dksX10_writeVerdicts_0 14 rfl rfl)
theorem dX10_writeVerdicts_15 : decode cX10_writeVerdicts 15 = .ok (.invokevirtual 61, 3) := dk_182 0 61 (dk_at dksX10_writeVerdicts_0 15 rfl rfl)
theorem dX10_writeVerdicts_18 : decode cX10_writeVerdicts 18 = .ok (.istore_n 1, 1) := dk_60 (dk_at dksX10_writeVerdicts_0 18 rfl rfl)
theorem dX10_writeVerdicts_19 : decode cX10_writeVerdicts 19 = .ok (.iconst 0, 1) := dk_3 (dk_at dksX10_writeVerdicts_0 19 rfl rfl)
theorem dX10_writeVerdicts_20 : decode cX10_writeVerdicts 20 = .ok (.istore_n 2, 1) := dk_61 (dk_at dksX10_writeVerdicts_0 20 rfl rfl)
theorem dX10_writeVerdicts_21 : decode cX10_writeVerdicts 21 = .ok (.iload_n 2, 1) := dk_28 (dk_at dksX10_writeVerdicts_0 21 rfl rfl)
theorem dX10_writeVerdicts_22 : decode cX10_writeVerdicts 22 = .ok (.iload_n 1, 1) := dk_27 (dk_at dksX10_writeVerdicts_0 22 rfl rfl)
theorem dX10_writeVerdicts_23 : decode cX10_writeVerdicts 23 = .ok (.if_icmp .ge 59, 3) := dk_162 0 59 (dk_at dksX10_writeVerdicts_1 0 rfl rfl)
theorem dX10_writeVerdicts_26 : decode cX10_writeVerdicts 26 = .ok (.aload_n 0, 1) := dk_42 (dk_at dksX10_writeVerdicts_1 3 rfl rfl)
theorem dX10_writeVerdicts_27 : decode cX10_writeVerdicts 27 = .ok (.aload_n 0, 1) := dk_42 (dk_at dksX10_writeVerdicts_1 4 rfl rfl)
theorem dX10_writeVerdicts_28 : decode cX10_writeVerdicts 28 = .ok (.getfield 38, 3) := dk_180 0 38 (dk_at dksX10_writeVerdicts_1 5 rfl rfl)
theorem dX10_writeVerdicts_31 : decode cX10_writeVerdicts 31 = .ok (.iload_n 2, 1) := dk_28 (dk_at dksX10_writeVerdicts_1 8 rfl rfl)
theorem dX10_writeVerdicts_32 : decode cX10_writeVerdicts 32 = .ok (.iaload, 1) := dk_46 (dk_at dksX10_writeVerdicts_1 9 rfl rfl)
theorem dX10_writeVerdicts_33 : decode cX10_writeVerdicts 33 = .ok (.invokevirtual 95, 3) := dk_182 0 95 (dk_at dksX10_writeVerdicts_1 10 rfl rfl)
theorem dX10_writeVerdicts_36 : decode cX10_writeVerdicts 36 = .ok (.istore_n 3, 1) := dk_62 (dk_at dksX10_writeVerdicts_1 13 rfl rfl)
theorem dX10_writeVerdicts_37 : decode cX10_writeVerdicts 37 = .ok (.aload_n 0, 1) := dk_42 (dk_at dksX10_writeVerdicts_1 14 rfl rfl)
theorem dX10_writeVerdicts_38 : decode cX10_writeVerdicts 38 = .ok (.iload_n 3, 1) := dk_29 (dk_at dksX10_writeVerdicts_1 15 rfl rfl)
theorem dX10_writeVerdicts_39 : decode cX10_writeVerdicts 39 = .ok (.ifCond .ne 22, 3) := dk_154 0 22 (dk_at dksX10_writeVerdicts_1 16 rfl rfl)
theorem dX10_writeVerdicts_42 : decode cX10_writeVerdicts 42 = .ok (.bipush 48, 2) := dk_16 48 (dk_at dksX10_writeVerdicts_1 19 rfl rfl)
theorem dX10_writeVerdicts_44 : decode cX10_writeVerdicts 44 = .ok (.aload_n 0, 1) := dk_42 (dk_at dksX10_writeVerdicts_1 21 rfl rfl)
theorem dX10_writeVerdicts_45 : decode cX10_writeVerdicts 45 = .ok (.aload_n 0, 1) := dk_42 (dk_at dksX10_writeVerdicts_1 22 rfl rfl)
theorem dX10_writeVerdicts_46 : decode cX10_writeVerdicts 46 = .ok (.getfield 38, 3) := dk_180 0 38 (dk_at dksX10_writeVerdicts_2 0 rfl rfl)
theorem dX10_writeVerdicts_49 : decode cX10_writeVerdicts 49 = .ok (.iload_n 2, 1) := dk_28 (dk_at dksX10_writeVerdicts_2 3 rfl rfl)
theorem dX10_writeVerdicts_50 : decode cX10_writeVerdicts 50 = .ok (.iaload, 1) := dk_46 (dk_at dksX10_writeVerdicts_2 4 rfl rfl)
theorem dX10_writeVerdicts_51 : decode cX10_writeVerdicts 51 = .ok (.invokevirtual 302, 3) := dk_182 1 46 (dk_at dksX10_writeVerdicts_2 5 rfl rfl)
theorem dX10_writeVerdicts_54 : decode cX10_writeVerdicts 54 = .ok (.bipush 10, 2) := dk_16 10 (dk_at dksX10_writeVerdicts_2 8 rfl rfl)
theorem dX10_writeVerdicts_56 : decode cX10_writeVerdicts 56 = .ok (.irem, 1) := dk_112 (dk_at dksX10_writeVerdicts_2 10 rfl rfl)
theorem dX10_writeVerdicts_57 : decode cX10_writeVerdicts 57 = .ok (.iadd, 1) := dk_96 (dk_at dksX10_writeVerdicts_2 11 rfl rfl)
theorem dX10_writeVerdicts_58 : decode cX10_writeVerdicts 58 = .ok (.goto 15, 3) := dk_167 0 15 (dk_at dksX10_writeVerdicts_2 12 rfl rfl)
theorem dX10_writeVerdicts_61 : decode cX10_writeVerdicts 61 = .ok (.iload_n 3, 1) := dk_29 (dk_at dksX10_writeVerdicts_2 15 rfl rfl)
theorem dX10_writeVerdicts_62 : decode cX10_writeVerdicts 62 = .ok (.iconst 3, 1) := dk_6 (dk_at dksX10_writeVerdicts_2 16 rfl rfl)
theorem dX10_writeVerdicts_63 : decode cX10_writeVerdicts 63 = .ok (.if_icmp .ne 8, 3) := dk_160 0 8 (dk_at dksX10_writeVerdicts_2 17 rfl rfl)
theorem dX10_writeVerdicts_66 : decode cX10_writeVerdicts 66 = .ok (.bipush 33, 2) := dk_16 33 (dk_at dksX10_writeVerdicts_2 20 rfl rfl)
theorem dX10_writeVerdicts_68 : decode cX10_writeVerdicts 68 = .ok (.goto 5, 3) := dk_167 0 5 (dk_at dksX10_writeVerdicts_3 0 rfl rfl)
theorem dX10_writeVerdicts_71 : decode cX10_writeVerdicts 71 = .ok (.bipush 63, 2) := dk_16 63 (dk_at dksX10_writeVerdicts_3 3 rfl rfl)
theorem dX10_writeVerdicts_73 : decode cX10_writeVerdicts 73 = .ok (.invokevirtual 364, 3) := dk_182 1 108 (dk_at dksX10_writeVerdicts_3 5 rfl rfl)
theorem dX10_writeVerdicts_76 : decode cX10_writeVerdicts 76 = .ok (.iinc 2 1, 3) := dk_132 2 1 (dk_at dksX10_writeVerdicts_3 8 rfl rfl)
theorem dX10_writeVerdicts_79 : decode cX10_writeVerdicts 79 = .ok (.goto (-58), 3) := dk_167 255 198 (dk_at dksX10_writeVerdicts_3 11 rfl rfl)
theorem dX10_writeVerdicts_82 : decode cX10_writeVerdicts 82 = .ok (.aload_n 0, 1) := dk_42 (dk_at dksX10_writeVerdicts_3 14 rfl rfl)
theorem dX10_writeVerdicts_83 : decode cX10_writeVerdicts 83 = .ok (.getfield 287, 3) := dk_180 1 31 (dk_at dksX10_writeVerdicts_3 15 rfl rfl)
theorem dX10_writeVerdicts_86 : decode cX10_writeVerdicts 86 = .ok (.ireturn, 1) := dk_172 (dk_at dksX10_writeVerdicts_3 18 rfl rfl)
abbrev cX10_reportAt : ByteArray := prog_17_method_112_code
def yX10_reportAt : MethodName := ⟨RX10, "reportAt", "(I)C"⟩
def dkwX10_reportAt_1 : List UInt8 := [52, 167, 0, 4, 3, 172]
abbrev dktX10_reportAt_1 : List UInt8 := dkwX10_reportAt_1 ++ []
def dkwX10_reportAt_0 : List UInt8 := [42, 3, 181, 0, 45, 27, 3, 42, 180, 1, 31, 4, 100, 184, 0, 53, 153, 0, 12, 42, 180, 0, 31, 27]
abbrev dktX10_reportAt_0 : List UInt8 := dkwX10_reportAt_0 ++ dktX10_reportAt_1
theorem dksX10_reportAt_0 : cX10_reportAt.data.toList.drop 0 = dktX10_reportAt_0 := by decide +kernel
theorem dksX10_reportAt_1 : cX10_reportAt.data.toList.drop 24 = dktX10_reportAt_1 := dk_seg dksX10_reportAt_0 24 rfl rfl
theorem dX10_reportAt_0 : decode cX10_reportAt 0 = .ok (.aload_n 0, 1) := dk_42 (dk_at dksX10_reportAt_0 0 rfl rfl)
theorem dX10_reportAt_1 : decode cX10_reportAt 1 = .ok (.iconst 0, 1) := dk_3 (dk_at dksX10_reportAt_0 1 rfl rfl)
theorem dX10_reportAt_2 : decode cX10_reportAt 2 = .ok (.putfield 45, 3) := dk_181 0 45 (dk_at dksX10_reportAt_0 2 rfl rfl)
theorem dX10_reportAt_5 : decode cX10_reportAt 5 = .ok (.iload_n 1, 1) := dk_27 (dk_at dksX10_reportAt_0 5 rfl rfl)
theorem dX10_reportAt_6 : decode cX10_reportAt 6 = .ok (.iconst 0, 1) := dk_3 (dk_at dksX10_reportAt_0 6 rfl rfl)
theorem dX10_reportAt_7 : decode cX10_reportAt 7 = .ok (.aload_n 0, 1) := dk_42 (dk_at dksX10_reportAt_0 7 rfl rfl)
theorem dX10_reportAt_8 : decode cX10_reportAt 8 = .ok (.getfield 287, 3) := dk_180 1 31 (dk_at dksX10_reportAt_0 8 rfl rfl)
theorem dX10_reportAt_11 : decode cX10_reportAt 11 = .ok (.iconst 1, 1) := dk_4 (dk_at dksX10_reportAt_0 11 rfl rfl)
theorem dX10_reportAt_12 : decode cX10_reportAt 12 = .ok (.isub, 1) := dk_100 (dk_at dksX10_reportAt_0 12 rfl rfl)
theorem dX10_reportAt_13 : decode cX10_reportAt 13 = .ok (.invokestatic 53, 3) := dk_184 0 53 (dk_at dksX10_reportAt_0 13 rfl rfl)
theorem dX10_reportAt_16 : decode cX10_reportAt 16 = .ok (.ifCond .eq 12, 3) := dk_153 0 12 (dk_at dksX10_reportAt_0 16 rfl rfl)
theorem dX10_reportAt_19 : decode cX10_reportAt 19 = .ok (.aload_n 0, 1) := dk_42 (dk_at dksX10_reportAt_0 19 rfl rfl)
theorem dX10_reportAt_20 : decode cX10_reportAt 20 = .ok (.getfield 31, 3) := dk_180 0 31 (dk_at dksX10_reportAt_0 20 rfl rfl)
theorem dX10_reportAt_23 : decode cX10_reportAt 23 = .ok (.iload_n 1, 1) := dk_27 (dk_at dksX10_reportAt_0 23 rfl rfl)
theorem dX10_reportAt_24 : decode cX10_reportAt 24 = .ok (.caload, 1) := dk_52 (dk_at dksX10_reportAt_1 0 rfl rfl)
theorem dX10_reportAt_25 : decode cX10_reportAt 25 = .ok (.goto 4, 3) := dk_167 0 4 (dk_at dksX10_reportAt_1 1 rfl rfl)
theorem dX10_reportAt_28 : decode cX10_reportAt 28 = .ok (.iconst 0, 1) := dk_3 (dk_at dksX10_reportAt_1 4 rfl rfl)
theorem dX10_reportAt_29 : decode cX10_reportAt 29 = .ok (.ireturn, 1) := dk_172 (dk_at dksX10_reportAt_1 5 rfl rfl)
abbrev cX10_addRule : ByteArray := prog_17_method_115_code
def yX10_addRule : MethodName := ⟨RX10, "addRule", "(I)I"⟩
def dkwX10_addRule_6 : List UInt8 := [100, 172]
abbrev dktX10_addRule_6 : List UInt8 := dkwX10_addRule_6 ++ []
def dkwX10_addRule_5 : List UInt8 := [172, 42, 180, 0, 7, 16, 17, 92, 46, 4, 96, 79, 42, 182, 1, 142, 42, 180, 0, 7, 16, 17, 46, 4]
abbrev dktX10_addRule_5 : List UInt8 := dkwX10_addRule_5 ++ dktX10_addRule_6
def dkwX10_addRule_4 : List UInt8 := [180, 0, 7, 28, 42, 180, 0, 13, 28, 46, 79, 132, 2, 1, 167, 255, 234, 16, 254, 42, 180, 0, 153, 100]
abbrev dktX10_addRule_4 : List UInt8 := dkwX10_addRule_4 ++ dktX10_addRule_5
def dkwX10_addRule_3 : List UInt8 := [42, 180, 0, 144, 153, 0, 44, 42, 4, 182, 0, 160, 87, 3, 61, 28, 17, 1, 102, 162, 0, 21, 42]
abbrev dktX10_addRule_3 : List UInt8 := dkwX10_addRule_3 ++ dktX10_addRule_4
def dkwX10_addRule_2 : List UInt8 := [182, 1, 139, 42, 3, 181, 0, 153, 42, 3, 181, 0, 138, 42, 182, 0, 164, 42, 182, 0, 243, 153, 0, 10]
abbrev dktX10_addRule_2 : List UInt8 := dkwX10_addRule_2 ++ dktX10_addRule_3
def dkwX10_addRule_1 : List UInt8 := [3, 172, 42, 27, 182, 1, 28, 42, 180, 0, 7, 16, 17, 46, 16, 10, 160, 0, 6, 16, 250, 172, 42]
abbrev dktX10_addRule_1 : List UInt8 := dkwX10_addRule_1 ++ dktX10_addRule_2
def dkwX10_addRule_0 : List UInt8 := [42, 27, 3, 42, 180, 1, 18, 184, 0, 53, 154, 0, 7, 4, 167, 0, 4, 3, 182, 1, 24, 153, 0, 5]
abbrev dktX10_addRule_0 : List UInt8 := dkwX10_addRule_0 ++ dktX10_addRule_1
theorem dksX10_addRule_0 : cX10_addRule.data.toList.drop 0 = dktX10_addRule_0 := by decide +kernel
theorem dksX10_addRule_1 : cX10_addRule.data.toList.drop 24 = dktX10_addRule_1 := dk_seg dksX10_addRule_0 24 rfl rfl
theorem dksX10_addRule_2 : cX10_addRule.data.toList.drop 47 = dktX10_addRule_2 := dk_seg dksX10_addRule_1 23 rfl rfl
theorem dksX10_addRule_3 : cX10_addRule.data.toList.drop 71 = dktX10_addRule_3 := dk_seg dksX10_addRule_2 24 rfl rfl
theorem dksX10_addRule_4 : cX10_addRule.data.toList.drop 94 = dktX10_addRule_4 := dk_seg dksX10_addRule_3 23 rfl rfl
theorem dksX10_addRule_5 : cX10_addRule.data.toList.drop 118 = dktX10_addRule_5 := dk_seg dksX10_addRule_4 24 rfl rfl
theorem dksX10_addRule_6 : cX10_addRule.data.toList.drop 142 = dktX10_addRule_6 := dk_seg dksX10_addRule_5 24 rfl rfl
theorem dX10_addRule_0 : decode cX10_addRule 0 = .ok (.aload_n 0, 1) := dk_42 (dk_at dksX10_addRule_0 0 rfl rfl)
theorem dX10_addRule_1 : decode cX10_addRule 1 = .ok (.iload_n 1, 1) := dk_27 (dk_at dksX10_addRule_0 1 rfl rfl)
theorem dX10_addRule_2 : decode cX10_addRule 2 = .ok (.iconst 0, 1) := dk_3 (dk_at dksX10_addRule_0 2 rfl rfl)
theorem dX10_addRule_3 : decode cX10_addRule 3 = .ok (.aload_n 0, 1) := dk_42 (dk_at dksX10_addRule_0 3 rfl rfl)
theorem dX10_addRule_4 : decode cX10_addRule 4 = .ok (.getfield 274, 3) := dk_180 1 18 (dk_at dksX10_addRule_0 4 rfl rfl)
theorem dX10_addRule_7 : decode cX10_addRule 7 = .ok (.invokestatic 53, 3) := dk_184 0 53 (dk_at dksX10_addRule_0 7 rfl rfl)
theorem dX10_addRule_10 : decode cX10_addRule 10 = .ok (.ifCond .ne 7, 3) := dk_154 0 7 (dk_at dksX10_addRule_0 10 rfl rfl)
theorem dX10_addRule_13 : decode cX10_addRule 13 = .ok (.iconst 1, 1) := dk_4 (dk_at dksX10_addRule_0 13 rfl rfl)
theorem dX10_addRule_14 : decode cX10_addRule 14 = .ok (.goto 4, 3) := dk_167 0 4 (dk_at dksX10_addRule_0 14 rfl rfl)
theorem dX10_addRule_17 : decode cX10_addRule 17 = .ok (.iconst 0, 1) := dk_3 (dk_at dksX10_addRule_0 17 rfl rfl)
theorem dX10_addRule_18 : decode cX10_addRule 18 = .ok (.invokevirtual 280, 3) := dk_182 1 24 (dk_at dksX10_addRule_0 18 rfl rfl)
theorem dX10_addRule_21 : decode cX10_addRule 21 = .ok (.ifCond .eq 5, 3) := dk_153 0 5 (dk_at dksX10_addRule_0 21 rfl rfl)
theorem dX10_addRule_24 : decode cX10_addRule 24 = .ok (.iconst 0, 1) := dk_3 (dk_at dksX10_addRule_1 0 rfl rfl)
theorem dX10_addRule_25 : decode cX10_addRule 25 = .ok (.ireturn, 1) := dk_172 (dk_at dksX10_addRule_1 1 rfl rfl)
theorem dX10_addRule_26 : decode cX10_addRule 26 = .ok (.aload_n 0, 1) := dk_42 (dk_at dksX10_addRule_1 2 rfl rfl)
theorem dX10_addRule_27 : decode cX10_addRule 27 = .ok (.iload_n 1, 1) := dk_27 (dk_at dksX10_addRule_1 3 rfl rfl)
theorem dX10_addRule_28 : decode cX10_addRule 28 = .ok (.invokevirtual 284, 3) := dk_182 1 28 (dk_at dksX10_addRule_1 4 rfl rfl)
theorem dX10_addRule_31 : decode cX10_addRule 31 = .ok (.aload_n 0, 1) := dk_42 (dk_at dksX10_addRule_1 7 rfl rfl)
theorem dX10_addRule_32 : decode cX10_addRule 32 = .ok (.getfield 7, 3) := dk_180 0 7 (dk_at dksX10_addRule_1 8 rfl rfl)
theorem dX10_addRule_35 : decode cX10_addRule 35 = .ok (.bipush 17, 2) := dk_16 17 (dk_at dksX10_addRule_1 11 rfl rfl)
theorem dX10_addRule_37 : decode cX10_addRule 37 = .ok (.iaload, 1) := dk_46 (dk_at dksX10_addRule_1 13 rfl rfl)
theorem dX10_addRule_38 : decode cX10_addRule 38 = .ok (.bipush 10, 2) := dk_16 10 (dk_at dksX10_addRule_1 14 rfl rfl)
theorem dX10_addRule_40 : decode cX10_addRule 40 = .ok (.if_icmp .ne 6, 3) := dk_160 0 6 (dk_at dksX10_addRule_1 16 rfl rfl)
theorem dX10_addRule_43 : decode cX10_addRule 43 = .ok (.bipush (-6), 2) := dk_16 250 (dk_at dksX10_addRule_1 19 rfl rfl)
theorem dX10_addRule_45 : decode cX10_addRule 45 = .ok (.ireturn, 1) := dk_172 (dk_at dksX10_addRule_1 21 rfl rfl)
theorem dX10_addRule_46 : decode cX10_addRule 46 = .ok (.aload_n 0, 1) := dk_42 (dk_at dksX10_addRule_1 22 rfl rfl)
theorem dX10_addRule_47 : decode cX10_addRule 47 = .ok (.invokevirtual 395, 3) := dk_182 1 139 (dk_at dksX10_addRule_2 0 rfl rfl)
theorem dX10_addRule_50 : decode cX10_addRule 50 = .ok (.aload_n 0, 1) := dk_42 (dk_at dksX10_addRule_2 3 rfl rfl)
theorem dX10_addRule_51 : decode cX10_addRule 51 = .ok (.iconst 0, 1) := dk_3 (dk_at dksX10_addRule_2 4 rfl rfl)
theorem dX10_addRule_52 : decode cX10_addRule 52 = .ok (.putfield 153, 3) := dk_181 0 153 (dk_at dksX10_addRule_2 5 rfl rfl)
theorem dX10_addRule_55 : decode cX10_addRule 55 = .ok (.aload_n 0, 1) := dk_42 (dk_at dksX10_addRule_2 8 rfl rfl)
theorem dX10_addRule_56 : decode cX10_addRule 56 = .ok (.iconst 0, 1) := dk_3 (dk_at dksX10_addRule_2 9 rfl rfl)
theorem dX10_addRule_57 : decode cX10_addRule 57 = .ok (.putfield 138, 3) := dk_181 0 138 (dk_at dksX10_addRule_2 10 rfl rfl)
theorem dX10_addRule_60 : decode cX10_addRule 60 = .ok (.aload_n 0, 1) := dk_42 (dk_at dksX10_addRule_2 13 rfl rfl)
theorem dX10_addRule_61 : decode cX10_addRule 61 = .ok (.invokevirtual 164, 3) := dk_182 0 164 (dk_at dksX10_addRule_2 14 rfl rfl)
theorem dX10_addRule_64 : decode cX10_addRule 64 = .ok (.aload_n 0, 1) := dk_42 (dk_at dksX10_addRule_2 17 rfl rfl)
theorem dX10_addRule_65 : decode cX10_addRule 65 = .ok (.invokevirtual 243, 3) := dk_182 0 243 (dk_at dksX10_addRule_2 18 rfl rfl)
theorem dX10_addRule_68 : decode cX10_addRule 68 = .ok (.ifCond .eq 10, 3) := dk_153 0 10 (dk_at dksX10_addRule_2 21 rfl rfl)
theorem dX10_addRule_71 : decode cX10_addRule 71 = .ok (.aload_n 0, 1) := dk_42 (dk_at dksX10_addRule_3 0 rfl rfl)
theorem dX10_addRule_72 : decode cX10_addRule 72 = .ok (.getfield 144, 3) := dk_180 0 144 (dk_at dksX10_addRule_3 1 rfl rfl)
theorem dX10_addRule_75 : decode cX10_addRule 75 = .ok (.ifCond .eq 44, 3) := dk_153 0 44 (dk_at dksX10_addRule_3 4 rfl rfl)
theorem dX10_addRule_78 : decode cX10_addRule 78 = .ok (.aload_n 0, 1) := dk_42 (dk_at dksX10_addRule_3 7 rfl rfl)
theorem dX10_addRule_79 : decode cX10_addRule 79 = .ok (.iconst 1, 1) := dk_4 (dk_at dksX10_addRule_3 8 rfl rfl)
theorem dX10_addRule_80 : decode cX10_addRule 80 = .ok (.invokevirtual 160, 3) := dk_182 0 160 (dk_at dksX10_addRule_3 9 rfl rfl)
theorem dX10_addRule_83 : decode cX10_addRule 83 = .ok (.pop, 1) := dk_87 (dk_at dksX10_addRule_3 12 rfl rfl)
theorem dX10_addRule_84 : decode cX10_addRule 84 = .ok (.iconst 0, 1) := dk_3 (dk_at dksX10_addRule_3 13 rfl rfl)
theorem dX10_addRule_85 : decode cX10_addRule 85 = .ok (.istore_n 2, 1) := dk_61 (dk_at dksX10_addRule_3 14 rfl rfl)
theorem dX10_addRule_86 : decode cX10_addRule 86 = .ok (.iload_n 2, 1) := dk_28 (dk_at dksX10_addRule_3 15 rfl rfl)
theorem dX10_addRule_87 : decode cX10_addRule 87 = .ok (.sipush 358, 3) := dk_17 1 102 (dk_at dksX10_addRule_3 16 rfl rfl)
theorem dX10_addRule_90 : decode cX10_addRule 90 = .ok (.if_icmp .ge 21, 3) := dk_162 0 21 (dk_at dksX10_addRule_3 19 rfl rfl)
theorem dX10_addRule_93 : decode cX10_addRule 93 = .ok (.aload_n 0, 1) := dk_42 (dk_at dksX10_addRule_3 22 rfl rfl)
theorem dX10_addRule_94 : decode cX10_addRule 94 = .ok (.getfield 7, 3) := dk_180 0 7 (dk_at dksX10_addRule_4 0 rfl rfl)
theorem dX10_addRule_97 : decode cX10_addRule 97 = .ok (.iload_n 2, 1) := dk_28 (dk_at dksX10_addRule_4 3 rfl rfl)
theorem dX10_addRule_98 : decode cX10_addRule 98 = .ok (.aload_n 0, 1) := dk_42 (dk_at dksX10_addRule_4 4 rfl rfl)
theorem dX10_addRule_99 : decode cX10_addRule 99 = .ok (.getfield 13, 3) := dk_180 0 13 (dk_at dksX10_addRule_4 5 rfl rfl)
theorem dX10_addRule_102 : decode cX10_addRule 102 = .ok (.iload_n 2, 1) := dk_28 (dk_at dksX10_addRule_4 8 rfl rfl)
theorem dX10_addRule_103 : decode cX10_addRule 103 = .ok (.iaload, 1) := dk_46 (dk_at dksX10_addRule_4 9 rfl rfl)
theorem dX10_addRule_104 : decode cX10_addRule 104 = .ok (.iastore, 1) := dk_79 (dk_at dksX10_addRule_4 10 rfl rfl)
theorem dX10_addRule_105 : decode cX10_addRule 105 = .ok (.iinc 2 1, 3) := dk_132 2 1 (dk_at dksX10_addRule_4 11 rfl rfl)
theorem dX10_addRule_108 : decode cX10_addRule 108 = .ok (.goto (-22), 3) := dk_167 255 234 (dk_at dksX10_addRule_4 14 rfl rfl)
theorem dX10_addRule_111 : decode cX10_addRule 111 = .ok (.bipush (-2), 2) := dk_16 254 (dk_at dksX10_addRule_4 17 rfl rfl)
theorem dX10_addRule_113 : decode cX10_addRule 113 = .ok (.aload_n 0, 1) := dk_42 (dk_at dksX10_addRule_4 19 rfl rfl)
theorem dX10_addRule_114 : decode cX10_addRule 114 = .ok (.getfield 153, 3) := dk_180 0 153 (dk_at dksX10_addRule_4 20 rfl rfl)
theorem dX10_addRule_117 : decode cX10_addRule 117 = .ok (.isub, 1) := dk_100 (dk_at dksX10_addRule_4 23 rfl rfl)
theorem dX10_addRule_118 : decode cX10_addRule 118 = .ok (.ireturn, 1) := dk_172 (dk_at dksX10_addRule_5 0 rfl rfl)
theorem dX10_addRule_119 : decode cX10_addRule 119 = .ok (.aload_n 0, 1) := dk_42 (dk_at dksX10_addRule_5 1 rfl rfl)
theorem dX10_addRule_120 : decode cX10_addRule 120 = .ok (.getfield 7, 3) := dk_180 0 7 (dk_at dksX10_addRule_5 2 rfl rfl)
theorem dX10_addRule_123 : decode cX10_addRule 123 = .ok (.bipush 17, 2) := dk_16 17 (dk_at dksX10_addRule_5 5 rfl rfl)
theorem dX10_addRule_125 : decode cX10_addRule 125 = .ok (.dup2, 1) := dk_92 (dk_at dksX10_addRule_5 7 rfl rfl)
theorem dX10_addRule_126 : decode cX10_addRule 126 = .ok (.iaload, 1) := dk_46 (dk_at dksX10_addRule_5 8 rfl rfl)
theorem dX10_addRule_127 : decode cX10_addRule 127 = .ok (.iconst 1, 1) := dk_4 (dk_at dksX10_addRule_5 9 rfl rfl)
theorem dX10_addRule_128 : decode cX10_addRule 128 = .ok (.iadd, 1) := dk_96 (dk_at dksX10_addRule_5 10 rfl rfl)
theorem dX10_addRule_129 : decode cX10_addRule 129 = .ok (.iastore, 1) := dk_79 (dk_at dksX10_addRule_5 11 rfl rfl)
theorem dX10_addRule_130 : decode cX10_addRule 130 = .ok (.aload_n 0, 1) := dk_42 (dk_at dksX10_addRule_5 12 rfl rfl)
theorem dX10_addRule_131 : decode cX10_addRule 131 = .ok (.invokevirtual 398, 3) := dk_182 1 142 (dk_at dksX10_addRule_5 13 rfl rfl)
theorem dX10_addRule_134 : decode cX10_addRule 134 = .ok (.aload_n 0, 1) := dk_42 (dk_at dksX10_addRule_5 16 rfl rfl)
theorem dX10_addRule_135 : decode cX10_addRule 135 = .ok (.getfield 7, 3) := dk_180 0 7 (dk_at dksX10_addRule_5 17 rfl rfl)
theorem dX10_addRule_138 : decode cX10_addRule 138 = .ok (.bipush 17, 2) := dk_16 17 (dk_at dksX10_addRule_5 20 rfl rfl)
theorem dX10_addRule_140 : decode cX10_addRule 140 = .ok (.iaload, 1) := dk_46 (dk_at dksX10_addRule_5 22 rfl rfl)
theorem dX10_addRule_141 : decode cX10_addRule 141 = .ok (.iconst 1, 1) := dk_4 (dk_at dksX10_addRule_5 23 rfl rfl)
theorem dX10_addRule_142 : decode cX10_addRule 142 = .ok (.isub, 1) := dk_100 (dk_at dksX10_addRule_6 0 rfl rfl)
theorem dX10_addRule_143 : decode cX10_addRule 143 = .ok (.ireturn, 1) := dk_172 (dk_at dksX10_addRule_6 1 rfl rfl)
abbrev cX10_begins : ByteArray := prog_17_method_113_code
def yX10_begins : MethodName := ⟨RX10, "begins", "()V"⟩
def dkwX10_begins_1 : List UInt8 := [167, 255, 234, 177]
abbrev dktX10_begins_1 : List UInt8 := dkwX10_begins_1 ++ []
def dkwX10_begins_0 : List UInt8 := [3, 60, 27, 17, 1, 102, 162, 0, 21, 42, 180, 0, 13, 27, 42, 180, 0, 7, 27, 46, 79, 132, 1, 1]
abbrev dktX10_begins_0 : List UInt8 := dkwX10_begins_0 ++ dktX10_begins_1
theorem dksX10_begins_0 : cX10_begins.data.toList.drop 0 = dktX10_begins_0 := by decide +kernel
theorem dksX10_begins_1 : cX10_begins.data.toList.drop 24 = dktX10_begins_1 := dk_seg dksX10_begins_0 24 rfl rfl
theorem dX10_begins_0 : decode cX10_begins 0 = .ok (.iconst 0, 1) := dk_3 (dk_at dksX10_begins_0 0 rfl rfl)
theorem dX10_begins_1 : decode cX10_begins 1 = .ok (.istore_n 1, 1) := dk_60 (dk_at dksX10_begins_0 1 rfl rfl)
theorem dX10_begins_2 : decode cX10_begins 2 = .ok (.iload_n 1, 1) := dk_27 (dk_at dksX10_begins_0 2 rfl rfl)
theorem dX10_begins_3 : decode cX10_begins 3 = .ok (.sipush 358, 3) := dk_17 1 102 (dk_at dksX10_begins_0 3 rfl rfl)
theorem dX10_begins_6 : decode cX10_begins 6 = .ok (.if_icmp .ge 21, 3) := dk_162 0 21 (dk_at dksX10_begins_0 6 rfl rfl)
theorem dX10_begins_9 : decode cX10_begins 9 = .ok (.aload_n 0, 1) := dk_42 (dk_at dksX10_begins_0 9 rfl rfl)
theorem dX10_begins_10 : decode cX10_begins 10 = .ok (.getfield 13, 3) := dk_180 0 13 (dk_at dksX10_begins_0 10 rfl rfl)
theorem dX10_begins_13 : decode cX10_begins 13 = .ok (.iload_n 1, 1) := dk_27 (dk_at dksX10_begins_0 13 rfl rfl)
theorem dX10_begins_14 : decode cX10_begins 14 = .ok (.aload_n 0, 1) := dk_42 (dk_at dksX10_begins_0 14 rfl rfl)
theorem dX10_begins_15 : decode cX10_begins 15 = .ok (.getfield 7, 3) := dk_180 0 7 (dk_at dksX10_begins_0 15 rfl rfl)
theorem dX10_begins_18 : decode cX10_begins 18 = .ok (.iload_n 1, 1) := dk_27 (dk_at dksX10_begins_0 18 rfl rfl)
theorem dX10_begins_19 : decode cX10_begins 19 = .ok (.iaload, 1) := dk_46 (dk_at dksX10_begins_0 19 rfl rfl)
theorem dX10_begins_20 : decode cX10_begins 20 = .ok (.iastore, 1) := dk_79 (dk_at dksX10_begins_0 20 rfl rfl)
theorem dX10_begins_21 : decode cX10_begins 21 = .ok (.iinc 1 1, 3) := dk_132 1 1 (dk_at dksX10_begins_0 21 rfl rfl)
theorem dX10_begins_24 : decode cX10_begins 24 = .ok (.goto (-22), 3) := dk_167 255 234 (dk_at dksX10_begins_1 0 rfl rfl)
theorem dX10_begins_27 : decode cX10_begins 27 = .ok (.return_, 1) := dk_177 (dk_at dksX10_begins_1 3 rfl rfl)
abbrev cX10_remember : ByteArray := prog_17_method_114_code
def yX10_remember : MethodName := ⟨RX10, "remember", "()V"⟩
def dkwX10_remember_4 : List UInt8 := [181, 1, 12, 177]
abbrev dktX10_remember_4 : List UInt8 := dkwX10_remember_4 ++ []
def dkwX10_remember_3 : List UInt8 := [104, 27, 96, 42, 180, 0, 13, 27, 46, 79, 132, 1, 1, 167, 255, 225, 42, 89, 180, 1, 12, 4, 96]
abbrev dktX10_remember_3 : List UInt8 := dkwX10_remember_3 ++ dktX10_remember_4
def dkwX10_remember_2 : List UInt8 := [100, 181, 1, 12, 3, 60, 27, 17, 1, 102, 162, 0, 30, 42, 180, 0, 19, 17, 1, 102, 42, 180, 1, 12]
abbrev dktX10_remember_2 : List UInt8 := dkwX10_remember_2 ++ dktX10_remember_3
def dkwX10_remember_1 : List UInt8 := [27, 17, 1, 102, 100, 42, 180, 0, 19, 27, 46, 79, 132, 1, 1, 167, 255, 230, 42, 89, 180, 1, 12, 4]
abbrev dktX10_remember_1 : List UInt8 := dkwX10_remember_1 ++ dktX10_remember_2
def dkwX10_remember_0 : List UInt8 := [42, 180, 1, 12, 16, 8, 160, 0, 46, 17, 1, 102, 60, 27, 17, 11, 48, 162, 0, 25, 42, 180, 0, 19]
abbrev dktX10_remember_0 : List UInt8 := dkwX10_remember_0 ++ dktX10_remember_1
theorem dksX10_remember_0 : cX10_remember.data.toList.drop 0 = dktX10_remember_0 := by decide +kernel
theorem dksX10_remember_1 : cX10_remember.data.toList.drop 24 = dktX10_remember_1 := dk_seg dksX10_remember_0 24 rfl rfl
theorem dksX10_remember_2 : cX10_remember.data.toList.drop 48 = dktX10_remember_2 := dk_seg dksX10_remember_1 24 rfl rfl
theorem dksX10_remember_3 : cX10_remember.data.toList.drop 72 = dktX10_remember_3 := dk_seg dksX10_remember_2 24 rfl rfl
theorem dksX10_remember_4 : cX10_remember.data.toList.drop 95 = dktX10_remember_4 := dk_seg dksX10_remember_3 23 rfl rfl
theorem dX10_remember_0 : decode cX10_remember 0 = .ok (.aload_n 0, 1) := dk_42 (dk_at dksX10_remember_0 0 rfl rfl)
theorem dX10_remember_1 : decode cX10_remember 1 = .ok (.getfield 268, 3) := dk_180 1 12 (dk_at dksX10_remember_0 1 rfl rfl)
theorem dX10_remember_4 : decode cX10_remember 4 = .ok (.bipush 8, 2) := dk_16 8 (dk_at dksX10_remember_0 4 rfl rfl)
theorem dX10_remember_6 : decode cX10_remember 6 = .ok (.if_icmp .ne 46, 3) := dk_160 0 46 (dk_at dksX10_remember_0 6 rfl rfl)
theorem dX10_remember_9 : decode cX10_remember 9 = .ok (.sipush 358, 3) := dk_17 1 102 (dk_at dksX10_remember_0 9 rfl rfl)
theorem dX10_remember_12 : decode cX10_remember 12 = .ok (.istore_n 1, 1) := dk_60 (dk_at dksX10_remember_0 12 rfl rfl)
theorem dX10_remember_13 : decode cX10_remember 13 = .ok (.iload_n 1, 1) := dk_27 (dk_at dksX10_remember_0 13 rfl rfl)
theorem dX10_remember_14 : decode cX10_remember 14 = .ok (.sipush 2864, 3) := dk_17 11 48 (dk_at dksX10_remember_0 14 rfl rfl)
theorem dX10_remember_17 : decode cX10_remember 17 = .ok (.if_icmp .ge 25, 3) := dk_162 0 25 (dk_at dksX10_remember_0 17 rfl rfl)
theorem dX10_remember_20 : decode cX10_remember 20 = .ok (.aload_n 0, 1) := dk_42 (dk_at dksX10_remember_0 20 rfl rfl)
theorem dX10_remember_21 : decode cX10_remember 21 = .ok (.getfield 19, 3) := dk_180 0 19 (dk_at dksX10_remember_0 21 rfl rfl)
theorem dX10_remember_24 : decode cX10_remember 24 = .ok (.iload_n 1, 1) := dk_27 (dk_at dksX10_remember_1 0 rfl rfl)
theorem dX10_remember_25 : decode cX10_remember 25 = .ok (.sipush 358, 3) := dk_17 1 102 (dk_at dksX10_remember_1 1 rfl rfl)
theorem dX10_remember_28 : decode cX10_remember 28 = .ok (.isub, 1) := dk_100 (dk_at dksX10_remember_1 4 rfl rfl)
theorem dX10_remember_29 : decode cX10_remember 29 = .ok (.aload_n 0, 1) := dk_42 (dk_at dksX10_remember_1 5 rfl rfl)
theorem dX10_remember_30 : decode cX10_remember 30 = .ok (.getfield 19, 3) := dk_180 0 19 (dk_at dksX10_remember_1 6 rfl rfl)
theorem dX10_remember_33 : decode cX10_remember 33 = .ok (.iload_n 1, 1) := dk_27 (dk_at dksX10_remember_1 9 rfl rfl)
theorem dX10_remember_34 : decode cX10_remember 34 = .ok (.iaload, 1) := dk_46 (dk_at dksX10_remember_1 10 rfl rfl)
theorem dX10_remember_35 : decode cX10_remember 35 = .ok (.iastore, 1) := dk_79 (dk_at dksX10_remember_1 11 rfl rfl)
theorem dX10_remember_36 : decode cX10_remember 36 = .ok (.iinc 1 1, 3) := dk_132 1 1 (dk_at dksX10_remember_1 12 rfl rfl)
theorem dX10_remember_39 : decode cX10_remember 39 = .ok (.goto (-26), 3) := dk_167 255 230 (dk_at dksX10_remember_1 15 rfl rfl)
theorem dX10_remember_42 : decode cX10_remember 42 = .ok (.aload_n 0, 1) := dk_42 (dk_at dksX10_remember_1 18 rfl rfl)
theorem dX10_remember_43 : decode cX10_remember 43 = .ok (.dup, 1) := dk_89 (dk_at dksX10_remember_1 19 rfl rfl)
theorem dX10_remember_44 : decode cX10_remember 44 = .ok (.getfield 268, 3) := dk_180 1 12 (dk_at dksX10_remember_1 20 rfl rfl)
theorem dX10_remember_47 : decode cX10_remember 47 = .ok (.iconst 1, 1) := dk_4 (dk_at dksX10_remember_1 23 rfl rfl)
theorem dX10_remember_48 : decode cX10_remember 48 = .ok (.isub, 1) := dk_100 (dk_at dksX10_remember_2 0 rfl rfl)
theorem dX10_remember_49 : decode cX10_remember 49 = .ok (.putfield 268, 3) := dk_181 1 12 (dk_at dksX10_remember_2 1 rfl rfl)
theorem dX10_remember_52 : decode cX10_remember 52 = .ok (.iconst 0, 1) := dk_3 (dk_at dksX10_remember_2 4 rfl rfl)
theorem dX10_remember_53 : decode cX10_remember 53 = .ok (.istore_n 1, 1) := dk_60 (dk_at dksX10_remember_2 5 rfl rfl)
theorem dX10_remember_54 : decode cX10_remember 54 = .ok (.iload_n 1, 1) := dk_27 (dk_at dksX10_remember_2 6 rfl rfl)
theorem dX10_remember_55 : decode cX10_remember 55 = .ok (.sipush 358, 3) := dk_17 1 102 (dk_at dksX10_remember_2 7 rfl rfl)
theorem dX10_remember_58 : decode cX10_remember 58 = .ok (.if_icmp .ge 30, 3) := dk_162 0 30 (dk_at dksX10_remember_2 10 rfl rfl)
theorem dX10_remember_61 : decode cX10_remember 61 = .ok (.aload_n 0, 1) := dk_42 (dk_at dksX10_remember_2 13 rfl rfl)
theorem dX10_remember_62 : decode cX10_remember 62 = .ok (.getfield 19, 3) := dk_180 0 19 (dk_at dksX10_remember_2 14 rfl rfl)
theorem dX10_remember_65 : decode cX10_remember 65 = .ok (.sipush 358, 3) := dk_17 1 102 (dk_at dksX10_remember_2 17 rfl rfl)
theorem dX10_remember_68 : decode cX10_remember 68 = .ok (.aload_n 0, 1) := dk_42 (dk_at dksX10_remember_2 20 rfl rfl)
theorem dX10_remember_69 : decode cX10_remember 69 = .ok (.getfield 268, 3) := dk_180 1 12 (dk_at dksX10_remember_2 21 rfl rfl)
theorem dX10_remember_72 : decode cX10_remember 72 = .ok (.imul, 1) := dk_104 (dk_at dksX10_remember_3 0 rfl rfl)
theorem dX10_remember_73 : decode cX10_remember 73 = .ok (.iload_n 1, 1) := dk_27 (dk_at dksX10_remember_3 1 rfl rfl)
theorem dX10_remember_74 : decode cX10_remember 74 = .ok (.iadd, 1) := dk_96 (dk_at dksX10_remember_3 2 rfl rfl)
theorem dX10_remember_75 : decode cX10_remember 75 = .ok (.aload_n 0, 1) := dk_42 (dk_at dksX10_remember_3 3 rfl rfl)
theorem dX10_remember_76 : decode cX10_remember 76 = .ok (.getfield 13, 3) := dk_180 0 13 (dk_at dksX10_remember_3 4 rfl rfl)
theorem dX10_remember_79 : decode cX10_remember 79 = .ok (.iload_n 1, 1) := dk_27 (dk_at dksX10_remember_3 7 rfl rfl)
theorem dX10_remember_80 : decode cX10_remember 80 = .ok (.iaload, 1) := dk_46 (dk_at dksX10_remember_3 8 rfl rfl)
theorem dX10_remember_81 : decode cX10_remember 81 = .ok (.iastore, 1) := dk_79 (dk_at dksX10_remember_3 9 rfl rfl)
theorem dX10_remember_82 : decode cX10_remember 82 = .ok (.iinc 1 1, 3) := dk_132 1 1 (dk_at dksX10_remember_3 10 rfl rfl)
theorem dX10_remember_85 : decode cX10_remember 85 = .ok (.goto (-31), 3) := dk_167 255 225 (dk_at dksX10_remember_3 13 rfl rfl)
theorem dX10_remember_88 : decode cX10_remember 88 = .ok (.aload_n 0, 1) := dk_42 (dk_at dksX10_remember_3 16 rfl rfl)
theorem dX10_remember_89 : decode cX10_remember 89 = .ok (.dup, 1) := dk_89 (dk_at dksX10_remember_3 17 rfl rfl)
theorem dX10_remember_90 : decode cX10_remember 90 = .ok (.getfield 268, 3) := dk_180 1 12 (dk_at dksX10_remember_3 18 rfl rfl)
theorem dX10_remember_93 : decode cX10_remember 93 = .ok (.iconst 1, 1) := dk_4 (dk_at dksX10_remember_3 21 rfl rfl)
theorem dX10_remember_94 : decode cX10_remember 94 = .ok (.iadd, 1) := dk_96 (dk_at dksX10_remember_3 22 rfl rfl)
theorem dX10_remember_95 : decode cX10_remember 95 = .ok (.putfield 268, 3) := dk_181 1 12 (dk_at dksX10_remember_4 0 rfl rfl)
theorem dX10_remember_98 : decode cX10_remember 98 = .ok (.return_, 1) := dk_177 (dk_at dksX10_remember_4 3 rfl rfl)
abbrev cX10_dropRule : ByteArray := prog_17_method_117_code
def yX10_dropRule : MethodName := ⟨RX10, "dropRule", "(I)I"⟩
def dkwX10_dropRule_5 : List UInt8 := [184, 1, 145, 79, 132, 2, 1, 167, 255, 219, 42, 182, 1, 142, 42, 180, 0, 7, 16, 17, 46, 172]
abbrev dktX10_dropRule_5 : List UInt8 := dkwX10_dropRule_5 ++ []
def dkwX10_dropRule_4 : List UInt8 := [162, 0, 32, 42, 180, 0, 7, 28, 184, 0, 57, 16, 33, 96, 42, 28, 16, 33, 182, 0, 69, 27]
abbrev dktX10_dropRule_4 : List UInt8 := dkwX10_dropRule_4 ++ dktX10_dropRule_5
def dkwX10_dropRule_3 : List UInt8 := [167, 255, 217, 42, 180, 0, 7, 16, 17, 92, 46, 4, 100, 79, 3, 61, 28, 42, 180, 0, 7, 16, 17, 46]
abbrev dktX10_dropRule_3 : List UInt8 := dkwX10_dropRule_3 ++ dktX10_dropRule_4
def dkwX10_dropRule_2 : List UInt8 := [17, 1, 102, 162, 0, 15, 42, 180, 0, 7, 28, 16, 34, 96, 46, 167, 0, 4, 3, 79, 132, 2, 1]
abbrev dktX10_dropRule_2 : List UInt8 := dkwX10_dropRule_2 ++ dktX10_dropRule_3
def dkwX10_dropRule_1 : List UInt8 := [182, 1, 139, 27, 184, 0, 57, 61, 28, 17, 1, 102, 162, 0, 38, 42, 180, 0, 7, 28, 28, 16, 34, 96]
abbrev dktX10_dropRule_1 : List UInt8 := dkwX10_dropRule_1 ++ dktX10_dropRule_2
def dkwX10_dropRule_0 : List UInt8 := [42, 42, 27, 182, 1, 74, 154, 0, 7, 4, 167, 0, 4, 3, 182, 1, 24, 153, 0, 5, 3, 172, 42]
abbrev dktX10_dropRule_0 : List UInt8 := dkwX10_dropRule_0 ++ dktX10_dropRule_1
theorem dksX10_dropRule_0 : cX10_dropRule.data.toList.drop 0 = dktX10_dropRule_0 := by decide +kernel
theorem dksX10_dropRule_1 : cX10_dropRule.data.toList.drop 23 = dktX10_dropRule_1 := dk_seg dksX10_dropRule_0 23 rfl rfl
theorem dksX10_dropRule_2 : cX10_dropRule.data.toList.drop 47 = dktX10_dropRule_2 := dk_seg dksX10_dropRule_1 24 rfl rfl
theorem dksX10_dropRule_3 : cX10_dropRule.data.toList.drop 70 = dktX10_dropRule_3 := dk_seg dksX10_dropRule_2 23 rfl rfl
theorem dksX10_dropRule_4 : cX10_dropRule.data.toList.drop 94 = dktX10_dropRule_4 := dk_seg dksX10_dropRule_3 24 rfl rfl
theorem dksX10_dropRule_5 : cX10_dropRule.data.toList.drop 116 = dktX10_dropRule_5 := dk_seg dksX10_dropRule_4 22 rfl rfl
theorem dX10_dropRule_0 : decode cX10_dropRule 0 = .ok (.aload_n 0, 1) := dk_42 (dk_at dksX10_dropRule_0 0 rfl rfl)
theorem dX10_dropRule_1 : decode cX10_dropRule 1 = .ok (.aload_n 0, 1) := dk_42 (dk_at dksX10_dropRule_0 1 rfl rfl)
theorem dX10_dropRule_2 : decode cX10_dropRule 2 = .ok (.iload_n 1, 1) := dk_27 (dk_at dksX10_dropRule_0 2 rfl rfl)
theorem dX10_dropRule_3 : decode cX10_dropRule 3 = .ok (.invokevirtual 330, 3) := dk_182 1 74 (dk_at dksX10_dropRule_0 3 rfl rfl)
theorem dX10_dropRule_6 : decode cX10_dropRule 6 = .ok (.ifCond .ne 7, 3) := dk_154 0 7 (dk_at dksX10_dropRule_0 6 rfl rfl)
theorem dX10_dropRule_9 : decode cX10_dropRule 9 = .ok (.iconst 1, 1) := dk_4 (dk_at dksX10_dropRule_0 9 rfl rfl)
theorem dX10_dropRule_10 : decode cX10_dropRule 10 = .ok (.goto 4, 3) := dk_167 0 4 (dk_at dksX10_dropRule_0 10 rfl rfl)
theorem dX10_dropRule_13 : decode cX10_dropRule 13 = .ok (.iconst 0, 1) := dk_3 (dk_at dksX10_dropRule_0 13 rfl rfl)
theorem dX10_dropRule_14 : decode cX10_dropRule 14 = .ok (.invokevirtual 280, 3) := dk_182 1 24 (dk_at dksX10_dropRule_0 14 rfl rfl)
theorem dX10_dropRule_17 : decode cX10_dropRule 17 = .ok (.ifCond .eq 5, 3) := dk_153 0 5 (dk_at dksX10_dropRule_0 17 rfl rfl)
theorem dX10_dropRule_20 : decode cX10_dropRule 20 = .ok (.iconst 0, 1) := dk_3 (dk_at dksX10_dropRule_0 20 rfl rfl)
theorem dX10_dropRule_21 : decode cX10_dropRule 21 = .ok (.ireturn, 1) := dk_172 (dk_at dksX10_dropRule_0 21 rfl rfl)
theorem dX10_dropRule_22 : decode cX10_dropRule 22 = .ok (.aload_n 0, 1) := dk_42 (dk_at dksX10_dropRule_0 22 rfl rfl)
theorem dX10_dropRule_23 : decode cX10_dropRule 23 = .ok (.invokevirtual 395, 3) := dk_182 1 139 (dk_at dksX10_dropRule_1 0 rfl rfl)
theorem dX10_dropRule_26 : decode cX10_dropRule 26 = .ok (.iload_n 1, 1) := dk_27 (dk_at dksX10_dropRule_1 3 rfl rfl)
theorem dX10_dropRule_27 : decode cX10_dropRule 27 = .ok (.invokestatic 57, 3) := dk_184 0 57 (dk_at dksX10_dropRule_1 4 rfl rfl)
theorem dX10_dropRule_30 : decode cX10_dropRule 30 = .ok (.istore_n 2, 1) := dk_61 (dk_at dksX10_dropRule_1 7 rfl rfl)
theorem dX10_dropRule_31 : decode cX10_dropRule 31 = .ok (.iload_n 2, 1) := dk_28 (dk_at dksX10_dropRule_1 8 rfl rfl)
theorem dX10_dropRule_32 : decode cX10_dropRule 32 = .ok (.sipush 358, 3) := dk_17 1 102 (dk_at dksX10_dropRule_1 9 rfl rfl)
theorem dX10_dropRule_35 : decode cX10_dropRule 35 = .ok (.if_icmp .ge 38, 3) := dk_162 0 38 (dk_at dksX10_dropRule_1 12 rfl rfl)
theorem dX10_dropRule_38 : decode cX10_dropRule 38 = .ok (.aload_n 0, 1) := dk_42 (dk_at dksX10_dropRule_1 15 rfl rfl)
theorem dX10_dropRule_39 : decode cX10_dropRule 39 = .ok (.getfield 7, 3) := dk_180 0 7 (dk_at dksX10_dropRule_1 16 rfl rfl)
theorem dX10_dropRule_42 : decode cX10_dropRule 42 = .ok (.iload_n 2, 1) := dk_28 (dk_at dksX10_dropRule_1 19 rfl rfl)
theorem dX10_dropRule_43 : decode cX10_dropRule 43 = .ok (.iload_n 2, 1) := dk_28 (dk_at dksX10_dropRule_1 20 rfl rfl)
theorem dX10_dropRule_44 : decode cX10_dropRule 44 = .ok (.bipush 34, 2) := dk_16 34 (dk_at dksX10_dropRule_1 21 rfl rfl)
theorem dX10_dropRule_46 : decode cX10_dropRule 46 = .ok (.iadd, 1) := dk_96 (dk_at dksX10_dropRule_1 23 rfl rfl)
theorem dX10_dropRule_47 : decode cX10_dropRule 47 = .ok (.sipush 358, 3) := dk_17 1 102 (dk_at dksX10_dropRule_2 0 rfl rfl)
theorem dX10_dropRule_50 : decode cX10_dropRule 50 = .ok (.if_icmp .ge 15, 3) := dk_162 0 15 (dk_at dksX10_dropRule_2 3 rfl rfl)
theorem dX10_dropRule_53 : decode cX10_dropRule 53 = .ok (.aload_n 0, 1) := dk_42 (dk_at dksX10_dropRule_2 6 rfl rfl)
theorem dX10_dropRule_54 : decode cX10_dropRule 54 = .ok (.getfield 7, 3) := dk_180 0 7 (dk_at dksX10_dropRule_2 7 rfl rfl)
theorem dX10_dropRule_57 : decode cX10_dropRule 57 = .ok (.iload_n 2, 1) := dk_28 (dk_at dksX10_dropRule_2 10 rfl rfl)
theorem dX10_dropRule_58 : decode cX10_dropRule 58 = .ok (.bipush 34, 2) := dk_16 34 (dk_at dksX10_dropRule_2 11 rfl rfl)
theorem dX10_dropRule_60 : decode cX10_dropRule 60 = .ok (.iadd, 1) := dk_96 (dk_at dksX10_dropRule_2 13 rfl rfl)
theorem dX10_dropRule_61 : decode cX10_dropRule 61 = .ok (.iaload, 1) := dk_46 (dk_at dksX10_dropRule_2 14 rfl rfl)
theorem dX10_dropRule_62 : decode cX10_dropRule 62 = .ok (.goto 4, 3) := dk_167 0 4 (dk_at dksX10_dropRule_2 15 rfl rfl)
theorem dX10_dropRule_65 : decode cX10_dropRule 65 = .ok (.iconst 0, 1) := dk_3 (dk_at dksX10_dropRule_2 18 rfl rfl)
theorem dX10_dropRule_66 : decode cX10_dropRule 66 = .ok (.iastore, 1) := dk_79 (dk_at dksX10_dropRule_2 19 rfl rfl)
theorem dX10_dropRule_67 : decode cX10_dropRule 67 = .ok (.iinc 2 1, 3) := dk_132 2 1 (dk_at dksX10_dropRule_2 20 rfl rfl)
theorem dX10_dropRule_70 : decode cX10_dropRule 70 = .ok (.goto (-39), 3) := dk_167 255 217 (dk_at dksX10_dropRule_3 0 rfl rfl)
theorem dX10_dropRule_73 : decode cX10_dropRule 73 = .ok (.aload_n 0, 1) := dk_42 (dk_at dksX10_dropRule_3 3 rfl rfl)
theorem dX10_dropRule_74 : decode cX10_dropRule 74 = .ok (.getfield 7, 3) := dk_180 0 7 (dk_at dksX10_dropRule_3 4 rfl rfl)
theorem dX10_dropRule_77 : decode cX10_dropRule 77 = .ok (.bipush 17, 2) := dk_16 17 (dk_at dksX10_dropRule_3 7 rfl rfl)
theorem dX10_dropRule_79 : decode cX10_dropRule 79 = .ok (.dup2, 1) := dk_92 (dk_at dksX10_dropRule_3 9 rfl rfl)
theorem dX10_dropRule_80 : decode cX10_dropRule 80 = .ok (.iaload, 1) := dk_46 (dk_at dksX10_dropRule_3 10 rfl rfl)
theorem dX10_dropRule_81 : decode cX10_dropRule 81 = .ok (.iconst 1, 1) := dk_4 (dk_at dksX10_dropRule_3 11 rfl rfl)
theorem dX10_dropRule_82 : decode cX10_dropRule 82 = .ok (.isub, 1) := dk_100 (dk_at dksX10_dropRule_3 12 rfl rfl)
theorem dX10_dropRule_83 : decode cX10_dropRule 83 = .ok (.iastore, 1) := dk_79 (dk_at dksX10_dropRule_3 13 rfl rfl)
theorem dX10_dropRule_84 : decode cX10_dropRule 84 = .ok (.iconst 0, 1) := dk_3 (dk_at dksX10_dropRule_3 14 rfl rfl)
theorem dX10_dropRule_85 : decode cX10_dropRule 85 = .ok (.istore_n 2, 1) := dk_61 (dk_at dksX10_dropRule_3 15 rfl rfl)
theorem dX10_dropRule_86 : decode cX10_dropRule 86 = .ok (.iload_n 2, 1) := dk_28 (dk_at dksX10_dropRule_3 16 rfl rfl)
theorem dX10_dropRule_87 : decode cX10_dropRule 87 = .ok (.aload_n 0, 1) := dk_42 (dk_at dksX10_dropRule_3 17 rfl rfl)
theorem dX10_dropRule_88 : decode cX10_dropRule 88 = .ok (.getfield 7, 3) := dk_180 0 7 (dk_at dksX10_dropRule_3 18 rfl rfl)
theorem dX10_dropRule_91 : decode cX10_dropRule 91 = .ok (.bipush 17, 2) := dk_16 17 (dk_at dksX10_dropRule_3 21 rfl rfl)
theorem dX10_dropRule_93 : decode cX10_dropRule 93 = .ok (.iaload, 1) := dk_46 (dk_at dksX10_dropRule_3 23 rfl rfl)
theorem dX10_dropRule_94 : decode cX10_dropRule 94 = .ok (.if_icmp .ge 32, 3) := dk_162 0 32 (dk_at dksX10_dropRule_4 0 rfl rfl)
theorem dX10_dropRule_97 : decode cX10_dropRule 97 = .ok (.aload_n 0, 1) := dk_42 (dk_at dksX10_dropRule_4 3 rfl rfl)
theorem dX10_dropRule_98 : decode cX10_dropRule 98 = .ok (.getfield 7, 3) := dk_180 0 7 (dk_at dksX10_dropRule_4 4 rfl rfl)
theorem dX10_dropRule_101 : decode cX10_dropRule 101 = .ok (.iload_n 2, 1) := dk_28 (dk_at dksX10_dropRule_4 7 rfl rfl)
theorem dX10_dropRule_102 : decode cX10_dropRule 102 = .ok (.invokestatic 57, 3) := dk_184 0 57 (dk_at dksX10_dropRule_4 8 rfl rfl)
theorem dX10_dropRule_105 : decode cX10_dropRule 105 = .ok (.bipush 33, 2) := dk_16 33 (dk_at dksX10_dropRule_4 11 rfl rfl)
theorem dX10_dropRule_107 : decode cX10_dropRule 107 = .ok (.iadd, 1) := dk_96 (dk_at dksX10_dropRule_4 13 rfl rfl)
theorem dX10_dropRule_108 : decode cX10_dropRule 108 = .ok (.aload_n 0, 1) := dk_42 (dk_at dksX10_dropRule_4 14 rfl rfl)
theorem dX10_dropRule_109 : decode cX10_dropRule 109 = .ok (.iload_n 2, 1) := dk_28 (dk_at dksX10_dropRule_4 15 rfl rfl)
theorem dX10_dropRule_110 : decode cX10_dropRule 110 = .ok (.bipush 33, 2) := dk_16 33 (dk_at dksX10_dropRule_4 16 rfl rfl)
theorem dX10_dropRule_112 : decode cX10_dropRule 112 = .ok (.invokevirtual 69, 3) := dk_182 0 69 (dk_at dksX10_dropRule_4 18 rfl rfl)
theorem dX10_dropRule_115 : decode cX10_dropRule 115 = .ok (.iload_n 1, 1) := dk_27 (dk_at dksX10_dropRule_4 21 rfl rfl)
theorem dX10_dropRule_116 : decode cX10_dropRule 116 = .ok (.invokestatic 401, 3) := dk_184 1 145 (dk_at dksX10_dropRule_5 0 rfl rfl)
theorem dX10_dropRule_119 : decode cX10_dropRule 119 = .ok (.iastore, 1) := dk_79 (dk_at dksX10_dropRule_5 3 rfl rfl)
theorem dX10_dropRule_120 : decode cX10_dropRule 120 = .ok (.iinc 2 1, 3) := dk_132 2 1 (dk_at dksX10_dropRule_5 4 rfl rfl)
theorem dX10_dropRule_123 : decode cX10_dropRule 123 = .ok (.goto (-37), 3) := dk_167 255 219 (dk_at dksX10_dropRule_5 7 rfl rfl)
theorem dX10_dropRule_126 : decode cX10_dropRule 126 = .ok (.aload_n 0, 1) := dk_42 (dk_at dksX10_dropRule_5 10 rfl rfl)
theorem dX10_dropRule_127 : decode cX10_dropRule 127 = .ok (.invokevirtual 398, 3) := dk_182 1 142 (dk_at dksX10_dropRule_5 11 rfl rfl)
theorem dX10_dropRule_130 : decode cX10_dropRule 130 = .ok (.aload_n 0, 1) := dk_42 (dk_at dksX10_dropRule_5 14 rfl rfl)
theorem dX10_dropRule_131 : decode cX10_dropRule 131 = .ok (.getfield 7, 3) := dk_180 0 7 (dk_at dksX10_dropRule_5 15 rfl rfl)
theorem dX10_dropRule_134 : decode cX10_dropRule 134 = .ok (.bipush 17, 2) := dk_16 17 (dk_at dksX10_dropRule_5 18 rfl rfl)
theorem dX10_dropRule_136 : decode cX10_dropRule 136 = .ok (.iaload, 1) := dk_46 (dk_at dksX10_dropRule_5 20 rfl rfl)
theorem dX10_dropRule_137 : decode cX10_dropRule 137 = .ok (.ireturn, 1) := dk_172 (dk_at dksX10_dropRule_5 21 rfl rfl)
abbrev cX10_without : ByteArray := prog_17_method_116_code
def yX10_without : MethodName := ⟨RX10, "without", "(II)I"⟩
def dkwX10_without_0 : List UInt8 := [26, 4, 27, 120, 4, 100, 126, 26, 27, 4, 96, 122, 27, 120, 128, 172]
abbrev dktX10_without_0 : List UInt8 := dkwX10_without_0 ++ []
theorem dksX10_without_0 : cX10_without.data.toList.drop 0 = dktX10_without_0 := by decide +kernel
theorem dX10_without_0 : decode cX10_without 0 = .ok (.iload_n 0, 1) := dk_26 (dk_at dksX10_without_0 0 rfl rfl)
theorem dX10_without_1 : decode cX10_without 1 = .ok (.iconst 1, 1) := dk_4 (dk_at dksX10_without_0 1 rfl rfl)
theorem dX10_without_2 : decode cX10_without 2 = .ok (.iload_n 1, 1) := dk_27 (dk_at dksX10_without_0 2 rfl rfl)
theorem dX10_without_3 : decode cX10_without 3 = .ok (.ishl, 1) := dk_120 (dk_at dksX10_without_0 3 rfl rfl)
theorem dX10_without_4 : decode cX10_without 4 = .ok (.iconst 1, 1) := dk_4 (dk_at dksX10_without_0 4 rfl rfl)
theorem dX10_without_5 : decode cX10_without 5 = .ok (.isub, 1) := dk_100 (dk_at dksX10_without_0 5 rfl rfl)
theorem dX10_without_6 : decode cX10_without 6 = .ok (.iand, 1) := dk_126 (dk_at dksX10_without_0 6 rfl rfl)
theorem dX10_without_7 : decode cX10_without 7 = .ok (.iload_n 0, 1) := dk_26 (dk_at dksX10_without_0 7 rfl rfl)
theorem dX10_without_8 : decode cX10_without 8 = .ok (.iload_n 1, 1) := dk_27 (dk_at dksX10_without_0 8 rfl rfl)
theorem dX10_without_9 : decode cX10_without 9 = .ok (.iconst 1, 1) := dk_4 (dk_at dksX10_without_0 9 rfl rfl)
theorem dX10_without_10 : decode cX10_without 10 = .ok (.iadd, 1) := dk_96 (dk_at dksX10_without_0 10 rfl rfl)
theorem dX10_without_11 : decode cX10_without 11 = .ok (.ishr, 1) := dk_122 (dk_at dksX10_without_0 11 rfl rfl)
theorem dX10_without_12 : decode cX10_without 12 = .ok (.iload_n 1, 1) := dk_27 (dk_at dksX10_without_0 12 rfl rfl)
theorem dX10_without_13 : decode cX10_without 13 = .ok (.ishl, 1) := dk_120 (dk_at dksX10_without_0 13 rfl rfl)
theorem dX10_without_14 : decode cX10_without 14 = .ok (.ior, 1) := dk_128 (dk_at dksX10_without_0 14 rfl rfl)
theorem dX10_without_15 : decode cX10_without 15 = .ok (.ireturn, 1) := dk_172 (dk_at dksX10_without_0 15 rfl rfl)
abbrev cX10_setOver : ByteArray := prog_17_method_118_code
def yX10_setOver : MethodName := ⟨RX10, "setOver", "(IIZ)I"⟩
def dkwX10_setOver_4 : List UInt8 := [182, 0, 69, 184, 1, 90, 172]
abbrev dktX10_setOver_4 : List UInt8 := dkwX10_setOver_4 ++ []
def dkwX10_setOver_3 : List UInt8 := [153, 0, 12, 21, 4, 4, 28, 120, 128, 167, 0, 5, 21, 4, 79, 42, 182, 1, 142, 42, 27, 16, 33]
abbrev dktX10_setOver_3 : List UInt8 := dkwX10_setOver_3 ++ dktX10_setOver_4
def dkwX10_setOver_2 : List UInt8 := [182, 0, 69, 4, 28, 120, 2, 130, 126, 54, 4, 42, 180, 0, 7, 27, 184, 0, 57, 16, 33, 96, 29]
abbrev dktX10_setOver_2 : List UInt8 := dkwX10_setOver_2 ++ dktX10_setOver_3
def dkwX10_setOver_1 : List UInt8 := [182, 1, 24, 153, 0, 5, 3, 172, 27, 28, 160, 0, 5, 2, 172, 42, 182, 1, 139, 42, 27, 16, 33]
abbrev dktX10_setOver_1 : List UInt8 := dkwX10_setOver_1 ++ dktX10_setOver_2
def dkwX10_setOver_0 : List UInt8 := [42, 42, 27, 182, 1, 74, 153, 0, 11, 42, 28, 182, 1, 74, 154, 0, 7, 4, 167, 0, 4, 3]
abbrev dktX10_setOver_0 : List UInt8 := dkwX10_setOver_0 ++ dktX10_setOver_1
theorem dksX10_setOver_0 : cX10_setOver.data.toList.drop 0 = dktX10_setOver_0 := by decide +kernel
theorem dksX10_setOver_1 : cX10_setOver.data.toList.drop 22 = dktX10_setOver_1 := dk_seg dksX10_setOver_0 22 rfl rfl
theorem dksX10_setOver_2 : cX10_setOver.data.toList.drop 45 = dktX10_setOver_2 := dk_seg dksX10_setOver_1 23 rfl rfl
theorem dksX10_setOver_3 : cX10_setOver.data.toList.drop 68 = dktX10_setOver_3 := dk_seg dksX10_setOver_2 23 rfl rfl
theorem dksX10_setOver_4 : cX10_setOver.data.toList.drop 91 = dktX10_setOver_4 := dk_seg dksX10_setOver_3 23 rfl rfl
theorem dX10_setOver_0 : decode cX10_setOver 0 = .ok (.aload_n 0, 1) := dk_42 (dk_at dksX10_setOver_0 0 rfl rfl)
theorem dX10_setOver_1 : decode cX10_setOver 1 = .ok (.aload_n 0, 1) := dk_42 (dk_at dksX10_setOver_0 1 rfl rfl)
theorem dX10_setOver_2 : decode cX10_setOver 2 = .ok (.iload_n 1, 1) := dk_27 (dk_at dksX10_setOver_0 2 rfl rfl)
theorem dX10_setOver_3 : decode cX10_setOver 3 = .ok (.invokevirtual 330, 3) := dk_182 1 74 (dk_at dksX10_setOver_0 3 rfl rfl)
theorem dX10_setOver_6 : decode cX10_setOver 6 = .ok (.ifCond .eq 11, 3) := dk_153 0 11 (dk_at dksX10_setOver_0 6 rfl rfl)
theorem dX10_setOver_9 : decode cX10_setOver 9 = .ok (.aload_n 0, 1) := dk_42 (dk_at dksX10_setOver_0 9 rfl rfl)
theorem dX10_setOver_10 : decode cX10_setOver 10 = .ok (.iload_n 2, 1) := dk_28 (dk_at dksX10_setOver_0 10 rfl rfl)
theorem dX10_setOver_11 : decode cX10_setOver 11 = .ok (.invokevirtual 330, 3) := dk_182 1 74 (dk_at dksX10_setOver_0 11 rfl rfl)
theorem dX10_setOver_14 : decode cX10_setOver 14 = .ok (.ifCond .ne 7, 3) := dk_154 0 7 (dk_at dksX10_setOver_0 14 rfl rfl)
theorem dX10_setOver_17 : decode cX10_setOver 17 = .ok (.iconst 1, 1) := dk_4 (dk_at dksX10_setOver_0 17 rfl rfl)
theorem dX10_setOver_18 : decode cX10_setOver 18 = .ok (.goto 4, 3) := dk_167 0 4 (dk_at dksX10_setOver_0 18 rfl rfl)
theorem dX10_setOver_21 : decode cX10_setOver 21 = .ok (.iconst 0, 1) := dk_3 (dk_at dksX10_setOver_0 21 rfl rfl)
theorem dX10_setOver_22 : decode cX10_setOver 22 = .ok (.invokevirtual 280, 3) := dk_182 1 24 (dk_at dksX10_setOver_1 0 rfl rfl)
theorem dX10_setOver_25 : decode cX10_setOver 25 = .ok (.ifCond .eq 5, 3) := dk_153 0 5 (dk_at dksX10_setOver_1 3 rfl rfl)
theorem dX10_setOver_28 : decode cX10_setOver 28 = .ok (.iconst 0, 1) := dk_3 (dk_at dksX10_setOver_1 6 rfl rfl)
theorem dX10_setOver_29 : decode cX10_setOver 29 = .ok (.ireturn, 1) := dk_172 (dk_at dksX10_setOver_1 7 rfl rfl)
theorem dX10_setOver_30 : decode cX10_setOver 30 = .ok (.iload_n 1, 1) := dk_27 (dk_at dksX10_setOver_1 8 rfl rfl)
theorem dX10_setOver_31 : decode cX10_setOver 31 = .ok (.iload_n 2, 1) := dk_28 (dk_at dksX10_setOver_1 9 rfl rfl)
theorem dX10_setOver_32 : decode cX10_setOver 32 = .ok (.if_icmp .ne 5, 3) := dk_160 0 5 (dk_at dksX10_setOver_1 10 rfl rfl)
theorem dX10_setOver_35 : decode cX10_setOver 35 = .ok (.iconst (-1), 1) := dk_2 (dk_at dksX10_setOver_1 13 rfl rfl)
theorem dX10_setOver_36 : decode cX10_setOver 36 = .ok (.ireturn, 1) := dk_172 (dk_at dksX10_setOver_1 14 rfl rfl)
theorem dX10_setOver_37 : decode cX10_setOver 37 = .ok (.aload_n 0, 1) := dk_42 (dk_at dksX10_setOver_1 15 rfl rfl)
theorem dX10_setOver_38 : decode cX10_setOver 38 = .ok (.invokevirtual 395, 3) := dk_182 1 139 (dk_at dksX10_setOver_1 16 rfl rfl)
theorem dX10_setOver_41 : decode cX10_setOver 41 = .ok (.aload_n 0, 1) := dk_42 (dk_at dksX10_setOver_1 19 rfl rfl)
theorem dX10_setOver_42 : decode cX10_setOver 42 = .ok (.iload_n 1, 1) := dk_27 (dk_at dksX10_setOver_1 20 rfl rfl)
theorem dX10_setOver_43 : decode cX10_setOver 43 = .ok (.bipush 33, 2) := dk_16 33 (dk_at dksX10_setOver_1 21 rfl rfl)
theorem dX10_setOver_45 : decode cX10_setOver 45 = .ok (.invokevirtual 69, 3) := dk_182 0 69 (dk_at dksX10_setOver_2 0 rfl rfl)
theorem dX10_setOver_48 : decode cX10_setOver 48 = .ok (.iconst 1, 1) := dk_4 (dk_at dksX10_setOver_2 3 rfl rfl)
theorem dX10_setOver_49 : decode cX10_setOver 49 = .ok (.iload_n 2, 1) := dk_28 (dk_at dksX10_setOver_2 4 rfl rfl)
theorem dX10_setOver_50 : decode cX10_setOver 50 = .ok (.ishl, 1) := dk_120 (dk_at dksX10_setOver_2 5 rfl rfl)
theorem dX10_setOver_51 : decode cX10_setOver 51 = .ok (.iconst (-1), 1) := dk_2 (dk_at dksX10_setOver_2 6 rfl rfl)
theorem dX10_setOver_52 : decode cX10_setOver 52 = .ok (.ixor, 1) := dk_130 (dk_at dksX10_setOver_2 7 rfl rfl)
theorem dX10_setOver_53 : decode cX10_setOver 53 = .ok (.iand, 1) := dk_126 (dk_at dksX10_setOver_2 8 rfl rfl)
theorem dX10_setOver_54 : decode cX10_setOver 54 = .ok (.istore 4, 2) := dk_54 4 (dk_at dksX10_setOver_2 9 rfl rfl)
theorem dX10_setOver_56 : decode cX10_setOver 56 = .ok (.aload_n 0, 1) := dk_42 (dk_at dksX10_setOver_2 11 rfl rfl)
theorem dX10_setOver_57 : decode cX10_setOver 57 = .ok (.getfield 7, 3) := dk_180 0 7 (dk_at dksX10_setOver_2 12 rfl rfl)
theorem dX10_setOver_60 : decode cX10_setOver 60 = .ok (.iload_n 1, 1) := dk_27 (dk_at dksX10_setOver_2 15 rfl rfl)
theorem dX10_setOver_61 : decode cX10_setOver 61 = .ok (.invokestatic 57, 3) := dk_184 0 57 (dk_at dksX10_setOver_2 16 rfl rfl)
theorem dX10_setOver_64 : decode cX10_setOver 64 = .ok (.bipush 33, 2) := dk_16 33 (dk_at dksX10_setOver_2 19 rfl rfl)
theorem dX10_setOver_66 : decode cX10_setOver 66 = .ok (.iadd, 1) := dk_96 (dk_at dksX10_setOver_2 21 rfl rfl)
theorem dX10_setOver_67 : decode cX10_setOver 67 = .ok (.iload_n 3, 1) := dk_29 (dk_at dksX10_setOver_2 22 rfl rfl)
theorem dX10_setOver_68 : decode cX10_setOver 68 = .ok (.ifCond .eq 12, 3) := dk_153 0 12 (dk_at dksX10_setOver_3 0 rfl rfl)
theorem dX10_setOver_71 : decode cX10_setOver 71 = .ok (.iload 4, 2) := dk_21 4 (dk_at dksX10_setOver_3 3 rfl rfl)
theorem dX10_setOver_73 : decode cX10_setOver 73 = .ok (.iconst 1, 1) := dk_4 (dk_at dksX10_setOver_3 5 rfl rfl)
theorem dX10_setOver_74 : decode cX10_setOver 74 = .ok (.iload_n 2, 1) := dk_28 (dk_at dksX10_setOver_3 6 rfl rfl)
theorem dX10_setOver_75 : decode cX10_setOver 75 = .ok (.ishl, 1) := dk_120 (dk_at dksX10_setOver_3 7 rfl rfl)
theorem dX10_setOver_76 : decode cX10_setOver 76 = .ok (.ior, 1) := dk_128 (dk_at dksX10_setOver_3 8 rfl rfl)
theorem dX10_setOver_77 : decode cX10_setOver 77 = .ok (.goto 5, 3) := dk_167 0 5 (dk_at dksX10_setOver_3 9 rfl rfl)
theorem dX10_setOver_80 : decode cX10_setOver 80 = .ok (.iload 4, 2) := dk_21 4 (dk_at dksX10_setOver_3 12 rfl rfl)
theorem dX10_setOver_82 : decode cX10_setOver 82 = .ok (.iastore, 1) := dk_79 (dk_at dksX10_setOver_3 14 rfl rfl)
theorem dX10_setOver_83 : decode cX10_setOver 83 = .ok (.aload_n 0, 1) := dk_42 (dk_at dksX10_setOver_3 15 rfl rfl)
theorem dX10_setOver_84 : decode cX10_setOver 84 = .ok (.invokevirtual 398, 3) := dk_182 1 142 (dk_at dksX10_setOver_3 16 rfl rfl)
theorem dX10_setOver_87 : decode cX10_setOver 87 = .ok (.aload_n 0, 1) := dk_42 (dk_at dksX10_setOver_3 19 rfl rfl)
theorem dX10_setOver_88 : decode cX10_setOver 88 = .ok (.iload_n 1, 1) := dk_27 (dk_at dksX10_setOver_3 20 rfl rfl)
theorem dX10_setOver_89 : decode cX10_setOver 89 = .ok (.bipush 33, 2) := dk_16 33 (dk_at dksX10_setOver_3 21 rfl rfl)
theorem dX10_setOver_91 : decode cX10_setOver 91 = .ok (.invokevirtual 69, 3) := dk_182 0 69 (dk_at dksX10_setOver_4 0 rfl rfl)
theorem dX10_setOver_94 : decode cX10_setOver 94 = .ok (.invokestatic 346, 3) := dk_184 1 90 (dk_at dksX10_setOver_4 3 rfl rfl)
theorem dX10_setOver_97 : decode cX10_setOver 97 = .ok (.ireturn, 1) := dk_172 (dk_at dksX10_setOver_4 6 rfl rfl)
abbrev cX10_setShare : ByteArray := prog_17_method_119_code
def yX10_setShare : MethodName := ⟨RX10, "setShare", "(IIII)I"⟩
def dkwX10_setShare_6 : List UInt8 := [167, 0, 4, 3, 96, 54, 6, 132, 7, 1, 167, 255, 224, 21, 6, 172]
abbrev dktX10_setShare_6 : List UInt8 := dkwX10_setShare_6 ++ []
def dkwX10_setShare_5 : List UInt8 := [54, 7, 21, 7, 7, 162, 0, 32, 21, 6, 42, 27, 16, 29, 21, 7, 96, 182, 0, 69, 158, 0, 7, 4]
abbrev dktX10_setShare_5 : List UInt8 := dkwX10_setShare_5 ++ dktX10_setShare_6
def dkwX10_setShare_4 : List UInt8 := [42, 180, 0, 7, 27, 184, 0, 57, 16, 29, 96, 28, 96, 21, 5, 79, 42, 182, 1, 142, 3, 54, 6, 3]
abbrev dktX10_setShare_4 : List UInt8 := dkwX10_setShare_4 ++ dktX10_setShare_5
def dkwX10_setShare_3 : List UInt8 := [27, 16, 29, 28, 96, 182, 0, 69, 100, 21, 5, 96, 17, 108, 72, 164, 0, 5, 2, 172, 42, 182, 1, 139]
abbrev dktX10_setShare_3 : List UInt8 := dkwX10_setShare_3 ++ dktX10_setShare_4
def dkwX10_setShare_2 : List UInt8 := [182, 1, 43, 153, 0, 5, 3, 172, 29, 17, 108, 72, 104, 21, 4, 108, 54, 5, 42, 27, 182, 1, 148, 42]
abbrev dktX10_setShare_2 : List UInt8 := dkwX10_setShare_2 ++ dktX10_setShare_3
def dkwX10_setShare_1 : List UInt8 := [16, 12, 184, 0, 53, 153, 0, 14, 21, 4, 4, 16, 12, 184, 0, 53, 154, 0, 7, 4, 167, 0, 4, 3]
abbrev dktX10_setShare_1 : List UInt8 := dkwX10_setShare_1 ++ dktX10_setShare_2
def dkwX10_setShare_0 : List UInt8 := [42, 42, 27, 182, 1, 74, 153, 0, 11, 42, 28, 182, 1, 59, 154, 0, 7, 4, 167, 0, 4, 3, 29, 3]
abbrev dktX10_setShare_0 : List UInt8 := dkwX10_setShare_0 ++ dktX10_setShare_1
theorem dksX10_setShare_0 : cX10_setShare.data.toList.drop 0 = dktX10_setShare_0 := by decide +kernel
theorem dksX10_setShare_1 : cX10_setShare.data.toList.drop 24 = dktX10_setShare_1 := dk_seg dksX10_setShare_0 24 rfl rfl
theorem dksX10_setShare_2 : cX10_setShare.data.toList.drop 48 = dktX10_setShare_2 := dk_seg dksX10_setShare_1 24 rfl rfl
theorem dksX10_setShare_3 : cX10_setShare.data.toList.drop 72 = dktX10_setShare_3 := dk_seg dksX10_setShare_2 24 rfl rfl
theorem dksX10_setShare_4 : cX10_setShare.data.toList.drop 96 = dktX10_setShare_4 := dk_seg dksX10_setShare_3 24 rfl rfl
theorem dksX10_setShare_5 : cX10_setShare.data.toList.drop 120 = dktX10_setShare_5 := dk_seg dksX10_setShare_4 24 rfl rfl
theorem dksX10_setShare_6 : cX10_setShare.data.toList.drop 144 = dktX10_setShare_6 := dk_seg dksX10_setShare_5 24 rfl rfl
theorem dX10_setShare_0 : decode cX10_setShare 0 = .ok (.aload_n 0, 1) := dk_42 (dk_at dksX10_setShare_0 0 rfl rfl)
theorem dX10_setShare_1 : decode cX10_setShare 1 = .ok (.aload_n 0, 1) := dk_42 (dk_at dksX10_setShare_0 1 rfl rfl)
theorem dX10_setShare_2 : decode cX10_setShare 2 = .ok (.iload_n 1, 1) := dk_27 (dk_at dksX10_setShare_0 2 rfl rfl)
theorem dX10_setShare_3 : decode cX10_setShare 3 = .ok (.invokevirtual 330, 3) := dk_182 1 74 (dk_at dksX10_setShare_0 3 rfl rfl)
theorem dX10_setShare_6 : decode cX10_setShare 6 = .ok (.ifCond .eq 11, 3) := dk_153 0 11 (dk_at dksX10_setShare_0 6 rfl rfl)
theorem dX10_setShare_9 : decode cX10_setShare 9 = .ok (.aload_n 0, 1) := dk_42 (dk_at dksX10_setShare_0 9 rfl rfl)
theorem dX10_setShare_10 : decode cX10_setShare 10 = .ok (.iload_n 2, 1) := dk_28 (dk_at dksX10_setShare_0 10 rfl rfl)
theorem dX10_setShare_11 : decode cX10_setShare 11 = .ok (.invokevirtual 315, 3) := dk_182 1 59 (dk_at dksX10_setShare_0 11 rfl rfl)
theorem dX10_setShare_14 : decode cX10_setShare 14 = .ok (.ifCond .ne 7, 3) := dk_154 0 7 (dk_at dksX10_setShare_0 14 rfl rfl)
theorem dX10_setShare_17 : decode cX10_setShare 17 = .ok (.iconst 1, 1) := dk_4 (dk_at dksX10_setShare_0 17 rfl rfl)
theorem dX10_setShare_18 : decode cX10_setShare 18 = .ok (.goto 4, 3) := dk_167 0 4 (dk_at dksX10_setShare_0 18 rfl rfl)
theorem dX10_setShare_21 : decode cX10_setShare 21 = .ok (.iconst 0, 1) := dk_3 (dk_at dksX10_setShare_0 21 rfl rfl)
theorem dX10_setShare_22 : decode cX10_setShare 22 = .ok (.iload_n 3, 1) := dk_29 (dk_at dksX10_setShare_0 22 rfl rfl)
theorem dX10_setShare_23 : decode cX10_setShare 23 = .ok (.iconst 0, 1) := dk_3 (dk_at dksX10_setShare_0 23 rfl rfl)
theorem dX10_setShare_24 : decode cX10_setShare 24 = .ok (.bipush 12, 2) := dk_16 12 (dk_at dksX10_setShare_1 0 rfl rfl)
theorem dX10_setShare_26 : decode cX10_setShare 26 = .ok (.invokestatic 53, 3) := dk_184 0 53 (dk_at dksX10_setShare_1 2 rfl rfl)
theorem dX10_setShare_29 : decode cX10_setShare 29 = .ok (.ifCond .eq 14, 3) := dk_153 0 14 (dk_at dksX10_setShare_1 5 rfl rfl)
theorem dX10_setShare_32 : decode cX10_setShare 32 = .ok (.iload 4, 2) := dk_21 4 (dk_at dksX10_setShare_1 8 rfl rfl)
theorem dX10_setShare_34 : decode cX10_setShare 34 = .ok (.iconst 1, 1) := dk_4 (dk_at dksX10_setShare_1 10 rfl rfl)
theorem dX10_setShare_35 : decode cX10_setShare 35 = .ok (.bipush 12, 2) := dk_16 12 (dk_at dksX10_setShare_1 11 rfl rfl)
theorem dX10_setShare_37 : decode cX10_setShare 37 = .ok (.invokestatic 53, 3) := dk_184 0 53 (dk_at dksX10_setShare_1 13 rfl rfl)
theorem dX10_setShare_40 : decode cX10_setShare 40 = .ok (.ifCond .ne 7, 3) := dk_154 0 7 (dk_at dksX10_setShare_1 16 rfl rfl)
theorem dX10_setShare_43 : decode cX10_setShare 43 = .ok (.iconst 1, 1) := dk_4 (dk_at dksX10_setShare_1 19 rfl rfl)
theorem dX10_setShare_44 : decode cX10_setShare 44 = .ok (.goto 4, 3) := dk_167 0 4 (dk_at dksX10_setShare_1 20 rfl rfl)
theorem dX10_setShare_47 : decode cX10_setShare 47 = .ok (.iconst 0, 1) := dk_3 (dk_at dksX10_setShare_1 23 rfl rfl)
theorem dX10_setShare_48 : decode cX10_setShare 48 = .ok (.invokevirtual 299, 3) := dk_182 1 43 (dk_at dksX10_setShare_2 0 rfl rfl)
theorem dX10_setShare_51 : decode cX10_setShare 51 = .ok (.ifCond .eq 5, 3) := dk_153 0 5 (dk_at dksX10_setShare_2 3 rfl rfl)
theorem dX10_setShare_54 : decode cX10_setShare 54 = .ok (.iconst 0, 1) := dk_3 (dk_at dksX10_setShare_2 6 rfl rfl)
theorem dX10_setShare_55 : decode cX10_setShare 55 = .ok (.ireturn, 1) := dk_172 (dk_at dksX10_setShare_2 7 rfl rfl)
theorem dX10_setShare_56 : decode cX10_setShare 56 = .ok (.iload_n 3, 1) := dk_29 (dk_at dksX10_setShare_2 8 rfl rfl)
theorem dX10_setShare_57 : decode cX10_setShare 57 = .ok (.sipush 27720, 3) := dk_17 108 72 (dk_at dksX10_setShare_2 9 rfl rfl)
theorem dX10_setShare_60 : decode cX10_setShare 60 = .ok (.imul, 1) := dk_104 (dk_at dksX10_setShare_2 12 rfl rfl)
theorem dX10_setShare_61 : decode cX10_setShare 61 = .ok (.iload 4, 2) := dk_21 4 (dk_at dksX10_setShare_2 13 rfl rfl)
theorem dX10_setShare_63 : decode cX10_setShare 63 = .ok (.idiv, 1) := dk_108 (dk_at dksX10_setShare_2 15 rfl rfl)
theorem dX10_setShare_64 : decode cX10_setShare 64 = .ok (.istore 5, 2) := dk_54 5 (dk_at dksX10_setShare_2 16 rfl rfl)
theorem dX10_setShare_66 : decode cX10_setShare 66 = .ok (.aload_n 0, 1) := dk_42 (dk_at dksX10_setShare_2 18 rfl rfl)
theorem dX10_setShare_67 : decode cX10_setShare 67 = .ok (.iload_n 1, 1) := dk_27 (dk_at dksX10_setShare_2 19 rfl rfl)
theorem dX10_setShare_68 : decode cX10_setShare 68 = .ok (.invokevirtual 404, 3) := dk_182 1 148 (dk_at dksX10_setShare_2 20 rfl rfl)
theorem dX10_setShare_71 : decode cX10_setShare 71 = .ok (.aload_n 0, 1) := dk_42 (dk_at dksX10_setShare_2 23 rfl rfl)
theorem dX10_setShare_72 : decode cX10_setShare 72 = .ok (.iload_n 1, 1) := dk_27 (dk_at dksX10_setShare_3 0 rfl rfl)
theorem dX10_setShare_73 : decode cX10_setShare 73 = .ok (.bipush 29, 2) := dk_16 29 (dk_at dksX10_setShare_3 1 rfl rfl)
theorem dX10_setShare_75 : decode cX10_setShare 75 = .ok (.iload_n 2, 1) := dk_28 (dk_at dksX10_setShare_3 3 rfl rfl)
theorem dX10_setShare_76 : decode cX10_setShare 76 = .ok (.iadd, 1) := dk_96 (dk_at dksX10_setShare_3 4 rfl rfl)
theorem dX10_setShare_77 : decode cX10_setShare 77 = .ok (.invokevirtual 69, 3) := dk_182 0 69 (dk_at dksX10_setShare_3 5 rfl rfl)
theorem dX10_setShare_80 : decode cX10_setShare 80 = .ok (.isub, 1) := dk_100 (dk_at dksX10_setShare_3 8 rfl rfl)
theorem dX10_setShare_81 : decode cX10_setShare 81 = .ok (.iload 5, 2) := dk_21 5 (dk_at dksX10_setShare_3 9 rfl rfl)
theorem dX10_setShare_83 : decode cX10_setShare 83 = .ok (.iadd, 1) := dk_96 (dk_at dksX10_setShare_3 11 rfl rfl)
theorem dX10_setShare_84 : decode cX10_setShare 84 = .ok (.sipush 27720, 3) := dk_17 108 72 (dk_at dksX10_setShare_3 12 rfl rfl)
theorem dX10_setShare_87 : decode cX10_setShare 87 = .ok (.if_icmp .le 5, 3) := dk_164 0 5 (dk_at dksX10_setShare_3 15 rfl rfl)
theorem dX10_setShare_90 : decode cX10_setShare 90 = .ok (.iconst (-1), 1) := dk_2 (dk_at dksX10_setShare_3 18 rfl rfl)
theorem dX10_setShare_91 : decode cX10_setShare 91 = .ok (.ireturn, 1) := dk_172 (dk_at dksX10_setShare_3 19 rfl rfl)
theorem dX10_setShare_92 : decode cX10_setShare 92 = .ok (.aload_n 0, 1) := dk_42 (dk_at dksX10_setShare_3 20 rfl rfl)
theorem dX10_setShare_93 : decode cX10_setShare 93 = .ok (.invokevirtual 395, 3) := dk_182 1 139 (dk_at dksX10_setShare_3 21 rfl rfl)
theorem dX10_setShare_96 : decode cX10_setShare 96 = .ok (.aload_n 0, 1) := dk_42 (dk_at dksX10_setShare_4 0 rfl rfl)
theorem dX10_setShare_97 : decode cX10_setShare 97 = .ok (.getfield 7, 3) := dk_180 0 7 (dk_at dksX10_setShare_4 1 rfl rfl)
theorem dX10_setShare_100 : decode cX10_setShare 100 = .ok (.iload_n 1, 1) := dk_27 (dk_at dksX10_setShare_4 4 rfl rfl)
theorem dX10_setShare_101 : decode cX10_setShare 101 = .ok (.invokestatic 57, 3) := dk_184 0 57 (dk_at dksX10_setShare_4 5 rfl rfl)
theorem dX10_setShare_104 : decode cX10_setShare 104 = .ok (.bipush 29, 2) := dk_16 29 (dk_at dksX10_setShare_4 8 rfl rfl)
theorem dX10_setShare_106 : decode cX10_setShare 106 = .ok (.iadd, 1) := dk_96 (dk_at dksX10_setShare_4 10 rfl rfl)
theorem dX10_setShare_107 : decode cX10_setShare 107 = .ok (.iload_n 2, 1) := dk_28 (dk_at dksX10_setShare_4 11 rfl rfl)
theorem dX10_setShare_108 : decode cX10_setShare 108 = .ok (.iadd, 1) := dk_96 (dk_at dksX10_setShare_4 12 rfl rfl)
theorem dX10_setShare_109 : decode cX10_setShare 109 = .ok (.iload 5, 2) := dk_21 5 (dk_at dksX10_setShare_4 13 rfl rfl)
theorem dX10_setShare_111 : decode cX10_setShare 111 = .ok (.iastore, 1) := dk_79 (dk_at dksX10_setShare_4 15 rfl rfl)
theorem dX10_setShare_112 : decode cX10_setShare 112 = .ok (.aload_n 0, 1) := dk_42 (dk_at dksX10_setShare_4 16 rfl rfl)
theorem dX10_setShare_113 : decode cX10_setShare 113 = .ok (.invokevirtual 398, 3) := dk_182 1 142 (dk_at dksX10_setShare_4 17 rfl rfl)
theorem dX10_setShare_116 : decode cX10_setShare 116 = .ok (.iconst 0, 1) := dk_3 (dk_at dksX10_setShare_4 20 rfl rfl)
theorem dX10_setShare_117 : decode cX10_setShare 117 = .ok (.istore 6, 2) := dk_54 6 (dk_at dksX10_setShare_4 21 rfl rfl)
theorem dX10_setShare_119 : decode cX10_setShare 119 = .ok (.iconst 0, 1) := dk_3 (dk_at dksX10_setShare_4 23 rfl rfl)
theorem dX10_setShare_120 : decode cX10_setShare 120 = .ok (.istore 7, 2) := dk_54 7 (dk_at dksX10_setShare_5 0 rfl rfl)
theorem dX10_setShare_122 : decode cX10_setShare 122 = .ok (.iload 7, 2) := dk_21 7 (dk_at dksX10_setShare_5 2 rfl rfl)
theorem dX10_setShare_124 : decode cX10_setShare 124 = .ok (.iconst 4, 1) := dk_7 (dk_at dksX10_setShare_5 4 rfl rfl)
theorem dX10_setShare_125 : decode cX10_setShare 125 = .ok (.if_icmp .ge 32, 3) := dk_162 0 32 (dk_at dksX10_setShare_5 5 rfl rfl)
theorem dX10_setShare_128 : decode cX10_setShare 128 = .ok (.iload 6, 2) := dk_21 6 (dk_at dksX10_setShare_5 8 rfl rfl)
theorem dX10_setShare_130 : decode cX10_setShare 130 = .ok (.aload_n 0, 1) := dk_42 (dk_at dksX10_setShare_5 10 rfl rfl)
theorem dX10_setShare_131 : decode cX10_setShare 131 = .ok (.iload_n 1, 1) := dk_27 (dk_at dksX10_setShare_5 11 rfl rfl)
theorem dX10_setShare_132 : decode cX10_setShare 132 = .ok (.bipush 29, 2) := dk_16 29 (dk_at dksX10_setShare_5 12 rfl rfl)
theorem dX10_setShare_134 : decode cX10_setShare 134 = .ok (.iload 7, 2) := dk_21 7 (dk_at dksX10_setShare_5 14 rfl rfl)
theorem dX10_setShare_136 : decode cX10_setShare 136 = .ok (.iadd, 1) := dk_96 (dk_at dksX10_setShare_5 16 rfl rfl)
theorem dX10_setShare_137 : decode cX10_setShare 137 = .ok (.invokevirtual 69, 3) := dk_182 0 69 (dk_at dksX10_setShare_5 17 rfl rfl)
theorem dX10_setShare_140 : decode cX10_setShare 140 = .ok (.ifCond .le 7, 3) := dk_158 0 7 (dk_at dksX10_setShare_5 20 rfl rfl)
theorem dX10_setShare_143 : decode cX10_setShare 143 = .ok (.iconst 1, 1) := dk_4 (dk_at dksX10_setShare_5 23 rfl rfl)
theorem dX10_setShare_144 : decode cX10_setShare 144 = .ok (.goto 4, 3) := dk_167 0 4 (dk_at dksX10_setShare_6 0 rfl rfl)
theorem dX10_setShare_147 : decode cX10_setShare 147 = .ok (.iconst 0, 1) := dk_3 (dk_at dksX10_setShare_6 3 rfl rfl)
theorem dX10_setShare_148 : decode cX10_setShare 148 = .ok (.iadd, 1) := dk_96 (dk_at dksX10_setShare_6 4 rfl rfl)
theorem dX10_setShare_149 : decode cX10_setShare 149 = .ok (.istore 6, 2) := dk_54 6 (dk_at dksX10_setShare_6 5 rfl rfl)
theorem dX10_setShare_151 : decode cX10_setShare 151 = .ok (.iinc 7 1, 3) := dk_132 7 1 (dk_at dksX10_setShare_6 7 rfl rfl)
theorem dX10_setShare_154 : decode cX10_setShare 154 = .ok (.goto (-32), 3) := dk_167 255 224 (dk_at dksX10_setShare_6 10 rfl rfl)
theorem dX10_setShare_157 : decode cX10_setShare 157 = .ok (.iload 6, 2) := dk_21 6 (dk_at dksX10_setShare_6 13 rfl rfl)
theorem dX10_setShare_159 : decode cX10_setShare 159 = .ok (.ireturn, 1) := dk_172 (dk_at dksX10_setShare_6 15 rfl rfl)
abbrev cX10_sharesOf : ByteArray := prog_17_method_32_code
def yX10_sharesOf : MethodName := ⟨RX10, "sharesOf", "(I)I"⟩
def dkwX10_sharesOf_1 : List UInt8 := [167, 255, 236, 28, 172]
abbrev dktX10_sharesOf_1 : List UInt8 := dkwX10_sharesOf_1 ++ []
def dkwX10_sharesOf_0 : List UInt8 := [3, 61, 3, 62, 29, 7, 162, 0, 21, 28, 42, 27, 16, 29, 29, 96, 182, 0, 69, 96, 61, 132, 3, 1]
abbrev dktX10_sharesOf_0 : List UInt8 := dkwX10_sharesOf_0 ++ dktX10_sharesOf_1
theorem dksX10_sharesOf_0 : cX10_sharesOf.data.toList.drop 0 = dktX10_sharesOf_0 := by decide +kernel
theorem dksX10_sharesOf_1 : cX10_sharesOf.data.toList.drop 24 = dktX10_sharesOf_1 := dk_seg dksX10_sharesOf_0 24 rfl rfl
theorem dX10_sharesOf_0 : decode cX10_sharesOf 0 = .ok (.iconst 0, 1) := dk_3 (dk_at dksX10_sharesOf_0 0 rfl rfl)
theorem dX10_sharesOf_1 : decode cX10_sharesOf 1 = .ok (.istore_n 2, 1) := dk_61 (dk_at dksX10_sharesOf_0 1 rfl rfl)
theorem dX10_sharesOf_2 : decode cX10_sharesOf 2 = .ok (.iconst 0, 1) := dk_3 (dk_at dksX10_sharesOf_0 2 rfl rfl)
theorem dX10_sharesOf_3 : decode cX10_sharesOf 3 = .ok (.istore_n 3, 1) := dk_62 (dk_at dksX10_sharesOf_0 3 rfl rfl)
theorem dX10_sharesOf_4 : decode cX10_sharesOf 4 = .ok (.iload_n 3, 1) := dk_29 (dk_at dksX10_sharesOf_0 4 rfl rfl)
theorem dX10_sharesOf_5 : decode cX10_sharesOf 5 = .ok (.iconst 4, 1) := dk_7 (dk_at dksX10_sharesOf_0 5 rfl rfl)
theorem dX10_sharesOf_6 : decode cX10_sharesOf 6 = .ok (.if_icmp .ge 21, 3) := dk_162 0 21 (dk_at dksX10_sharesOf_0 6 rfl rfl)
theorem dX10_sharesOf_9 : decode cX10_sharesOf 9 = .ok (.iload_n 2, 1) := dk_28 (dk_at dksX10_sharesOf_0 9 rfl rfl)
theorem dX10_sharesOf_10 : decode cX10_sharesOf 10 = .ok (.aload_n 0, 1) := dk_42 (dk_at dksX10_sharesOf_0 10 rfl rfl)
theorem dX10_sharesOf_11 : decode cX10_sharesOf 11 = .ok (.iload_n 1, 1) := dk_27 (dk_at dksX10_sharesOf_0 11 rfl rfl)
theorem dX10_sharesOf_12 : decode cX10_sharesOf 12 = .ok (.bipush 29, 2) := dk_16 29 (dk_at dksX10_sharesOf_0 12 rfl rfl)
theorem dX10_sharesOf_14 : decode cX10_sharesOf 14 = .ok (.iload_n 3, 1) := dk_29 (dk_at dksX10_sharesOf_0 14 rfl rfl)
theorem dX10_sharesOf_15 : decode cX10_sharesOf 15 = .ok (.iadd, 1) := dk_96 (dk_at dksX10_sharesOf_0 15 rfl rfl)
theorem dX10_sharesOf_16 : decode cX10_sharesOf 16 = .ok (.invokevirtual 69, 3) := dk_182 0 69 (dk_at dksX10_sharesOf_0 16 rfl rfl)
theorem dX10_sharesOf_19 : decode cX10_sharesOf 19 = .ok (.iadd, 1) := dk_96 (dk_at dksX10_sharesOf_0 19 rfl rfl)
theorem dX10_sharesOf_20 : decode cX10_sharesOf 20 = .ok (.istore_n 2, 1) := dk_61 (dk_at dksX10_sharesOf_0 20 rfl rfl)
theorem dX10_sharesOf_21 : decode cX10_sharesOf 21 = .ok (.iinc 3 1, 3) := dk_132 3 1 (dk_at dksX10_sharesOf_0 21 rfl rfl)
theorem dX10_sharesOf_24 : decode cX10_sharesOf 24 = .ok (.goto (-20), 3) := dk_167 255 236 (dk_at dksX10_sharesOf_1 0 rfl rfl)
theorem dX10_sharesOf_27 : decode cX10_sharesOf 27 = .ok (.iload_n 2, 1) := dk_28 (dk_at dksX10_sharesOf_1 3 rfl rfl)
theorem dX10_sharesOf_28 : decode cX10_sharesOf 28 = .ok (.ireturn, 1) := dk_172 (dk_at dksX10_sharesOf_1 4 rfl rfl)
abbrev cX10_setHeir : ByteArray := prog_17_method_121_code
def yX10_setHeir : MethodName := ⟨RX10, "setHeir", "(III)I"⟩
def dkwX10_setHeir_3 : List UInt8 := [96, 29, 182, 1, 151, 172]
abbrev dktX10_setHeir_3 : List UInt8 := dkwX10_setHeir_3 ++ []
def dkwX10_setHeir_2 : List UInt8 := [167, 0, 4, 3, 21, 4, 182, 1, 43, 153, 0, 7, 3, 167, 0, 16, 42, 16, 9, 5, 27, 104, 96, 28]
abbrev dktX10_setHeir_2 : List UInt8 := dkwX10_setHeir_2 ++ dktX10_setHeir_3
def dkwX10_setHeir_1 : List UInt8 := [184, 0, 53, 154, 0, 7, 4, 167, 0, 4, 3, 54, 4, 42, 42, 27, 182, 1, 59, 154, 0, 7, 4]
abbrev dktX10_setHeir_1 : List UInt8 := dkwX10_setHeir_1 ++ dktX10_setHeir_2
def dkwX10_setHeir_0 : List UInt8 := [28, 3, 4, 184, 0, 53, 153, 0, 23, 29, 3, 28, 154, 0, 9, 17, 39, 15, 167, 0, 5, 16, 60]
abbrev dktX10_setHeir_0 : List UInt8 := dkwX10_setHeir_0 ++ dktX10_setHeir_1
theorem dksX10_setHeir_0 : cX10_setHeir.data.toList.drop 0 = dktX10_setHeir_0 := by decide +kernel
theorem dksX10_setHeir_1 : cX10_setHeir.data.toList.drop 23 = dktX10_setHeir_1 := dk_seg dksX10_setHeir_0 23 rfl rfl
theorem dksX10_setHeir_2 : cX10_setHeir.data.toList.drop 46 = dktX10_setHeir_2 := dk_seg dksX10_setHeir_1 23 rfl rfl
theorem dksX10_setHeir_3 : cX10_setHeir.data.toList.drop 70 = dktX10_setHeir_3 := dk_seg dksX10_setHeir_2 24 rfl rfl
theorem dX10_setHeir_0 : decode cX10_setHeir 0 = .ok (.iload_n 2, 1) := dk_28 (dk_at dksX10_setHeir_0 0 rfl rfl)
theorem dX10_setHeir_1 : decode cX10_setHeir 1 = .ok (.iconst 0, 1) := dk_3 (dk_at dksX10_setHeir_0 1 rfl rfl)
theorem dX10_setHeir_2 : decode cX10_setHeir 2 = .ok (.iconst 1, 1) := dk_4 (dk_at dksX10_setHeir_0 2 rfl rfl)
theorem dX10_setHeir_3 : decode cX10_setHeir 3 = .ok (.invokestatic 53, 3) := dk_184 0 53 (dk_at dksX10_setHeir_0 3 rfl rfl)
theorem dX10_setHeir_6 : decode cX10_setHeir 6 = .ok (.ifCond .eq 23, 3) := dk_153 0 23 (dk_at dksX10_setHeir_0 6 rfl rfl)
theorem dX10_setHeir_9 : decode cX10_setHeir 9 = .ok (.iload_n 3, 1) := dk_29 (dk_at dksX10_setHeir_0 9 rfl rfl)
theorem dX10_setHeir_10 : decode cX10_setHeir 10 = .ok (.iconst 0, 1) := dk_3 (dk_at dksX10_setHeir_0 10 rfl rfl)
theorem dX10_setHeir_11 : decode cX10_setHeir 11 = .ok (.iload_n 2, 1) := dk_28 (dk_at dksX10_setHeir_0 11 rfl rfl)
theorem dX10_setHeir_12 : decode cX10_setHeir 12 = .ok (.ifCond .ne 9, 3) := dk_154 0 9 (dk_at dksX10_setHeir_0 12 rfl rfl)
theorem dX10_setHeir_15 : decode cX10_setHeir 15 = .ok (.sipush 9999, 3) := dk_17 39 15 (dk_at dksX10_setHeir_0 15 rfl rfl)
theorem dX10_setHeir_18 : decode cX10_setHeir 18 = .ok (.goto 5, 3) := dk_167 0 5 (dk_at dksX10_setHeir_0 18 rfl rfl)
theorem dX10_setHeir_21 : decode cX10_setHeir 21 = .ok (.bipush 60, 2) := dk_16 60 (dk_at dksX10_setHeir_0 21 rfl rfl)
theorem dX10_setHeir_23 : decode cX10_setHeir 23 = .ok (.invokestatic 53, 3) := dk_184 0 53 (dk_at dksX10_setHeir_1 0 rfl rfl)
theorem dX10_setHeir_26 : decode cX10_setHeir 26 = .ok (.ifCond .ne 7, 3) := dk_154 0 7 (dk_at dksX10_setHeir_1 3 rfl rfl)
theorem dX10_setHeir_29 : decode cX10_setHeir 29 = .ok (.iconst 1, 1) := dk_4 (dk_at dksX10_setHeir_1 6 rfl rfl)
theorem dX10_setHeir_30 : decode cX10_setHeir 30 = .ok (.goto 4, 3) := dk_167 0 4 (dk_at dksX10_setHeir_1 7 rfl rfl)
theorem dX10_setHeir_33 : decode cX10_setHeir 33 = .ok (.iconst 0, 1) := dk_3 (dk_at dksX10_setHeir_1 10 rfl rfl)
theorem dX10_setHeir_34 : decode cX10_setHeir 34 = .ok (.istore 4, 2) := dk_54 4 (dk_at dksX10_setHeir_1 11 rfl rfl)
theorem dX10_setHeir_36 : decode cX10_setHeir 36 = .ok (.aload_n 0, 1) := dk_42 (dk_at dksX10_setHeir_1 13 rfl rfl)
theorem dX10_setHeir_37 : decode cX10_setHeir 37 = .ok (.aload_n 0, 1) := dk_42 (dk_at dksX10_setHeir_1 14 rfl rfl)
theorem dX10_setHeir_38 : decode cX10_setHeir 38 = .ok (.iload_n 1, 1) := dk_27 (dk_at dksX10_setHeir_1 15 rfl rfl)
theorem dX10_setHeir_39 : decode cX10_setHeir 39 = .ok (.invokevirtual 315, 3) := dk_182 1 59 (dk_at dksX10_setHeir_1 16 rfl rfl)
theorem dX10_setHeir_42 : decode cX10_setHeir 42 = .ok (.ifCond .ne 7, 3) := dk_154 0 7 (dk_at dksX10_setHeir_1 19 rfl rfl)
theorem dX10_setHeir_45 : decode cX10_setHeir 45 = .ok (.iconst 1, 1) := dk_4 (dk_at dksX10_setHeir_1 22 rfl rfl)
theorem dX10_setHeir_46 : decode cX10_setHeir 46 = .ok (.goto 4, 3) := dk_167 0 4 (dk_at dksX10_setHeir_2 0 rfl rfl)
theorem dX10_setHeir_49 : decode cX10_setHeir 49 = .ok (.iconst 0, 1) := dk_3 (dk_at dksX10_setHeir_2 3 rfl rfl)
theorem dX10_setHeir_50 : decode cX10_setHeir 50 = .ok (.iload 4, 2) := dk_21 4 (dk_at dksX10_setHeir_2 4 rfl rfl)
theorem dX10_setHeir_52 : decode cX10_setHeir 52 = .ok (.invokevirtual 299, 3) := dk_182 1 43 (dk_at dksX10_setHeir_2 6 rfl rfl)
theorem dX10_setHeir_55 : decode cX10_setHeir 55 = .ok (.ifCond .eq 7, 3) := dk_153 0 7 (dk_at dksX10_setHeir_2 9 rfl rfl)
theorem dX10_setHeir_58 : decode cX10_setHeir 58 = .ok (.iconst 0, 1) := dk_3 (dk_at dksX10_setHeir_2 12 rfl rfl)
theorem dX10_setHeir_59 : decode cX10_setHeir 59 = .ok (.goto 16, 3) := dk_167 0 16 (dk_at dksX10_setHeir_2 13 rfl rfl)
theorem dX10_setHeir_62 : decode cX10_setHeir 62 = .ok (.aload_n 0, 1) := dk_42 (dk_at dksX10_setHeir_2 16 rfl rfl)
theorem dX10_setHeir_63 : decode cX10_setHeir 63 = .ok (.bipush 9, 2) := dk_16 9 (dk_at dksX10_setHeir_2 17 rfl rfl)
theorem dX10_setHeir_65 : decode cX10_setHeir 65 = .ok (.iconst 2, 1) := dk_5 (dk_at dksX10_setHeir_2 19 rfl rfl)
theorem dX10_setHeir_66 : decode cX10_setHeir 66 = .ok (.iload_n 1, 1) := dk_27 (dk_at dksX10_setHeir_2 20 rfl rfl)
theorem dX10_setHeir_67 : decode cX10_setHeir 67 = .ok (.imul, 1) := dk_104 (dk_at dksX10_setHeir_2 21 rfl rfl)
theorem dX10_setHeir_68 : decode cX10_setHeir 68 = .ok (.iadd, 1) := dk_96 (dk_at dksX10_setHeir_2 22 rfl rfl)
theorem dX10_setHeir_69 : decode cX10_setHeir 69 = .ok (.iload_n 2, 1) := dk_28 (dk_at dksX10_setHeir_2 23 rfl rfl)
theorem dX10_setHeir_70 : decode cX10_setHeir 70 = .ok (.iadd, 1) := dk_96 (dk_at dksX10_setHeir_3 0 rfl rfl)
theorem dX10_setHeir_71 : decode cX10_setHeir 71 = .ok (.iload_n 3, 1) := dk_29 (dk_at dksX10_setHeir_3 1 rfl rfl)
theorem dX10_setHeir_72 : decode cX10_setHeir 72 = .ok (.invokevirtual 407, 3) := dk_182 1 151 (dk_at dksX10_setHeir_3 2 rfl rfl)
theorem dX10_setHeir_75 : decode cX10_setHeir 75 = .ok (.ireturn, 1) := dk_172 (dk_at dksX10_setHeir_3 5 rfl rfl)
abbrev cX10_sets : ByteArray := prog_17_method_120_code
def yX10_sets : MethodName := ⟨RX10, "sets", "(II)I"⟩
def dkwX10_sets_0 : List UInt8 := [42, 182, 1, 139, 42, 180, 0, 7, 27, 46, 62, 42, 180, 0, 7, 27, 28, 79, 42, 182, 1, 142, 29, 172]
abbrev dktX10_sets_0 : List UInt8 := dkwX10_sets_0 ++ []
theorem dksX10_sets_0 : cX10_sets.data.toList.drop 0 = dktX10_sets_0 := by decide +kernel
theorem dX10_sets_0 : decode cX10_sets 0 = .ok (.aload_n 0, 1) := dk_42 (dk_at dksX10_sets_0 0 rfl rfl)
theorem dX10_sets_1 : decode cX10_sets 1 = .ok (.invokevirtual 395, 3) := dk_182 1 139 (dk_at dksX10_sets_0 1 rfl rfl)
theorem dX10_sets_4 : decode cX10_sets 4 = .ok (.aload_n 0, 1) := dk_42 (dk_at dksX10_sets_0 4 rfl rfl)
theorem dX10_sets_5 : decode cX10_sets 5 = .ok (.getfield 7, 3) := dk_180 0 7 (dk_at dksX10_sets_0 5 rfl rfl)
theorem dX10_sets_8 : decode cX10_sets 8 = .ok (.iload_n 1, 1) := dk_27 (dk_at dksX10_sets_0 8 rfl rfl)
theorem dX10_sets_9 : decode cX10_sets 9 = .ok (.iaload, 1) := dk_46 (dk_at dksX10_sets_0 9 rfl rfl)
theorem dX10_sets_10 : decode cX10_sets 10 = .ok (.istore_n 3, 1) := dk_62 (dk_at dksX10_sets_0 10 rfl rfl)
theorem dX10_sets_11 : decode cX10_sets 11 = .ok (.aload_n 0, 1) := dk_42 (dk_at dksX10_sets_0 11 rfl rfl)
theorem dX10_sets_12 : decode cX10_sets 12 = .ok (.getfield 7, 3) := dk_180 0 7 (dk_at dksX10_sets_0 12 rfl rfl)
theorem dX10_sets_15 : decode cX10_sets 15 = .ok (.iload_n 1, 1) := dk_27 (dk_at dksX10_sets_0 15 rfl rfl)
theorem dX10_sets_16 : decode cX10_sets 16 = .ok (.iload_n 2, 1) := dk_28 (dk_at dksX10_sets_0 16 rfl rfl)
theorem dX10_sets_17 : decode cX10_sets 17 = .ok (.iastore, 1) := dk_79 (dk_at dksX10_sets_0 17 rfl rfl)
theorem dX10_sets_18 : decode cX10_sets 18 = .ok (.aload_n 0, 1) := dk_42 (dk_at dksX10_sets_0 18 rfl rfl)
theorem dX10_sets_19 : decode cX10_sets 19 = .ok (.invokevirtual 398, 3) := dk_182 1 142 (dk_at dksX10_sets_0 19 rfl rfl)
theorem dX10_sets_22 : decode cX10_sets 22 = .ok (.iload_n 3, 1) := dk_29 (dk_at dksX10_sets_0 22 rfl rfl)
theorem dX10_sets_23 : decode cX10_sets 23 = .ok (.ireturn, 1) := dk_172 (dk_at dksX10_sets_0 23 rfl rfl)
abbrev cX10_setRest : ByteArray := prog_17_method_122_code
def yX10_setRest : MethodName := ⟨RX10, "setRest", "(I)I"⟩
def dkwX10_setRest_1 : List UInt8 := [42, 16, 6, 27, 182, 1, 151, 172]
abbrev dktX10_setRest_1 : List UInt8 := dkwX10_setRest_1 ++ []
def dkwX10_setRest_0 : List UInt8 := [42, 42, 27, 182, 1, 59, 154, 0, 7, 4, 167, 0, 4, 3, 182, 1, 24, 153, 0, 7, 3, 167, 0, 10]
abbrev dktX10_setRest_0 : List UInt8 := dkwX10_setRest_0 ++ dktX10_setRest_1
theorem dksX10_setRest_0 : cX10_setRest.data.toList.drop 0 = dktX10_setRest_0 := by decide +kernel
theorem dksX10_setRest_1 : cX10_setRest.data.toList.drop 24 = dktX10_setRest_1 := dk_seg dksX10_setRest_0 24 rfl rfl
theorem dX10_setRest_0 : decode cX10_setRest 0 = .ok (.aload_n 0, 1) := dk_42 (dk_at dksX10_setRest_0 0 rfl rfl)
theorem dX10_setRest_1 : decode cX10_setRest 1 = .ok (.aload_n 0, 1) := dk_42 (dk_at dksX10_setRest_0 1 rfl rfl)
theorem dX10_setRest_2 : decode cX10_setRest 2 = .ok (.iload_n 1, 1) := dk_27 (dk_at dksX10_setRest_0 2 rfl rfl)
theorem dX10_setRest_3 : decode cX10_setRest 3 = .ok (.invokevirtual 315, 3) := dk_182 1 59 (dk_at dksX10_setRest_0 3 rfl rfl)
theorem dX10_setRest_6 : decode cX10_setRest 6 = .ok (.ifCond .ne 7, 3) := dk_154 0 7 (dk_at dksX10_setRest_0 6 rfl rfl)
theorem dX10_setRest_9 : decode cX10_setRest 9 = .ok (.iconst 1, 1) := dk_4 (dk_at dksX10_setRest_0 9 rfl rfl)
theorem dX10_setRest_10 : decode cX10_setRest 10 = .ok (.goto 4, 3) := dk_167 0 4 (dk_at dksX10_setRest_0 10 rfl rfl)
theorem dX10_setRest_13 : decode cX10_setRest 13 = .ok (.iconst 0, 1) := dk_3 (dk_at dksX10_setRest_0 13 rfl rfl)
theorem dX10_setRest_14 : decode cX10_setRest 14 = .ok (.invokevirtual 280, 3) := dk_182 1 24 (dk_at dksX10_setRest_0 14 rfl rfl)
theorem dX10_setRest_17 : decode cX10_setRest 17 = .ok (.ifCond .eq 7, 3) := dk_153 0 7 (dk_at dksX10_setRest_0 17 rfl rfl)
theorem dX10_setRest_20 : decode cX10_setRest 20 = .ok (.iconst 0, 1) := dk_3 (dk_at dksX10_setRest_0 20 rfl rfl)
theorem dX10_setRest_21 : decode cX10_setRest 21 = .ok (.goto 10, 3) := dk_167 0 10 (dk_at dksX10_setRest_0 21 rfl rfl)
theorem dX10_setRest_24 : decode cX10_setRest 24 = .ok (.aload_n 0, 1) := dk_42 (dk_at dksX10_setRest_1 0 rfl rfl)
theorem dX10_setRest_25 : decode cX10_setRest 25 = .ok (.bipush 6, 2) := dk_16 6 (dk_at dksX10_setRest_1 1 rfl rfl)
theorem dX10_setRest_27 : decode cX10_setRest 27 = .ok (.iload_n 1, 1) := dk_27 (dk_at dksX10_setRest_1 3 rfl rfl)
theorem dX10_setRest_28 : decode cX10_setRest 28 = .ok (.invokevirtual 407, 3) := dk_182 1 151 (dk_at dksX10_setRest_1 4 rfl rfl)
theorem dX10_setRest_31 : decode cX10_setRest 31 = .ok (.ireturn, 1) := dk_172 (dk_at dksX10_setRest_1 7 rfl rfl)
abbrev cX10_setEstate : ByteArray := prog_17_method_123_code
def yX10_setEstate : MethodName := ⟨RX10, "setEstate", "(I)I"⟩
def dkwX10_setEstate_1 : List UInt8 := [167, 0, 10, 42, 16, 7, 27, 182, 1, 151, 172]
abbrev dktX10_setEstate_1 : List UInt8 := dkwX10_setEstate_1 ++ []
def dkwX10_setEstate_0 : List UInt8 := [42, 27, 3, 17, 39, 15, 184, 0, 53, 154, 0, 7, 4, 167, 0, 4, 3, 182, 1, 24, 153, 0, 7, 3]
abbrev dktX10_setEstate_0 : List UInt8 := dkwX10_setEstate_0 ++ dktX10_setEstate_1
theorem dksX10_setEstate_0 : cX10_setEstate.data.toList.drop 0 = dktX10_setEstate_0 := by decide +kernel
theorem dksX10_setEstate_1 : cX10_setEstate.data.toList.drop 24 = dktX10_setEstate_1 := dk_seg dksX10_setEstate_0 24 rfl rfl
theorem dX10_setEstate_0 : decode cX10_setEstate 0 = .ok (.aload_n 0, 1) := dk_42 (dk_at dksX10_setEstate_0 0 rfl rfl)
theorem dX10_setEstate_1 : decode cX10_setEstate 1 = .ok (.iload_n 1, 1) := dk_27 (dk_at dksX10_setEstate_0 1 rfl rfl)
theorem dX10_setEstate_2 : decode cX10_setEstate 2 = .ok (.iconst 0, 1) := dk_3 (dk_at dksX10_setEstate_0 2 rfl rfl)
theorem dX10_setEstate_3 : decode cX10_setEstate 3 = .ok (.sipush 9999, 3) := dk_17 39 15 (dk_at dksX10_setEstate_0 3 rfl rfl)
theorem dX10_setEstate_6 : decode cX10_setEstate 6 = .ok (.invokestatic 53, 3) := dk_184 0 53 (dk_at dksX10_setEstate_0 6 rfl rfl)
theorem dX10_setEstate_9 : decode cX10_setEstate 9 = .ok (.ifCond .ne 7, 3) := dk_154 0 7 (dk_at dksX10_setEstate_0 9 rfl rfl)
theorem dX10_setEstate_12 : decode cX10_setEstate 12 = .ok (.iconst 1, 1) := dk_4 (dk_at dksX10_setEstate_0 12 rfl rfl)
theorem dX10_setEstate_13 : decode cX10_setEstate 13 = .ok (.goto 4, 3) := dk_167 0 4 (dk_at dksX10_setEstate_0 13 rfl rfl)
theorem dX10_setEstate_16 : decode cX10_setEstate 16 = .ok (.iconst 0, 1) := dk_3 (dk_at dksX10_setEstate_0 16 rfl rfl)
theorem dX10_setEstate_17 : decode cX10_setEstate 17 = .ok (.invokevirtual 280, 3) := dk_182 1 24 (dk_at dksX10_setEstate_0 17 rfl rfl)
theorem dX10_setEstate_20 : decode cX10_setEstate 20 = .ok (.ifCond .eq 7, 3) := dk_153 0 7 (dk_at dksX10_setEstate_0 20 rfl rfl)
theorem dX10_setEstate_23 : decode cX10_setEstate 23 = .ok (.iconst 0, 1) := dk_3 (dk_at dksX10_setEstate_0 23 rfl rfl)
theorem dX10_setEstate_24 : decode cX10_setEstate 24 = .ok (.goto 10, 3) := dk_167 0 10 (dk_at dksX10_setEstate_1 0 rfl rfl)
theorem dX10_setEstate_27 : decode cX10_setEstate 27 = .ok (.aload_n 0, 1) := dk_42 (dk_at dksX10_setEstate_1 3 rfl rfl)
theorem dX10_setEstate_28 : decode cX10_setEstate 28 = .ok (.bipush 7, 2) := dk_16 7 (dk_at dksX10_setEstate_1 4 rfl rfl)
theorem dX10_setEstate_30 : decode cX10_setEstate 30 = .ok (.iload_n 1, 1) := dk_27 (dk_at dksX10_setEstate_1 6 rfl rfl)
theorem dX10_setEstate_31 : decode cX10_setEstate 31 = .ok (.invokevirtual 407, 3) := dk_182 1 151 (dk_at dksX10_setEstate_1 7 rfl rfl)
theorem dX10_setEstate_34 : decode cX10_setEstate 34 = .ok (.ireturn, 1) := dk_172 (dk_at dksX10_setEstate_1 10 rfl rfl)
abbrev cX10_setValue : ByteArray := prog_17_method_124_code
def yX10_setValue : MethodName := ⟨RX10, "setValue", "(II)I"⟩
def dkwX10_setValue_5 : List UInt8 := [172]
abbrev dktX10_setValue_5 : List UInt8 := dkwX10_setValue_5 ++ []
def dkwX10_setValue_4 : List UInt8 := [180, 0, 7, 16, 8, 46, 27, 182, 0, 65, 100, 104, 96, 182, 1, 151, 87, 42, 180, 0, 7, 16, 8, 46]
abbrev dktX10_setValue_4 : List UInt8 := dkwX10_setValue_4 ++ dktX10_setValue_5
def dkwX10_setValue_3 : List UInt8 := [96, 46, 104, 62, 132, 4, 1, 167, 255, 235, 42, 16, 8, 42, 180, 0, 7, 16, 8, 46, 29, 28, 42, 42]
abbrev dktX10_setValue_3 : List UInt8 := dkwX10_setValue_3 ++ dktX10_setValue_4
def dkwX10_setValue_2 : List UInt8 := [153, 0, 5, 3, 172, 4, 62, 3, 54, 4, 21, 4, 27, 162, 0, 21, 29, 42, 180, 0, 7, 4, 21, 4]
abbrev dktX10_setValue_2 : List UInt8 := dkwX10_setValue_2 ++ dktX10_setValue_3
def dkwX10_setValue_1 : List UInt8 := [42, 180, 0, 7, 4, 27, 96, 46, 4, 100, 184, 0, 53, 154, 0, 7, 4, 167, 0, 4, 3, 182, 1, 43]
abbrev dktX10_setValue_1 : List UInt8 := dkwX10_setValue_1 ++ dktX10_setValue_2
def dkwX10_setValue_0 : List UInt8 := [42, 42, 27, 182, 0, 176, 154, 0, 7, 4, 167, 0, 4, 3, 42, 27, 182, 0, 176, 153, 0, 25, 28, 3]
abbrev dktX10_setValue_0 : List UInt8 := dkwX10_setValue_0 ++ dktX10_setValue_1
theorem dksX10_setValue_0 : cX10_setValue.data.toList.drop 0 = dktX10_setValue_0 := by decide +kernel
theorem dksX10_setValue_1 : cX10_setValue.data.toList.drop 24 = dktX10_setValue_1 := dk_seg dksX10_setValue_0 24 rfl rfl
theorem dksX10_setValue_2 : cX10_setValue.data.toList.drop 48 = dktX10_setValue_2 := dk_seg dksX10_setValue_1 24 rfl rfl
theorem dksX10_setValue_3 : cX10_setValue.data.toList.drop 72 = dktX10_setValue_3 := dk_seg dksX10_setValue_2 24 rfl rfl
theorem dksX10_setValue_4 : cX10_setValue.data.toList.drop 96 = dktX10_setValue_4 := dk_seg dksX10_setValue_3 24 rfl rfl
theorem dksX10_setValue_5 : cX10_setValue.data.toList.drop 120 = dktX10_setValue_5 := dk_seg dksX10_setValue_4 24 rfl rfl
theorem dX10_setValue_0 : decode cX10_setValue 0 = .ok (.aload_n 0, 1) := dk_42 (dk_at dksX10_setValue_0 0 rfl rfl)
theorem dX10_setValue_1 : decode cX10_setValue 1 = .ok (.aload_n 0, 1) := dk_42 (dk_at dksX10_setValue_0 1 rfl rfl)
theorem dX10_setValue_2 : decode cX10_setValue 2 = .ok (.iload_n 1, 1) := dk_27 (dk_at dksX10_setValue_0 2 rfl rfl)
theorem dX10_setValue_3 : decode cX10_setValue 3 = .ok (.invokevirtual 176, 3) := dk_182 0 176 (dk_at dksX10_setValue_0 3 rfl rfl)
theorem dX10_setValue_6 : decode cX10_setValue 6 = .ok (.ifCond .ne 7, 3) := dk_154 0 7 (dk_at dksX10_setValue_0 6 rfl rfl)
theorem dX10_setValue_9 : decode cX10_setValue 9 = .ok (.iconst 1, 1) := dk_4 (dk_at dksX10_setValue_0 9 rfl rfl)
theorem dX10_setValue_10 : decode cX10_setValue 10 = .ok (.goto 4, 3) := dk_167 0 4 (dk_at dksX10_setValue_0 10 rfl rfl)
theorem dX10_setValue_13 : decode cX10_setValue 13 = .ok (.iconst 0, 1) := dk_3 (dk_at dksX10_setValue_0 13 rfl rfl)
theorem dX10_setValue_14 : decode cX10_setValue 14 = .ok (.aload_n 0, 1) := dk_42 (dk_at dksX10_setValue_0 14 rfl rfl)
theorem dX10_setValue_15 : decode cX10_setValue 15 = .ok (.iload_n 1, 1) := dk_27 (dk_at dksX10_setValue_0 15 rfl rfl)
theorem dX10_setValue_16 : decode cX10_setValue 16 = .ok (.invokevirtual 176, 3) := dk_182 0 176 (dk_at dksX10_setValue_0 16 rfl rfl)
theorem dX10_setValue_19 : decode cX10_setValue 19 = .ok (.ifCond .eq 25, 3) := dk_153 0 25 (dk_at dksX10_setValue_0 19 rfl rfl)
theorem dX10_setValue_22 : decode cX10_setValue 22 = .ok (.iload_n 2, 1) := dk_28 (dk_at dksX10_setValue_0 22 rfl rfl)
theorem dX10_setValue_23 : decode cX10_setValue 23 = .ok (.iconst 0, 1) := dk_3 (dk_at dksX10_setValue_0 23 rfl rfl)
theorem dX10_setValue_24 : decode cX10_setValue 24 = .ok (.aload_n 0, 1) := dk_42 (dk_at dksX10_setValue_1 0 rfl rfl)
theorem dX10_setValue_25 : decode cX10_setValue 25 = .ok (.getfield 7, 3) := dk_180 0 7 (dk_at dksX10_setValue_1 1 rfl rfl)
theorem dX10_setValue_28 : decode cX10_setValue 28 = .ok (.iconst 1, 1) := dk_4 (dk_at dksX10_setValue_1 4 rfl rfl)
theorem dX10_setValue_29 : decode cX10_setValue 29 = .ok (.iload_n 1, 1) := dk_27 (dk_at dksX10_setValue_1 5 rfl rfl)
theorem dX10_setValue_30 : decode cX10_setValue 30 = .ok (.iadd, 1) := dk_96 (dk_at dksX10_setValue_1 6 rfl rfl)
theorem dX10_setValue_31 : decode cX10_setValue 31 = .ok (.iaload, 1) := dk_46 (dk_at dksX10_setValue_1 7 rfl rfl)
theorem dX10_setValue_32 : decode cX10_setValue 32 = .ok (.iconst 1, 1) := dk_4 (dk_at dksX10_setValue_1 8 rfl rfl)
theorem dX10_setValue_33 : decode cX10_setValue 33 = .ok (.isub, 1) := dk_100 (dk_at dksX10_setValue_1 9 rfl rfl)
theorem dX10_setValue_34 : decode cX10_setValue 34 = .ok (.invokestatic 53, 3) := dk_184 0 53 (dk_at dksX10_setValue_1 10 rfl rfl)
theorem dX10_setValue_37 : decode cX10_setValue 37 = .ok (.ifCond .ne 7, 3) := dk_154 0 7 (dk_at dksX10_setValue_1 13 rfl rfl)
theorem dX10_setValue_40 : decode cX10_setValue 40 = .ok (.iconst 1, 1) := dk_4 (dk_at dksX10_setValue_1 16 rfl rfl)
theorem dX10_setValue_41 : decode cX10_setValue 41 = .ok (.goto 4, 3) := dk_167 0 4 (dk_at dksX10_setValue_1 17 rfl rfl)
theorem dX10_setValue_44 : decode cX10_setValue 44 = .ok (.iconst 0, 1) := dk_3 (dk_at dksX10_setValue_1 20 rfl rfl)
theorem dX10_setValue_45 : decode cX10_setValue 45 = .ok (.invokevirtual 299, 3) := dk_182 1 43 (dk_at dksX10_setValue_1 21 rfl rfl)
theorem dX10_setValue_48 : decode cX10_setValue 48 = .ok (.ifCond .eq 5, 3) := dk_153 0 5 (dk_at dksX10_setValue_2 0 rfl rfl)
theorem dX10_setValue_51 : decode cX10_setValue 51 = .ok (.iconst 0, 1) := dk_3 (dk_at dksX10_setValue_2 3 rfl rfl)
theorem dX10_setValue_52 : decode cX10_setValue 52 = .ok (.ireturn, 1) := dk_172 (dk_at dksX10_setValue_2 4 rfl rfl)
theorem dX10_setValue_53 : decode cX10_setValue 53 = .ok (.iconst 1, 1) := dk_4 (dk_at dksX10_setValue_2 5 rfl rfl)
theorem dX10_setValue_54 : decode cX10_setValue 54 = .ok (.istore_n 3, 1) := dk_62 (dk_at dksX10_setValue_2 6 rfl rfl)
theorem dX10_setValue_55 : decode cX10_setValue 55 = .ok (.iconst 0, 1) := dk_3 (dk_at dksX10_setValue_2 7 rfl rfl)
theorem dX10_setValue_56 : decode cX10_setValue 56 = .ok (.istore 4, 2) := dk_54 4 (dk_at dksX10_setValue_2 8 rfl rfl)
theorem dX10_setValue_58 : decode cX10_setValue 58 = .ok (.iload 4, 2) := dk_21 4 (dk_at dksX10_setValue_2 10 rfl rfl)
theorem dX10_setValue_60 : decode cX10_setValue 60 = .ok (.iload_n 1, 1) := dk_27 (dk_at dksX10_setValue_2 12 rfl rfl)
theorem dX10_setValue_61 : decode cX10_setValue 61 = .ok (.if_icmp .ge 21, 3) := dk_162 0 21 (dk_at dksX10_setValue_2 13 rfl rfl)
theorem dX10_setValue_64 : decode cX10_setValue 64 = .ok (.iload_n 3, 1) := dk_29 (dk_at dksX10_setValue_2 16 rfl rfl)
theorem dX10_setValue_65 : decode cX10_setValue 65 = .ok (.aload_n 0, 1) := dk_42 (dk_at dksX10_setValue_2 17 rfl rfl)
theorem dX10_setValue_66 : decode cX10_setValue 66 = .ok (.getfield 7, 3) := dk_180 0 7 (dk_at dksX10_setValue_2 18 rfl rfl)
theorem dX10_setValue_69 : decode cX10_setValue 69 = .ok (.iconst 1, 1) := dk_4 (dk_at dksX10_setValue_2 21 rfl rfl)
theorem dX10_setValue_70 : decode cX10_setValue 70 = .ok (.iload 4, 2) := dk_21 4 (dk_at dksX10_setValue_2 22 rfl rfl)
theorem dX10_setValue_72 : decode cX10_setValue 72 = .ok (.iadd, 1) := dk_96 (dk_at dksX10_setValue_3 0 rfl rfl)
theorem dX10_setValue_73 : decode cX10_setValue 73 = .ok (.iaload, 1) := dk_46 (dk_at dksX10_setValue_3 1 rfl rfl)
theorem dX10_setValue_74 : decode cX10_setValue 74 = .ok (.imul, 1) := dk_104 (dk_at dksX10_setValue_3 2 rfl rfl)
theorem dX10_setValue_75 : decode cX10_setValue 75 = .ok (.istore_n 3, 1) := dk_62 (dk_at dksX10_setValue_3 3 rfl rfl)
theorem dX10_setValue_76 : decode cX10_setValue 76 = .ok (.iinc 4 1, 3) := dk_132 4 1 (dk_at dksX10_setValue_3 4 rfl rfl)
theorem dX10_setValue_79 : decode cX10_setValue 79 = .ok (.goto (-21), 3) := dk_167 255 235 (dk_at dksX10_setValue_3 7 rfl rfl)
theorem dX10_setValue_82 : decode cX10_setValue 82 = .ok (.aload_n 0, 1) := dk_42 (dk_at dksX10_setValue_3 10 rfl rfl)
theorem dX10_setValue_83 : decode cX10_setValue 83 = .ok (.bipush 8, 2) := dk_16 8 (dk_at dksX10_setValue_3 11 rfl rfl)
theorem dX10_setValue_85 : decode cX10_setValue 85 = .ok (.aload_n 0, 1) := dk_42 (dk_at dksX10_setValue_3 13 rfl rfl)
theorem dX10_setValue_86 : decode cX10_setValue 86 = .ok (.getfield 7, 3) := dk_180 0 7 (dk_at dksX10_setValue_3 14 rfl rfl)
theorem dX10_setValue_89 : decode cX10_setValue 89 = .ok (.bipush 8, 2) := dk_16 8 (dk_at dksX10_setValue_3 17 rfl rfl)
theorem dX10_setValue_91 : decode cX10_setValue 91 = .ok (.iaload, 1) := dk_46 (dk_at dksX10_setValue_3 19 rfl rfl)
theorem dX10_setValue_92 : decode cX10_setValue 92 = .ok (.iload_n 3, 1) := dk_29 (dk_at dksX10_setValue_3 20 rfl rfl)
theorem dX10_setValue_93 : decode cX10_setValue 93 = .ok (.iload_n 2, 1) := dk_28 (dk_at dksX10_setValue_3 21 rfl rfl)
theorem dX10_setValue_94 : decode cX10_setValue 94 = .ok (.aload_n 0, 1) := dk_42 (dk_at dksX10_setValue_3 22 rfl rfl)
theorem dX10_setValue_95 : decode cX10_setValue 95 = .ok (.aload_n 0, 1) := dk_42 (dk_at dksX10_setValue_3 23 rfl rfl)
theorem dX10_setValue_96 : decode cX10_setValue 96 = .ok (.getfield 7, 3) := dk_180 0 7 (dk_at dksX10_setValue_4 0 rfl rfl)
theorem dX10_setValue_99 : decode cX10_setValue 99 = .ok (.bipush 8, 2) := dk_16 8 (dk_at dksX10_setValue_4 3 rfl rfl)
theorem dX10_setValue_101 : decode cX10_setValue 101 = .ok (.iaload, 1) := dk_46 (dk_at dksX10_setValue_4 5 rfl rfl)
theorem dX10_setValue_102 : decode cX10_setValue 102 = .ok (.iload_n 1, 1) := dk_27 (dk_at dksX10_setValue_4 6 rfl rfl)
theorem dX10_setValue_103 : decode cX10_setValue 103 = .ok (.invokevirtual 65, 3) := dk_182 0 65 (dk_at dksX10_setValue_4 7 rfl rfl)
theorem dX10_setValue_106 : decode cX10_setValue 106 = .ok (.isub, 1) := dk_100 (dk_at dksX10_setValue_4 10 rfl rfl)
theorem dX10_setValue_107 : decode cX10_setValue 107 = .ok (.imul, 1) := dk_104 (dk_at dksX10_setValue_4 11 rfl rfl)
theorem dX10_setValue_108 : decode cX10_setValue 108 = .ok (.iadd, 1) := dk_96 (dk_at dksX10_setValue_4 12 rfl rfl)
theorem dX10_setValue_109 : decode cX10_setValue 109 = .ok (.invokevirtual 407, 3) := dk_182 1 151 (dk_at dksX10_setValue_4 13 rfl rfl)
theorem dX10_setValue_112 : decode cX10_setValue 112 = .ok (.pop, 1) := dk_87 (dk_at dksX10_setValue_4 16 rfl rfl)
theorem dX10_setValue_113 : decode cX10_setValue 113 = .ok (.aload_n 0, 1) := dk_42 (dk_at dksX10_setValue_4 17 rfl rfl)
theorem dX10_setValue_114 : decode cX10_setValue 114 = .ok (.getfield 7, 3) := dk_180 0 7 (dk_at dksX10_setValue_4 18 rfl rfl)
theorem dX10_setValue_117 : decode cX10_setValue 117 = .ok (.bipush 8, 2) := dk_16 8 (dk_at dksX10_setValue_4 21 rfl rfl)
theorem dX10_setValue_119 : decode cX10_setValue 119 = .ok (.iaload, 1) := dk_46 (dk_at dksX10_setValue_4 23 rfl rfl)
theorem dX10_setValue_120 : decode cX10_setValue 120 = .ok (.ireturn, 1) := dk_172 (dk_at dksX10_setValue_5 0 rfl rfl)
abbrev cX10_undo : ByteArray := prog_17_method_125_code
def yX10_undo : MethodName := ⟨RX10, "undo", "()I"⟩
def dkwX10_undo_2 : List UInt8 := [180, 1, 12, 104, 27, 96, 46, 79, 132, 1, 1, 167, 255, 225, 42, 180, 1, 12, 172]
abbrev dktX10_undo_2 : List UInt8 := dkwX10_undo_2 ++ []
def dkwX10_undo_1 : List UInt8 := [3, 60, 27, 17, 1, 102, 162, 0, 30, 42, 180, 0, 7, 27, 42, 180, 0, 19, 17, 1, 102, 42]
abbrev dktX10_undo_1 : List UInt8 := dkwX10_undo_1 ++ dktX10_undo_2
def dkwX10_undo_0 : List UInt8 := [42, 3, 181, 0, 45, 42, 180, 1, 12, 154, 0, 5, 2, 172, 42, 89, 180, 1, 12, 4, 100, 181, 1, 12]
abbrev dktX10_undo_0 : List UInt8 := dkwX10_undo_0 ++ dktX10_undo_1
theorem dksX10_undo_0 : cX10_undo.data.toList.drop 0 = dktX10_undo_0 := by decide +kernel
theorem dksX10_undo_1 : cX10_undo.data.toList.drop 24 = dktX10_undo_1 := dk_seg dksX10_undo_0 24 rfl rfl
theorem dksX10_undo_2 : cX10_undo.data.toList.drop 46 = dktX10_undo_2 := dk_seg dksX10_undo_1 22 rfl rfl
theorem dX10_undo_0 : decode cX10_undo 0 = .ok (.aload_n 0, 1) := dk_42 (dk_at dksX10_undo_0 0 rfl rfl)
theorem dX10_undo_1 : decode cX10_undo 1 = .ok (.iconst 0, 1) := dk_3 (dk_at dksX10_undo_0 1 rfl rfl)
theorem dX10_undo_2 : decode cX10_undo 2 = .ok (.putfield 45, 3) := dk_181 0 45 (dk_at dksX10_undo_0 2 rfl rfl)
theorem dX10_undo_5 : decode cX10_undo 5 = .ok (.aload_n 0, 1) := dk_42 (dk_at dksX10_undo_0 5 rfl rfl)
theorem dX10_undo_6 : decode cX10_undo 6 = .ok (.getfield 268, 3) := dk_180 1 12 (dk_at dksX10_undo_0 6 rfl rfl)
theorem dX10_undo_9 : decode cX10_undo 9 = .ok (.ifCond .ne 5, 3) := dk_154 0 5 (dk_at dksX10_undo_0 9 rfl rfl)
theorem dX10_undo_12 : decode cX10_undo 12 = .ok (.iconst (-1), 1) := dk_2 (dk_at dksX10_undo_0 12 rfl rfl)
theorem dX10_undo_13 : decode cX10_undo 13 = .ok (.ireturn, 1) := dk_172 (dk_at dksX10_undo_0 13 rfl rfl)
theorem dX10_undo_14 : decode cX10_undo 14 = .ok (.aload_n 0, 1) := dk_42 (dk_at dksX10_undo_0 14 rfl rfl)
theorem dX10_undo_15 : decode cX10_undo 15 = .ok (.dup, 1) := dk_89 (dk_at dksX10_undo_0 15 rfl rfl)
theorem dX10_undo_16 : decode cX10_undo 16 = .ok (.getfield 268, 3) := dk_180 1 12 (dk_at dksX10_undo_0 16 rfl rfl)
theorem dX10_undo_19 : decode cX10_undo 19 = .ok (.iconst 1, 1) := dk_4 (dk_at dksX10_undo_0 19 rfl rfl)
theorem dX10_undo_20 : decode cX10_undo 20 = .ok (.isub, 1) := dk_100 (dk_at dksX10_undo_0 20 rfl rfl)
theorem dX10_undo_21 : decode cX10_undo 21 = .ok (.putfield 268, 3) := dk_181 1 12 (dk_at dksX10_undo_0 21 rfl rfl)
theorem dX10_undo_24 : decode cX10_undo 24 = .ok (.iconst 0, 1) := dk_3 (dk_at dksX10_undo_1 0 rfl rfl)
theorem dX10_undo_25 : decode cX10_undo 25 = .ok (.istore_n 1, 1) := dk_60 (dk_at dksX10_undo_1 1 rfl rfl)
theorem dX10_undo_26 : decode cX10_undo 26 = .ok (.iload_n 1, 1) := dk_27 (dk_at dksX10_undo_1 2 rfl rfl)
theorem dX10_undo_27 : decode cX10_undo 27 = .ok (.sipush 358, 3) := dk_17 1 102 (dk_at dksX10_undo_1 3 rfl rfl)
theorem dX10_undo_30 : decode cX10_undo 30 = .ok (.if_icmp .ge 30, 3) := dk_162 0 30 (dk_at dksX10_undo_1 6 rfl rfl)
theorem dX10_undo_33 : decode cX10_undo 33 = .ok (.aload_n 0, 1) := dk_42 (dk_at dksX10_undo_1 9 rfl rfl)
theorem dX10_undo_34 : decode cX10_undo 34 = .ok (.getfield 7, 3) := dk_180 0 7 (dk_at dksX10_undo_1 10 rfl rfl)
theorem dX10_undo_37 : decode cX10_undo 37 = .ok (.iload_n 1, 1) := dk_27 (dk_at dksX10_undo_1 13 rfl rfl)
theorem dX10_undo_38 : decode cX10_undo 38 = .ok (.aload_n 0, 1) := dk_42 (dk_at dksX10_undo_1 14 rfl rfl)
theorem dX10_undo_39 : decode cX10_undo 39 = .ok (.getfield 19, 3) := dk_180 0 19 (dk_at dksX10_undo_1 15 rfl rfl)
theorem dX10_undo_42 : decode cX10_undo 42 = .ok (.sipush 358, 3) := dk_17 1 102 (dk_at dksX10_undo_1 18 rfl rfl)
theorem dX10_undo_45 : decode cX10_undo 45 = .ok (.aload_n 0, 1) := dk_42 (dk_at dksX10_undo_1 21 rfl rfl)
theorem dX10_undo_46 : decode cX10_undo 46 = .ok (.getfield 268, 3) := dk_180 1 12 (dk_at dksX10_undo_2 0 rfl rfl)
theorem dX10_undo_49 : decode cX10_undo 49 = .ok (.imul, 1) := dk_104 (dk_at dksX10_undo_2 3 rfl rfl)
theorem dX10_undo_50 : decode cX10_undo 50 = .ok (.iload_n 1, 1) := dk_27 (dk_at dksX10_undo_2 4 rfl rfl)
theorem dX10_undo_51 : decode cX10_undo 51 = .ok (.iadd, 1) := dk_96 (dk_at dksX10_undo_2 5 rfl rfl)
theorem dX10_undo_52 : decode cX10_undo 52 = .ok (.iaload, 1) := dk_46 (dk_at dksX10_undo_2 6 rfl rfl)
theorem dX10_undo_53 : decode cX10_undo 53 = .ok (.iastore, 1) := dk_79 (dk_at dksX10_undo_2 7 rfl rfl)
theorem dX10_undo_54 : decode cX10_undo 54 = .ok (.iinc 1 1, 3) := dk_132 1 1 (dk_at dksX10_undo_2 8 rfl rfl)
theorem dX10_undo_57 : decode cX10_undo 57 = .ok (.goto (-31), 3) := dk_167 255 225 (dk_at dksX10_undo_2 11 rfl rfl)
theorem dX10_undo_60 : decode cX10_undo 60 = .ok (.aload_n 0, 1) := dk_42 (dk_at dksX10_undo_2 14 rfl rfl)
theorem dX10_undo_61 : decode cX10_undo 61 = .ok (.getfield 268, 3) := dk_180 1 12 (dk_at dksX10_undo_2 15 rfl rfl)
theorem dX10_undo_64 : decode cX10_undo 64 = .ok (.ireturn, 1) := dk_172 (dk_at dksX10_undo_2 18 rfl rfl)
abbrev cX10_saveSnapshot : ByteArray := prog_17_method_126_code
def yX10_saveSnapshot : MethodName := ⟨RX10, "saveSnapshot", "(I)Z"⟩
def dkwX10_saveSnapshot_3 : List UInt8 := [96, 42, 180, 0, 7, 29, 46, 79, 132, 3, 1, 167, 255, 228, 28, 172]
abbrev dktX10_saveSnapshot_3 : List UInt8 := dkwX10_saveSnapshot_3 ++ []
def dkwX10_saveSnapshot_2 : List UInt8 := [120, 128, 181, 1, 15, 3, 62, 29, 17, 1, 102, 162, 0, 27, 42, 180, 0, 22, 17, 1, 102, 27, 104, 29]
abbrev dktX10_saveSnapshot_2 : List UInt8 := dkwX10_saveSnapshot_2 ++ dktX10_saveSnapshot_3
def dkwX10_saveSnapshot_1 : List UInt8 := [180, 1, 15, 27, 122, 4, 126, 4, 160, 0, 7, 4, 167, 0, 4, 3, 61, 42, 89, 180, 1, 15, 4, 27]
abbrev dktX10_saveSnapshot_1 : List UInt8 := dkwX10_saveSnapshot_1 ++ dktX10_saveSnapshot_2
def dkwX10_saveSnapshot_0 : List UInt8 := [42, 27, 3, 4, 184, 0, 53, 154, 0, 7, 4, 167, 0, 4, 3, 182, 1, 24, 153, 0, 5, 3, 172, 42]
abbrev dktX10_saveSnapshot_0 : List UInt8 := dkwX10_saveSnapshot_0 ++ dktX10_saveSnapshot_1
theorem dksX10_saveSnapshot_0 : cX10_saveSnapshot.data.toList.drop 0 = dktX10_saveSnapshot_0 := by decide +kernel
theorem dksX10_saveSnapshot_1 : cX10_saveSnapshot.data.toList.drop 24 = dktX10_saveSnapshot_1 := dk_seg dksX10_saveSnapshot_0 24 rfl rfl
theorem dksX10_saveSnapshot_2 : cX10_saveSnapshot.data.toList.drop 48 = dktX10_saveSnapshot_2 := dk_seg dksX10_saveSnapshot_1 24 rfl rfl
theorem dksX10_saveSnapshot_3 : cX10_saveSnapshot.data.toList.drop 72 = dktX10_saveSnapshot_3 := dk_seg dksX10_saveSnapshot_2 24 rfl rfl
theorem dX10_saveSnapshot_0 : decode cX10_saveSnapshot 0 = .ok (.aload_n 0, 1) := dk_42 (dk_at dksX10_saveSnapshot_0 0 rfl rfl)
theorem dX10_saveSnapshot_1 : decode cX10_saveSnapshot 1 = .ok (.iload_n 1, 1) := dk_27 (dk_at dksX10_saveSnapshot_0 1 rfl rfl)
theorem dX10_saveSnapshot_2 : decode cX10_saveSnapshot 2 = .ok (.iconst 0, 1) := dk_3 (dk_at dksX10_saveSnapshot_0 2 rfl rfl)
theorem dX10_saveSnapshot_3 : decode cX10_saveSnapshot 3 = .ok (.iconst 1, 1) := dk_4 (dk_at dksX10_saveSnapshot_0 3 rfl rfl)
theorem dX10_saveSnapshot_4 : decode cX10_saveSnapshot 4 = .ok (.invokestatic 53, 3) := dk_184 0 53 (dk_at dksX10_saveSnapshot_0 4 rfl rfl)
theorem dX10_saveSnapshot_7 : decode cX10_saveSnapshot 7 = .ok (.ifCond .ne 7, 3) := dk_154 0 7 (dk_at dksX10_saveSnapshot_0 7 rfl rfl)
theorem dX10_saveSnapshot_10 : decode cX10_saveSnapshot 10 = .ok (.iconst 1, 1) := dk_4 (dk_at dksX10_saveSnapshot_0 10 rfl rfl)
theorem dX10_saveSnapshot_11 : decode cX10_saveSnapshot 11 = .ok (.goto 4, 3) := dk_167 0 4 (dk_at dksX10_saveSnapshot_0 11 rfl rfl)
theorem dX10_saveSnapshot_14 : decode cX10_saveSnapshot 14 = .ok (.iconst 0, 1) := dk_3 (dk_at dksX10_saveSnapshot_0 14 rfl rfl)
theorem dX10_saveSnapshot_15 : decode cX10_saveSnapshot 15 = .ok (.invokevirtual 280, 3) := dk_182 1 24 (dk_at dksX10_saveSnapshot_0 15 rfl rfl)
theorem dX10_saveSnapshot_18 : decode cX10_saveSnapshot 18 = .ok (.ifCond .eq 5, 3) := dk_153 0 5 (dk_at dksX10_saveSnapshot_0 18 rfl rfl)
theorem dX10_saveSnapshot_21 : decode cX10_saveSnapshot 21 = .ok (.iconst 0, 1) := dk_3 (dk_at dksX10_saveSnapshot_0 21 rfl rfl)
theorem dX10_saveSnapshot_22 : decode cX10_saveSnapshot 22 = .ok (.ireturn, 1) := dk_172 (dk_at dksX10_saveSnapshot_0 22 rfl rfl)
theorem dX10_saveSnapshot_23 : decode cX10_saveSnapshot 23 = .ok (.aload_n 0, 1) := dk_42 (dk_at dksX10_saveSnapshot_0 23 rfl rfl)
theorem dX10_saveSnapshot_24 : decode cX10_saveSnapshot 24 = .ok (.getfield 271, 3) := dk_180 1 15 (dk_at dksX10_saveSnapshot_1 0 rfl rfl)
theorem dX10_saveSnapshot_27 : decode cX10_saveSnapshot 27 = .ok (.iload_n 1, 1) := dk_27 (dk_at dksX10_saveSnapshot_1 3 rfl rfl)
theorem dX10_saveSnapshot_28 : decode cX10_saveSnapshot 28 = .ok (.ishr, 1) := dk_122 (dk_at dksX10_saveSnapshot_1 4 rfl rfl)
theorem dX10_saveSnapshot_29 : decode cX10_saveSnapshot 29 = .ok (.iconst 1, 1) := dk_4 (dk_at dksX10_saveSnapshot_1 5 rfl rfl)
theorem dX10_saveSnapshot_30 : decode cX10_saveSnapshot 30 = .ok (.iand, 1) := dk_126 (dk_at dksX10_saveSnapshot_1 6 rfl rfl)
theorem dX10_saveSnapshot_31 : decode cX10_saveSnapshot 31 = .ok (.iconst 1, 1) := dk_4 (dk_at dksX10_saveSnapshot_1 7 rfl rfl)
theorem dX10_saveSnapshot_32 : decode cX10_saveSnapshot 32 = .ok (.if_icmp .ne 7, 3) := dk_160 0 7 (dk_at dksX10_saveSnapshot_1 8 rfl rfl)
theorem dX10_saveSnapshot_35 : decode cX10_saveSnapshot 35 = .ok (.iconst 1, 1) := dk_4 (dk_at dksX10_saveSnapshot_1 11 rfl rfl)
theorem dX10_saveSnapshot_36 : decode cX10_saveSnapshot 36 = .ok (.goto 4, 3) := dk_167 0 4 (dk_at dksX10_saveSnapshot_1 12 rfl rfl)
theorem dX10_saveSnapshot_39 : decode cX10_saveSnapshot 39 = .ok (.iconst 0, 1) := dk_3 (dk_at dksX10_saveSnapshot_1 15 rfl rfl)
theorem dX10_saveSnapshot_40 : decode cX10_saveSnapshot 40 = .ok (.istore_n 2, 1) := dk_61 (dk_at dksX10_saveSnapshot_1 16 rfl rfl)
theorem dX10_saveSnapshot_41 : decode cX10_saveSnapshot 41 = .ok (.aload_n 0, 1) := dk_42 (dk_at dksX10_saveSnapshot_1 17 rfl rfl)
theorem dX10_saveSnapshot_42 : decode cX10_saveSnapshot 42 = .ok (.dup, 1) := dk_89 (dk_at dksX10_saveSnapshot_1 18 rfl rfl)
theorem dX10_saveSnapshot_43 : decode cX10_saveSnapshot 43 = .ok (.getfield 271, 3) := dk_180 1 15 (dk_at dksX10_saveSnapshot_1 19 rfl rfl)
theorem dX10_saveSnapshot_46 : decode cX10_saveSnapshot 46 = .ok (.iconst 1, 1) := dk_4 (dk_at dksX10_saveSnapshot_1 22 rfl rfl)
theorem dX10_saveSnapshot_47 : decode cX10_saveSnapshot 47 = .ok (.iload_n 1, 1) := dk_27 (dk_at dksX10_saveSnapshot_1 23 rfl rfl)
theorem dX10_saveSnapshot_48 : decode cX10_saveSnapshot 48 = .ok (.ishl, 1) := dk_120 (dk_at dksX10_saveSnapshot_2 0 rfl rfl)
theorem dX10_saveSnapshot_49 : decode cX10_saveSnapshot 49 = .ok (.ior, 1) := dk_128 (dk_at dksX10_saveSnapshot_2 1 rfl rfl)
theorem dX10_saveSnapshot_50 : decode cX10_saveSnapshot 50 = .ok (.putfield 271, 3) := dk_181 1 15 (dk_at dksX10_saveSnapshot_2 2 rfl rfl)
theorem dX10_saveSnapshot_53 : decode cX10_saveSnapshot 53 = .ok (.iconst 0, 1) := dk_3 (dk_at dksX10_saveSnapshot_2 5 rfl rfl)
theorem dX10_saveSnapshot_54 : decode cX10_saveSnapshot 54 = .ok (.istore_n 3, 1) := dk_62 (dk_at dksX10_saveSnapshot_2 6 rfl rfl)
theorem dX10_saveSnapshot_55 : decode cX10_saveSnapshot 55 = .ok (.iload_n 3, 1) := dk_29 (dk_at dksX10_saveSnapshot_2 7 rfl rfl)
theorem dX10_saveSnapshot_56 : decode cX10_saveSnapshot 56 = .ok (.sipush 358, 3) := dk_17 1 102 (dk_at dksX10_saveSnapshot_2 8 rfl rfl)
theorem dX10_saveSnapshot_59 : decode cX10_saveSnapshot 59 = .ok (.if_icmp .ge 27, 3) := dk_162 0 27 (dk_at dksX10_saveSnapshot_2 11 rfl rfl)
theorem dX10_saveSnapshot_62 : decode cX10_saveSnapshot 62 = .ok (.aload_n 0, 1) := dk_42 (dk_at dksX10_saveSnapshot_2 14 rfl rfl)
theorem dX10_saveSnapshot_63 : decode cX10_saveSnapshot 63 = .ok (.getfield 22, 3) := dk_180 0 22 (dk_at dksX10_saveSnapshot_2 15 rfl rfl)
theorem dX10_saveSnapshot_66 : decode cX10_saveSnapshot 66 = .ok (.sipush 358, 3) := dk_17 1 102 (dk_at dksX10_saveSnapshot_2 18 rfl rfl)
theorem dX10_saveSnapshot_69 : decode cX10_saveSnapshot 69 = .ok (.iload_n 1, 1) := dk_27 (dk_at dksX10_saveSnapshot_2 21 rfl rfl)
theorem dX10_saveSnapshot_70 : decode cX10_saveSnapshot 70 = .ok (.imul, 1) := dk_104 (dk_at dksX10_saveSnapshot_2 22 rfl rfl)
theorem dX10_saveSnapshot_71 : decode cX10_saveSnapshot 71 = .ok (.iload_n 3, 1) := dk_29 (dk_at dksX10_saveSnapshot_2 23 rfl rfl)
theorem dX10_saveSnapshot_72 : decode cX10_saveSnapshot 72 = .ok (.iadd, 1) := dk_96 (dk_at dksX10_saveSnapshot_3 0 rfl rfl)
theorem dX10_saveSnapshot_73 : decode cX10_saveSnapshot 73 = .ok (.aload_n 0, 1) := dk_42 (dk_at dksX10_saveSnapshot_3 1 rfl rfl)
theorem dX10_saveSnapshot_74 : decode cX10_saveSnapshot 74 = .ok (.getfield 7, 3) := dk_180 0 7 (dk_at dksX10_saveSnapshot_3 2 rfl rfl)
theorem dX10_saveSnapshot_77 : decode cX10_saveSnapshot 77 = .ok (.iload_n 3, 1) := dk_29 (dk_at dksX10_saveSnapshot_3 5 rfl rfl)
theorem dX10_saveSnapshot_78 : decode cX10_saveSnapshot 78 = .ok (.iaload, 1) := dk_46 (dk_at dksX10_saveSnapshot_3 6 rfl rfl)
theorem dX10_saveSnapshot_79 : decode cX10_saveSnapshot 79 = .ok (.iastore, 1) := dk_79 (dk_at dksX10_saveSnapshot_3 7 rfl rfl)
theorem dX10_saveSnapshot_80 : decode cX10_saveSnapshot 80 = .ok (.iinc 3 1, 3) := dk_132 3 1 (dk_at dksX10_saveSnapshot_3 8 rfl rfl)
theorem dX10_saveSnapshot_83 : decode cX10_saveSnapshot 83 = .ok (.goto (-28), 3) := dk_167 255 228 (dk_at dksX10_saveSnapshot_3 11 rfl rfl)
theorem dX10_saveSnapshot_86 : decode cX10_saveSnapshot 86 = .ok (.iload_n 2, 1) := dk_28 (dk_at dksX10_saveSnapshot_3 14 rfl rfl)
theorem dX10_saveSnapshot_87 : decode cX10_saveSnapshot 87 = .ok (.ireturn, 1) := dk_172 (dk_at dksX10_saveSnapshot_3 15 rfl rfl)
abbrev cX10_restoreSnapshot : ByteArray := prog_17_method_127_code
def yX10_restoreSnapshot : MethodName := ⟨RX10, "restoreSnapshot", "(I)I"⟩
def dkwX10_restoreSnapshot_3 : List UInt8 := [46, 79, 132, 3, 1, 167, 255, 228, 42, 3, 181, 1, 12, 42, 180, 0, 7, 16, 17, 46, 172]
abbrev dktX10_restoreSnapshot_3 : List UInt8 := dkwX10_restoreSnapshot_3 ++ []
def dkwX10_restoreSnapshot_2 : List UInt8 := [62, 29, 17, 1, 102, 162, 0, 27, 42, 180, 0, 7, 29, 42, 180, 0, 22, 17, 1, 102, 27, 104, 29, 96]
abbrev dktX10_restoreSnapshot_2 : List UInt8 := dkwX10_restoreSnapshot_2 ++ dktX10_restoreSnapshot_3
def dkwX10_restoreSnapshot_1 : List UInt8 := [180, 1, 15, 27, 122, 4, 126, 154, 0, 7, 4, 167, 0, 4, 3, 182, 1, 43, 153, 0, 5, 3, 172, 3]
abbrev dktX10_restoreSnapshot_1 : List UInt8 := dkwX10_restoreSnapshot_1 ++ dktX10_restoreSnapshot_2
def dkwX10_restoreSnapshot_0 : List UInt8 := [27, 3, 4, 184, 0, 53, 61, 42, 28, 154, 0, 7, 4, 167, 0, 4, 3, 28, 153, 0, 18, 42]
abbrev dktX10_restoreSnapshot_0 : List UInt8 := dkwX10_restoreSnapshot_0 ++ dktX10_restoreSnapshot_1
theorem dksX10_restoreSnapshot_0 : cX10_restoreSnapshot.data.toList.drop 0 = dktX10_restoreSnapshot_0 := by decide +kernel
theorem dksX10_restoreSnapshot_1 : cX10_restoreSnapshot.data.toList.drop 22 = dktX10_restoreSnapshot_1 := dk_seg dksX10_restoreSnapshot_0 22 rfl rfl
theorem dksX10_restoreSnapshot_2 : cX10_restoreSnapshot.data.toList.drop 46 = dktX10_restoreSnapshot_2 := dk_seg dksX10_restoreSnapshot_1 24 rfl rfl
theorem dksX10_restoreSnapshot_3 : cX10_restoreSnapshot.data.toList.drop 70 = dktX10_restoreSnapshot_3 := dk_seg dksX10_restoreSnapshot_2 24 rfl rfl
theorem dX10_restoreSnapshot_0 : decode cX10_restoreSnapshot 0 = .ok (.iload_n 1, 1) := dk_27 (dk_at dksX10_restoreSnapshot_0 0 rfl rfl)
theorem dX10_restoreSnapshot_1 : decode cX10_restoreSnapshot 1 = .ok (.iconst 0, 1) := dk_3 (dk_at dksX10_restoreSnapshot_0 1 rfl rfl)
theorem dX10_restoreSnapshot_2 : decode cX10_restoreSnapshot 2 = .ok (.iconst 1, 1) := dk_4 (dk_at dksX10_restoreSnapshot_0 2 rfl rfl)
theorem dX10_restoreSnapshot_3 : decode cX10_restoreSnapshot 3 = .ok (.invokestatic 53, 3) := dk_184 0 53 (dk_at dksX10_restoreSnapshot_0 3 rfl rfl)
theorem dX10_restoreSnapshot_6 : decode cX10_restoreSnapshot 6 = .ok (.istore_n 2, 1) := dk_61 (dk_at dksX10_restoreSnapshot_0 6 rfl rfl)
theorem dX10_restoreSnapshot_7 : decode cX10_restoreSnapshot 7 = .ok (.aload_n 0, 1) := dk_42 (dk_at dksX10_restoreSnapshot_0 7 rfl rfl)
theorem dX10_restoreSnapshot_8 : decode cX10_restoreSnapshot 8 = .ok (.iload_n 2, 1) := dk_28 (dk_at dksX10_restoreSnapshot_0 8 rfl rfl)
theorem dX10_restoreSnapshot_9 : decode cX10_restoreSnapshot 9 = .ok (.ifCond .ne 7, 3) := dk_154 0 7 (dk_at dksX10_restoreSnapshot_0 9 rfl rfl)
theorem dX10_restoreSnapshot_12 : decode cX10_restoreSnapshot 12 = .ok (.iconst 1, 1) := dk_4 (dk_at dksX10_restoreSnapshot_0 12 rfl rfl)
theorem dX10_restoreSnapshot_13 : decode cX10_restoreSnapshot 13 = .ok (.goto 4, 3) := dk_167 0 4 (dk_at dksX10_restoreSnapshot_0 13 rfl rfl)
theorem dX10_restoreSnapshot_16 : decode cX10_restoreSnapshot 16 = .ok (.iconst 0, 1) := dk_3 (dk_at dksX10_restoreSnapshot_0 16 rfl rfl)
theorem dX10_restoreSnapshot_17 : decode cX10_restoreSnapshot 17 = .ok (.iload_n 2, 1) := dk_28 (dk_at dksX10_restoreSnapshot_0 17 rfl rfl)
theorem dX10_restoreSnapshot_18 : decode cX10_restoreSnapshot 18 = .ok (.ifCond .eq 18, 3) := dk_153 0 18 (dk_at dksX10_restoreSnapshot_0 18 rfl rfl)
theorem dX10_restoreSnapshot_21 : decode cX10_restoreSnapshot 21 = .ok (.aload_n 0, 1) := dk_42 (dk_at dksX10_restoreSnapshot_0 21 rfl rfl)
theorem dX10_restoreSnapshot_22 : decode cX10_restoreSnapshot 22 = .ok (.getfield 271, 3) := dk_180 1 15 (dk_at dksX10_restoreSnapshot_1 0 rfl rfl)
theorem dX10_restoreSnapshot_25 : decode cX10_restoreSnapshot 25 = .ok (.iload_n 1, 1) := dk_27 (dk_at dksX10_restoreSnapshot_1 3 rfl rfl)
theorem dX10_restoreSnapshot_26 : decode cX10_restoreSnapshot 26 = .ok (.ishr, 1) := dk_122 (dk_at dksX10_restoreSnapshot_1 4 rfl rfl)
theorem dX10_restoreSnapshot_27 : decode cX10_restoreSnapshot 27 = .ok (.iconst 1, 1) := dk_4 (dk_at dksX10_restoreSnapshot_1 5 rfl rfl)
theorem dX10_restoreSnapshot_28 : decode cX10_restoreSnapshot 28 = .ok (.iand, 1) := dk_126 (dk_at dksX10_restoreSnapshot_1 6 rfl rfl)
theorem dX10_restoreSnapshot_29 : decode cX10_restoreSnapshot 29 = .ok (.ifCond .ne 7, 3) := dk_154 0 7 (dk_at dksX10_restoreSnapshot_1 7 rfl rfl)
theorem dX10_restoreSnapshot_32 : decode cX10_restoreSnapshot 32 = .ok (.iconst 1, 1) := dk_4 (dk_at dksX10_restoreSnapshot_1 10 rfl rfl)
theorem dX10_restoreSnapshot_33 : decode cX10_restoreSnapshot 33 = .ok (.goto 4, 3) := dk_167 0 4 (dk_at dksX10_restoreSnapshot_1 11 rfl rfl)
theorem dX10_restoreSnapshot_36 : decode cX10_restoreSnapshot 36 = .ok (.iconst 0, 1) := dk_3 (dk_at dksX10_restoreSnapshot_1 14 rfl rfl)
theorem dX10_restoreSnapshot_37 : decode cX10_restoreSnapshot 37 = .ok (.invokevirtual 299, 3) := dk_182 1 43 (dk_at dksX10_restoreSnapshot_1 15 rfl rfl)
theorem dX10_restoreSnapshot_40 : decode cX10_restoreSnapshot 40 = .ok (.ifCond .eq 5, 3) := dk_153 0 5 (dk_at dksX10_restoreSnapshot_1 18 rfl rfl)
theorem dX10_restoreSnapshot_43 : decode cX10_restoreSnapshot 43 = .ok (.iconst 0, 1) := dk_3 (dk_at dksX10_restoreSnapshot_1 21 rfl rfl)
theorem dX10_restoreSnapshot_44 : decode cX10_restoreSnapshot 44 = .ok (.ireturn, 1) := dk_172 (dk_at dksX10_restoreSnapshot_1 22 rfl rfl)
theorem dX10_restoreSnapshot_45 : decode cX10_restoreSnapshot 45 = .ok (.iconst 0, 1) := dk_3 (dk_at dksX10_restoreSnapshot_1 23 rfl rfl)
theorem dX10_restoreSnapshot_46 : decode cX10_restoreSnapshot 46 = .ok (.istore_n 3, 1) := dk_62 (dk_at dksX10_restoreSnapshot_2 0 rfl rfl)
theorem dX10_restoreSnapshot_47 : decode cX10_restoreSnapshot 47 = .ok (.iload_n 3, 1) := dk_29 (dk_at dksX10_restoreSnapshot_2 1 rfl rfl)
theorem dX10_restoreSnapshot_48 : decode cX10_restoreSnapshot 48 = .ok (.sipush 358, 3) := dk_17 1 102 (dk_at dksX10_restoreSnapshot_2 2 rfl rfl)
theorem dX10_restoreSnapshot_51 : decode cX10_restoreSnapshot 51 = .ok (.if_icmp .ge 27, 3) := dk_162 0 27 (dk_at dksX10_restoreSnapshot_2 5 rfl rfl)
theorem dX10_restoreSnapshot_54 : decode cX10_restoreSnapshot 54 = .ok (.aload_n 0, 1) := dk_42 (dk_at dksX10_restoreSnapshot_2 8 rfl rfl)
theorem dX10_restoreSnapshot_55 : decode cX10_restoreSnapshot 55 = .ok (.getfield 7, 3) := dk_180 0 7 (dk_at dksX10_restoreSnapshot_2 9 rfl rfl)
theorem dX10_restoreSnapshot_58 : decode cX10_restoreSnapshot 58 = .ok (.iload_n 3, 1) := dk_29 (dk_at dksX10_restoreSnapshot_2 12 rfl rfl)
theorem dX10_restoreSnapshot_59 : decode cX10_restoreSnapshot 59 = .ok (.aload_n 0, 1) := dk_42 (dk_at dksX10_restoreSnapshot_2 13 rfl rfl)
theorem dX10_restoreSnapshot_60 : decode cX10_restoreSnapshot 60 = .ok (.getfield 22, 3) := dk_180 0 22 (dk_at dksX10_restoreSnapshot_2 14 rfl rfl)
theorem dX10_restoreSnapshot_63 : decode cX10_restoreSnapshot 63 = .ok (.sipush 358, 3) := dk_17 1 102 (dk_at dksX10_restoreSnapshot_2 17 rfl rfl)
theorem dX10_restoreSnapshot_66 : decode cX10_restoreSnapshot 66 = .ok (.iload_n 1, 1) := dk_27 (dk_at dksX10_restoreSnapshot_2 20 rfl rfl)
theorem dX10_restoreSnapshot_67 : decode cX10_restoreSnapshot 67 = .ok (.imul, 1) := dk_104 (dk_at dksX10_restoreSnapshot_2 21 rfl rfl)
theorem dX10_restoreSnapshot_68 : decode cX10_restoreSnapshot 68 = .ok (.iload_n 3, 1) := dk_29 (dk_at dksX10_restoreSnapshot_2 22 rfl rfl)
theorem dX10_restoreSnapshot_69 : decode cX10_restoreSnapshot 69 = .ok (.iadd, 1) := dk_96 (dk_at dksX10_restoreSnapshot_2 23 rfl rfl)
theorem dX10_restoreSnapshot_70 : decode cX10_restoreSnapshot 70 = .ok (.iaload, 1) := dk_46 (dk_at dksX10_restoreSnapshot_3 0 rfl rfl)
theorem dX10_restoreSnapshot_71 : decode cX10_restoreSnapshot 71 = .ok (.iastore, 1) := dk_79 (dk_at dksX10_restoreSnapshot_3 1 rfl rfl)
theorem dX10_restoreSnapshot_72 : decode cX10_restoreSnapshot 72 = .ok (.iinc 3 1, 3) := dk_132 3 1 (dk_at dksX10_restoreSnapshot_3 2 rfl rfl)
theorem dX10_restoreSnapshot_75 : decode cX10_restoreSnapshot 75 = .ok (.goto (-28), 3) := dk_167 255 228 (dk_at dksX10_restoreSnapshot_3 5 rfl rfl)
theorem dX10_restoreSnapshot_78 : decode cX10_restoreSnapshot 78 = .ok (.aload_n 0, 1) := dk_42 (dk_at dksX10_restoreSnapshot_3 8 rfl rfl)
theorem dX10_restoreSnapshot_79 : decode cX10_restoreSnapshot 79 = .ok (.iconst 0, 1) := dk_3 (dk_at dksX10_restoreSnapshot_3 9 rfl rfl)
theorem dX10_restoreSnapshot_80 : decode cX10_restoreSnapshot 80 = .ok (.putfield 268, 3) := dk_181 1 12 (dk_at dksX10_restoreSnapshot_3 10 rfl rfl)
theorem dX10_restoreSnapshot_83 : decode cX10_restoreSnapshot 83 = .ok (.aload_n 0, 1) := dk_42 (dk_at dksX10_restoreSnapshot_3 13 rfl rfl)
theorem dX10_restoreSnapshot_84 : decode cX10_restoreSnapshot 84 = .ok (.getfield 7, 3) := dk_180 0 7 (dk_at dksX10_restoreSnapshot_3 14 rfl rfl)
theorem dX10_restoreSnapshot_87 : decode cX10_restoreSnapshot 87 = .ok (.bipush 17, 2) := dk_16 17 (dk_at dksX10_restoreSnapshot_3 17 rfl rfl)
theorem dX10_restoreSnapshot_89 : decode cX10_restoreSnapshot 89 = .ok (.iaload, 1) := dk_46 (dk_at dksX10_restoreSnapshot_3 19 rfl rfl)
theorem dX10_restoreSnapshot_90 : decode cX10_restoreSnapshot 90 = .ok (.ireturn, 1) := dk_172 (dk_at dksX10_restoreSnapshot_3 20 rfl rfl)
abbrev cX10_checksum : ByteArray := prog_17_method_128_code
def yX10_checksum : MethodName := ⟨RX10, "checksum", "()J"⟩
def dkwX10_checksum_10 : List UInt8 := [46, 182, 1, 46, 133, 97, 64, 132, 4, 1, 167, 255, 209, 31, 173]
abbrev dktX10_checksum_10 : List UInt8 := dkwX10_checksum_10 ++ []
def dkwX10_checksum_9 : List UInt8 := [180, 0, 38, 21, 4, 46, 182, 0, 95, 133, 97, 64, 20, 1, 154, 31, 105, 42, 42, 180, 0, 38, 21, 4]
abbrev dktX10_checksum_9 : List UInt8 := dkwX10_checksum_9 ++ dktX10_checksum_10
def dkwX10_checksum_8 : List UInt8 := [182, 1, 34, 42, 182, 0, 61, 62, 3, 54, 4, 21, 4, 29, 162, 0, 47, 20, 1, 154, 31, 105, 42, 42]
abbrev dktX10_checksum_8 : List UInt8 := dkwX10_checksum_8 ++ dktX10_checksum_9
def dkwX10_checksum_7 : List UInt8 := [42, 29, 21, 4, 4, 182, 1, 80, 133, 97, 64, 132, 4, 1, 167, 255, 210, 132, 3, 1, 167, 255, 159, 42]
abbrev dktX10_checksum_7 : List UInt8 := dkwX10_checksum_7 ++ dktX10_checksum_8
def dkwX10_checksum_6 : List UInt8 := [162, 0, 41, 20, 1, 154, 31, 105, 42, 29, 21, 4, 3, 182, 1, 80, 133, 97, 64, 20, 1, 154, 31, 105]
abbrev dktX10_checksum_6 : List UInt8 := dkwX10_checksum_6 ++ dktX10_checksum_7
def dkwX10_checksum_5 : List UInt8 := [182, 1, 77, 133, 97, 64, 132, 4, 1, 167, 255, 231, 3, 54, 4, 21, 4, 42, 180, 0, 7, 8, 46]
abbrev dktX10_checksum_5 : List UInt8 := dkwX10_checksum_5 ++ dktX10_checksum_6
def dkwX10_checksum_4 : List UInt8 := [162, 0, 92, 3, 54, 4, 21, 4, 16, 6, 162, 0, 24, 20, 1, 154, 31, 105, 42, 29, 21, 4]
abbrev dktX10_checksum_4 : List UInt8 := dkwX10_checksum_4 ++ dktX10_checksum_5
def dkwX10_checksum_3 : List UInt8 := [64, 132, 4, 1, 167, 255, 231, 132, 3, 1, 167, 255, 212, 3, 62, 29, 42, 180, 0, 7, 16, 17, 46]
abbrev dktX10_checksum_3 : List UInt8 := dkwX10_checksum_3 ++ dktX10_checksum_4
def dkwX10_checksum_2 : List UInt8 := [3, 54, 4, 21, 4, 16, 7, 162, 0, 24, 20, 1, 154, 31, 105, 42, 29, 21, 4, 182, 1, 62, 133, 97]
abbrev dktX10_checksum_2 : List UInt8 := dkwX10_checksum_2 ++ dktX10_checksum_3
def dkwX10_checksum_1 : List UInt8 := [182, 1, 37, 133, 97, 64, 132, 3, 1, 167, 255, 234, 3, 62, 29, 42, 180, 0, 7, 8, 46, 162, 0, 40]
abbrev dktX10_checksum_1 : List UInt8 := dkwX10_checksum_1 ++ dktX10_checksum_2
def dkwX10_checksum_0 : List UInt8 := [42, 3, 181, 0, 45, 9, 64, 3, 62, 29, 16, 11, 162, 0, 22, 20, 1, 154, 31, 105, 42, 29]
abbrev dktX10_checksum_0 : List UInt8 := dkwX10_checksum_0 ++ dktX10_checksum_1
theorem dksX10_checksum_0 : cX10_checksum.data.toList.drop 0 = dktX10_checksum_0 := by decide +kernel
theorem dksX10_checksum_1 : cX10_checksum.data.toList.drop 22 = dktX10_checksum_1 := dk_seg dksX10_checksum_0 22 rfl rfl
theorem dksX10_checksum_2 : cX10_checksum.data.toList.drop 46 = dktX10_checksum_2 := dk_seg dksX10_checksum_1 24 rfl rfl
theorem dksX10_checksum_3 : cX10_checksum.data.toList.drop 70 = dktX10_checksum_3 := dk_seg dksX10_checksum_2 24 rfl rfl
theorem dksX10_checksum_4 : cX10_checksum.data.toList.drop 93 = dktX10_checksum_4 := dk_seg dksX10_checksum_3 23 rfl rfl
theorem dksX10_checksum_5 : cX10_checksum.data.toList.drop 115 = dktX10_checksum_5 := dk_seg dksX10_checksum_4 22 rfl rfl
theorem dksX10_checksum_6 : cX10_checksum.data.toList.drop 138 = dktX10_checksum_6 := dk_seg dksX10_checksum_5 23 rfl rfl
theorem dksX10_checksum_7 : cX10_checksum.data.toList.drop 162 = dktX10_checksum_7 := dk_seg dksX10_checksum_6 24 rfl rfl
theorem dksX10_checksum_8 : cX10_checksum.data.toList.drop 186 = dktX10_checksum_8 := dk_seg dksX10_checksum_7 24 rfl rfl
theorem dksX10_checksum_9 : cX10_checksum.data.toList.drop 210 = dktX10_checksum_9 := dk_seg dksX10_checksum_8 24 rfl rfl
theorem dksX10_checksum_10 : cX10_checksum.data.toList.drop 234 = dktX10_checksum_10 := dk_seg dksX10_checksum_9 24 rfl rfl
theorem dX10_checksum_0 : decode cX10_checksum 0 = .ok (.aload_n 0, 1) := dk_42 (dk_at dksX10_checksum_0 0 rfl rfl)
theorem dX10_checksum_1 : decode cX10_checksum 1 = .ok (.iconst 0, 1) := dk_3 (dk_at dksX10_checksum_0 1 rfl rfl)
theorem dX10_checksum_2 : decode cX10_checksum 2 = .ok (.putfield 45, 3) := dk_181 0 45 (dk_at dksX10_checksum_0 2 rfl rfl)
theorem dX10_checksum_5 : decode cX10_checksum 5 = .ok (.lconst 0, 1) := dk_9 (dk_at dksX10_checksum_0 5 rfl rfl)
theorem dX10_checksum_6 : decode cX10_checksum 6 = .ok (.lstore_n 1, 1) := dk_64 (dk_at dksX10_checksum_0 6 rfl rfl)
theorem dX10_checksum_7 : decode cX10_checksum 7 = .ok (.iconst 0, 1) := dk_3 (dk_at dksX10_checksum_0 7 rfl rfl)
theorem dX10_checksum_8 : decode cX10_checksum 8 = .ok (.istore_n 3, 1) := dk_62 (dk_at dksX10_checksum_0 8 rfl rfl)
theorem dX10_checksum_9 : decode cX10_checksum 9 = .ok (.iload_n 3, 1) := dk_29 (dk_at dksX10_checksum_0 9 rfl rfl)
theorem dX10_checksum_10 : decode cX10_checksum 10 = .ok (.bipush 11, 2) := dk_16 11 (dk_at dksX10_checksum_0 10 rfl rfl)
theorem dX10_checksum_12 : decode cX10_checksum 12 = .ok (.if_icmp .ge 22, 3) := dk_162 0 22 (dk_at dksX10_checksum_0 12 rfl rfl)
theorem dX10_checksum_15 : decode cX10_checksum 15 = .ok (.ldc2_w 410, 3) := dk_20 1 154 (dk_at dksX10_checksum_0 15 rfl rfl)
theorem dX10_checksum_18 : decode cX10_checksum 18 = .ok (.lload_n 1, 1) := dk_31 (dk_at dksX10_checksum_0 18 rfl rfl)
theorem dX10_checksum_19 : decode cX10_checksum 19 = .ok (.lmul, 1) := dk_105 (dk_at dksX10_checksum_0 19 rfl rfl)
theorem dX10_checksum_20 : decode cX10_checksum 20 = .ok (.aload_n 0, 1) := dk_42 (dk_at dksX10_checksum_0 20 rfl rfl)
theorem dX10_checksum_21 : decode cX10_checksum 21 = .ok (.iload_n 3, 1) := dk_29 (dk_at dksX10_checksum_0 21 rfl rfl)
theorem dX10_checksum_22 : decode cX10_checksum 22 = .ok (.invokevirtual 293, 3) := dk_182 1 37 (dk_at dksX10_checksum_1 0 rfl rfl)
theorem dX10_checksum_25 : decode cX10_checksum 25 = .ok (.i2l, 1) := dk_133 (dk_at dksX10_checksum_1 3 rfl rfl)
theorem dX10_checksum_26 : decode cX10_checksum 26 = .ok (.ladd, 1) := dk_97 (dk_at dksX10_checksum_1 4 rfl rfl)
theorem dX10_checksum_27 : decode cX10_checksum 27 = .ok (.lstore_n 1, 1) := dk_64 (dk_at dksX10_checksum_1 5 rfl rfl)
theorem dX10_checksum_28 : decode cX10_checksum 28 = .ok (.iinc 3 1, 3) := dk_132 3 1 (dk_at dksX10_checksum_1 6 rfl rfl)
theorem dX10_checksum_31 : decode cX10_checksum 31 = .ok (.goto (-22), 3) := dk_167 255 234 (dk_at dksX10_checksum_1 9 rfl rfl)
theorem dX10_checksum_34 : decode cX10_checksum 34 = .ok (.iconst 0, 1) := dk_3 (dk_at dksX10_checksum_1 12 rfl rfl)
theorem dX10_checksum_35 : decode cX10_checksum 35 = .ok (.istore_n 3, 1) := dk_62 (dk_at dksX10_checksum_1 13 rfl rfl)
theorem dX10_checksum_36 : decode cX10_checksum 36 = .ok (.iload_n 3, 1) := dk_29 (dk_at dksX10_checksum_1 14 rfl rfl)
theorem dX10_checksum_37 : decode cX10_checksum 37 = .ok (.aload_n 0, 1) := dk_42 (dk_at dksX10_checksum_1 15 rfl rfl)
theorem dX10_checksum_38 : decode cX10_checksum 38 = .ok (.getfield 7, 3) := dk_180 0 7 (dk_at dksX10_checksum_1 16 rfl rfl)
theorem dX10_checksum_41 : decode cX10_checksum 41 = .ok (.iconst 5, 1) := dk_8 (dk_at dksX10_checksum_1 19 rfl rfl)
theorem dX10_checksum_42 : decode cX10_checksum 42 = .ok (.iaload, 1) := dk_46 (dk_at dksX10_checksum_1 20 rfl rfl)
theorem dX10_checksum_43 : decode cX10_checksum 43 = .ok (.if_icmp .ge 40, 3) := dk_162 0 40 (dk_at dksX10_checksum_1 21 rfl rfl)
theorem dX10_checksum_46 : decode cX10_checksum 46 = .ok (.iconst 0, 1) := dk_3 (dk_at dksX10_checksum_2 0 rfl rfl)
theorem dX10_checksum_47 : decode cX10_checksum 47 = .ok (.istore 4, 2) := dk_54 4 (dk_at dksX10_checksum_2 1 rfl rfl)
theorem dX10_checksum_49 : decode cX10_checksum 49 = .ok (.iload 4, 2) := dk_21 4 (dk_at dksX10_checksum_2 3 rfl rfl)
theorem dX10_checksum_51 : decode cX10_checksum 51 = .ok (.bipush 7, 2) := dk_16 7 (dk_at dksX10_checksum_2 5 rfl rfl)
theorem dX10_checksum_53 : decode cX10_checksum 53 = .ok (.if_icmp .ge 24, 3) := dk_162 0 24 (dk_at dksX10_checksum_2 7 rfl rfl)
theorem dX10_checksum_56 : decode cX10_checksum 56 = .ok (.ldc2_w 410, 3) := dk_20 1 154 (dk_at dksX10_checksum_2 10 rfl rfl)
theorem dX10_checksum_59 : decode cX10_checksum 59 = .ok (.lload_n 1, 1) := dk_31 (dk_at dksX10_checksum_2 13 rfl rfl)
theorem dX10_checksum_60 : decode cX10_checksum 60 = .ok (.lmul, 1) := dk_105 (dk_at dksX10_checksum_2 14 rfl rfl)
theorem dX10_checksum_61 : decode cX10_checksum 61 = .ok (.aload_n 0, 1) := dk_42 (dk_at dksX10_checksum_2 15 rfl rfl)
theorem dX10_checksum_62 : decode cX10_checksum 62 = .ok (.iload_n 3, 1) := dk_29 (dk_at dksX10_checksum_2 16 rfl rfl)
theorem dX10_checksum_63 : decode cX10_checksum 63 = .ok (.iload 4, 2) := dk_21 4 (dk_at dksX10_checksum_2 17 rfl rfl)
theorem dX10_checksum_65 : decode cX10_checksum 65 = .ok (.invokevirtual 318, 3) := dk_182 1 62 (dk_at dksX10_checksum_2 19 rfl rfl)
theorem dX10_checksum_68 : decode cX10_checksum 68 = .ok (.i2l, 1) := dk_133 (dk_at dksX10_checksum_2 22 rfl rfl)
theorem dX10_checksum_69 : decode cX10_checksum 69 = .ok (.ladd, 1) := dk_97 (dk_at dksX10_checksum_2 23 rfl rfl)
theorem dX10_checksum_70 : decode cX10_checksum 70 = .ok (.lstore_n 1, 1) := dk_64 (dk_at dksX10_checksum_3 0 rfl rfl)
theorem dX10_checksum_71 : decode cX10_checksum 71 = .ok (.iinc 4 1, 3) := dk_132 4 1 (dk_at dksX10_checksum_3 1 rfl rfl)
theorem dX10_checksum_74 : decode cX10_checksum 74 = .ok (.goto (-25), 3) := dk_167 255 231 (dk_at dksX10_checksum_3 4 rfl rfl)
theorem dX10_checksum_77 : decode cX10_checksum 77 = .ok (.iinc 3 1, 3) := dk_132 3 1 (dk_at dksX10_checksum_3 7 rfl rfl)
theorem dX10_checksum_80 : decode cX10_checksum 80 = .ok (.goto (-44), 3) := dk_167 255 212 (dk_at dksX10_checksum_3 10 rfl rfl)
theorem dX10_checksum_83 : decode cX10_checksum 83 = .ok (.iconst 0, 1) := dk_3 (dk_at dksX10_checksum_3 13 rfl rfl)
theorem dX10_checksum_84 : decode cX10_checksum 84 = .ok (.istore_n 3, 1) := dk_62 (dk_at dksX10_checksum_3 14 rfl rfl)
theorem dX10_checksum_85 : decode cX10_checksum 85 = .ok (.iload_n 3, 1) := dk_29 (dk_at dksX10_checksum_3 15 rfl rfl)
theorem dX10_checksum_86 : decode cX10_checksum 86 = .ok (.aload_n 0, 1) := dk_42 (dk_at dksX10_checksum_3 16 rfl rfl)
theorem dX10_checksum_87 : decode cX10_checksum 87 = .ok (.getfield 7, 3) := dk_180 0 7 (dk_at dksX10_checksum_3 17 rfl rfl)
theorem dX10_checksum_90 : decode cX10_checksum 90 = .ok (.bipush 17, 2) := dk_16 17 (dk_at dksX10_checksum_3 20 rfl rfl)
theorem dX10_checksum_92 : decode cX10_checksum 92 = .ok (.iaload, 1) := dk_46 (dk_at dksX10_checksum_3 22 rfl rfl)
theorem dX10_checksum_93 : decode cX10_checksum 93 = .ok (.if_icmp .ge 92, 3) := dk_162 0 92 (dk_at dksX10_checksum_4 0 rfl rfl)
theorem dX10_checksum_96 : decode cX10_checksum 96 = .ok (.iconst 0, 1) := dk_3 (dk_at dksX10_checksum_4 3 rfl rfl)
theorem dX10_checksum_97 : decode cX10_checksum 97 = .ok (.istore 4, 2) := dk_54 4 (dk_at dksX10_checksum_4 4 rfl rfl)
theorem dX10_checksum_99 : decode cX10_checksum 99 = .ok (.iload 4, 2) := dk_21 4 (dk_at dksX10_checksum_4 6 rfl rfl)
theorem dX10_checksum_101 : decode cX10_checksum 101 = .ok (.bipush 6, 2) := dk_16 6 (dk_at dksX10_checksum_4 8 rfl rfl)
theorem dX10_checksum_103 : decode cX10_checksum 103 = .ok (.if_icmp .ge 24, 3) := dk_162 0 24 (dk_at dksX10_checksum_4 10 rfl rfl)
theorem dX10_checksum_106 : decode cX10_checksum 106 = .ok (.ldc2_w 410, 3) := dk_20 1 154 (dk_at dksX10_checksum_4 13 rfl rfl)
theorem dX10_checksum_109 : decode cX10_checksum 109 = .ok (.lload_n 1, 1) := dk_31 (dk_at dksX10_checksum_4 16 rfl rfl)
theorem dX10_checksum_110 : decode cX10_checksum 110 = .ok (.lmul, 1) := dk_105 (dk_at dksX10_checksum_4 17 rfl rfl)
theorem dX10_checksum_111 : decode cX10_checksum 111 = .ok (.aload_n 0, 1) := dk_42 (dk_at dksX10_checksum_4 18 rfl rfl)
theorem dX10_checksum_112 : decode cX10_checksum 112 = .ok (.iload_n 3, 1) := dk_29 (dk_at dksX10_checksum_4 19 rfl rfl)
theorem dX10_checksum_113 : decode cX10_checksum 113 = .ok (.iload 4, 2) := dk_21 4 (dk_at dksX10_checksum_4 20 rfl rfl)
theorem dX10_checksum_115 : decode cX10_checksum 115 = .ok (.invokevirtual 333, 3) := dk_182 1 77 (dk_at dksX10_checksum_5 0 rfl rfl)
theorem dX10_checksum_118 : decode cX10_checksum 118 = .ok (.i2l, 1) := dk_133 (dk_at dksX10_checksum_5 3 rfl rfl)
theorem dX10_checksum_119 : decode cX10_checksum 119 = .ok (.ladd, 1) := dk_97 (dk_at dksX10_checksum_5 4 rfl rfl)
theorem dX10_checksum_120 : decode cX10_checksum 120 = .ok (.lstore_n 1, 1) := dk_64 (dk_at dksX10_checksum_5 5 rfl rfl)
theorem dX10_checksum_121 : decode cX10_checksum 121 = .ok (.iinc 4 1, 3) := dk_132 4 1 (dk_at dksX10_checksum_5 6 rfl rfl)
theorem dX10_checksum_124 : decode cX10_checksum 124 = .ok (.goto (-25), 3) := dk_167 255 231 (dk_at dksX10_checksum_5 9 rfl rfl)
theorem dX10_checksum_127 : decode cX10_checksum 127 = .ok (.iconst 0, 1) := dk_3 (dk_at dksX10_checksum_5 12 rfl rfl)
theorem dX10_checksum_128 : decode cX10_checksum 128 = .ok (.istore 4, 2) := dk_54 4 (dk_at dksX10_checksum_5 13 rfl rfl)
theorem dX10_checksum_130 : decode cX10_checksum 130 = .ok (.iload 4, 2) := dk_21 4 (dk_at dksX10_checksum_5 15 rfl rfl)
theorem dX10_checksum_132 : decode cX10_checksum 132 = .ok (.aload_n 0, 1) := dk_42 (dk_at dksX10_checksum_5 17 rfl rfl)
theorem dX10_checksum_133 : decode cX10_checksum 133 = .ok (.getfield 7, 3) := dk_180 0 7 (dk_at dksX10_checksum_5 18 rfl rfl)
theorem dX10_checksum_136 : decode cX10_checksum 136 = .ok (.iconst 5, 1) := dk_8 (dk_at dksX10_checksum_5 21 rfl rfl)
theorem dX10_checksum_137 : decode cX10_checksum 137 = .ok (.iaload, 1) := dk_46 (dk_at dksX10_checksum_5 22 rfl rfl)
theorem dX10_checksum_138 : decode cX10_checksum 138 = .ok (.if_icmp .ge 41, 3) := dk_162 0 41 (dk_at dksX10_checksum_6 0 rfl rfl)
theorem dX10_checksum_141 : decode cX10_checksum 141 = .ok (.ldc2_w 410, 3) := dk_20 1 154 (dk_at dksX10_checksum_6 3 rfl rfl)
theorem dX10_checksum_144 : decode cX10_checksum 144 = .ok (.lload_n 1, 1) := dk_31 (dk_at dksX10_checksum_6 6 rfl rfl)
theorem dX10_checksum_145 : decode cX10_checksum 145 = .ok (.lmul, 1) := dk_105 (dk_at dksX10_checksum_6 7 rfl rfl)
theorem dX10_checksum_146 : decode cX10_checksum 146 = .ok (.aload_n 0, 1) := dk_42 (dk_at dksX10_checksum_6 8 rfl rfl)
theorem dX10_checksum_147 : decode cX10_checksum 147 = .ok (.iload_n 3, 1) := dk_29 (dk_at dksX10_checksum_6 9 rfl rfl)
theorem dX10_checksum_148 : decode cX10_checksum 148 = .ok (.iload 4, 2) := dk_21 4 (dk_at dksX10_checksum_6 10 rfl rfl)
theorem dX10_checksum_150 : decode cX10_checksum 150 = .ok (.iconst 0, 1) := dk_3 (dk_at dksX10_checksum_6 12 rfl rfl)
theorem dX10_checksum_151 : decode cX10_checksum 151 = .ok (.invokevirtual 336, 3) := dk_182 1 80 (dk_at dksX10_checksum_6 13 rfl rfl)
theorem dX10_checksum_154 : decode cX10_checksum 154 = .ok (.i2l, 1) := dk_133 (dk_at dksX10_checksum_6 16 rfl rfl)
theorem dX10_checksum_155 : decode cX10_checksum 155 = .ok (.ladd, 1) := dk_97 (dk_at dksX10_checksum_6 17 rfl rfl)
theorem dX10_checksum_156 : decode cX10_checksum 156 = .ok (.lstore_n 1, 1) := dk_64 (dk_at dksX10_checksum_6 18 rfl rfl)
theorem dX10_checksum_157 : decode cX10_checksum 157 = .ok (.ldc2_w 410, 3) := dk_20 1 154 (dk_at dksX10_checksum_6 19 rfl rfl)
theorem dX10_checksum_160 : decode cX10_checksum 160 = .ok (.lload_n 1, 1) := dk_31 (dk_at dksX10_checksum_6 22 rfl rfl)
theorem dX10_checksum_161 : decode cX10_checksum 161 = .ok (.lmul, 1) := dk_105 (dk_at dksX10_checksum_6 23 rfl rfl)
theorem dX10_checksum_162 : decode cX10_checksum 162 = .ok (.aload_n 0, 1) := dk_42 (dk_at dksX10_checksum_7 0 rfl rfl)
theorem dX10_checksum_163 : decode cX10_checksum 163 = .ok (.iload_n 3, 1) := dk_29 (dk_at dksX10_checksum_7 1 rfl rfl)
theorem dX10_checksum_164 : decode cX10_checksum 164 = .ok (.iload 4, 2) := dk_21 4 (dk_at dksX10_checksum_7 2 rfl rfl)
theorem dX10_checksum_166 : decode cX10_checksum 166 = .ok (.iconst 1, 1) := dk_4 (dk_at dksX10_checksum_7 4 rfl rfl)
theorem dX10_checksum_167 : decode cX10_checksum 167 = .ok (.invokevirtual 336, 3) := dk_182 1 80 (dk_at dksX10_checksum_7 5 rfl rfl)
theorem dX10_checksum_170 : decode cX10_checksum 170 = .ok (.i2l, 1) := dk_133 (dk_at dksX10_checksum_7 8 rfl rfl)
theorem dX10_checksum_171 : decode cX10_checksum 171 = .ok (.ladd, 1) := dk_97 (dk_at dksX10_checksum_7 9 rfl rfl)
theorem dX10_checksum_172 : decode cX10_checksum 172 = .ok (.lstore_n 1, 1) := dk_64 (dk_at dksX10_checksum_7 10 rfl rfl)
theorem dX10_checksum_173 : decode cX10_checksum 173 = .ok (.iinc 4 1, 3) := dk_132 4 1 (dk_at dksX10_checksum_7 11 rfl rfl)
theorem dX10_checksum_176 : decode cX10_checksum 176 = .ok (.goto (-46), 3) := dk_167 255 210 (dk_at dksX10_checksum_7 14 rfl rfl)
theorem dX10_checksum_179 : decode cX10_checksum 179 = .ok (.iinc 3 1, 3) := dk_132 3 1 (dk_at dksX10_checksum_7 17 rfl rfl)
theorem dX10_checksum_182 : decode cX10_checksum 182 = .ok (.goto (-97), 3) := dk_167 255 159 (dk_at dksX10_checksum_7 20 rfl rfl)
theorem dX10_checksum_185 : decode cX10_checksum 185 = .ok (.aload_n 0, 1) := dk_42 (dk_at dksX10_checksum_7 23 rfl rfl)
theorem dX10_checksum_186 : decode cX10_checksum 186 = .ok (.invokevirtual 290, 3) := dk_182 1 34 (dk_at dksX10_checksum_8 0 rfl rfl)
theorem dX10_checksum_189 : decode cX10_checksum 189 = .ok (.aload_n 0, 1) := dk_42 (dk_at dksX10_checksum_8 3 rfl rfl)
theorem dX10_checksum_190 : decode cX10_checksum 190 = .ok (.invokevirtual 61, 3) := dk_182 0 61 (dk_at dksX10_checksum_8 4 rfl rfl)
theorem dX10_checksum_193 : decode cX10_checksum 193 = .ok (.istore_n 3, 1) := dk_62 (dk_at dksX10_checksum_8 7 rfl rfl)
theorem dX10_checksum_194 : decode cX10_checksum 194 = .ok (.iconst 0, 1) := dk_3 (dk_at dksX10_checksum_8 8 rfl rfl)
theorem dX10_checksum_195 : decode cX10_checksum 195 = .ok (.istore 4, 2) := dk_54 4 (dk_at dksX10_checksum_8 9 rfl rfl)
theorem dX10_checksum_197 : decode cX10_checksum 197 = .ok (.iload 4, 2) := dk_21 4 (dk_at dksX10_checksum_8 11 rfl rfl)
theorem dX10_checksum_199 : decode cX10_checksum 199 = .ok (.iload_n 3, 1) := dk_29 (dk_at dksX10_checksum_8 13 rfl rfl)
theorem dX10_checksum_200 : decode cX10_checksum 200 = .ok (.if_icmp .ge 47, 3) := dk_162 0 47 (dk_at dksX10_checksum_8 14 rfl rfl)
theorem dX10_checksum_203 : decode cX10_checksum 203 = .ok (.ldc2_w 410, 3) := dk_20 1 154 (dk_at dksX10_checksum_8 17 rfl rfl)
theorem dX10_checksum_206 : decode cX10_checksum 206 = .ok (.lload_n 1, 1) := dk_31 (dk_at dksX10_checksum_8 20 rfl rfl)
theorem dX10_checksum_207 : decode cX10_checksum 207 = .ok (.lmul, 1) := dk_105 (dk_at dksX10_checksum_8 21 rfl rfl)
theorem dX10_checksum_208 : decode cX10_checksum 208 = .ok (.aload_n 0, 1) := dk_42 (dk_at dksX10_checksum_8 22 rfl rfl)
theorem dX10_checksum_209 : decode cX10_checksum 209 = .ok (.aload_n 0, 1) := dk_42 (dk_at dksX10_checksum_8 23 rfl rfl)
theorem dX10_checksum_210 : decode cX10_checksum 210 = .ok (.getfield 38, 3) := dk_180 0 38 (dk_at dksX10_checksum_9 0 rfl rfl)
theorem dX10_checksum_213 : decode cX10_checksum 213 = .ok (.iload 4, 2) := dk_21 4 (dk_at dksX10_checksum_9 3 rfl rfl)
theorem dX10_checksum_215 : decode cX10_checksum 215 = .ok (.iaload, 1) := dk_46 (dk_at dksX10_checksum_9 5 rfl rfl)
theorem dX10_checksum_216 : decode cX10_checksum 216 = .ok (.invokevirtual 95, 3) := dk_182 0 95 (dk_at dksX10_checksum_9 6 rfl rfl)
theorem dX10_checksum_219 : decode cX10_checksum 219 = .ok (.i2l, 1) := dk_133 (dk_at dksX10_checksum_9 9 rfl rfl)
theorem dX10_checksum_220 : decode cX10_checksum 220 = .ok (.ladd, 1) := dk_97 (dk_at dksX10_checksum_9 10 rfl rfl)
theorem dX10_checksum_221 : decode cX10_checksum 221 = .ok (.lstore_n 1, 1) := dk_64 (dk_at dksX10_checksum_9 11 rfl rfl)
theorem dX10_checksum_222 : decode cX10_checksum 222 = .ok (.ldc2_w 410, 3) := dk_20 1 154 (dk_at dksX10_checksum_9 12 rfl rfl)
theorem dX10_checksum_225 : decode cX10_checksum 225 = .ok (.lload_n 1, 1) := dk_31 (dk_at dksX10_checksum_9 15 rfl rfl)
theorem dX10_checksum_226 : decode cX10_checksum 226 = .ok (.lmul, 1) := dk_105 (dk_at dksX10_checksum_9 16 rfl rfl)
theorem dX10_checksum_227 : decode cX10_checksum 227 = .ok (.aload_n 0, 1) := dk_42 (dk_at dksX10_checksum_9 17 rfl rfl)
theorem dX10_checksum_228 : decode cX10_checksum 228 = .ok (.aload_n 0, 1) := dk_42 (dk_at dksX10_checksum_9 18 rfl rfl)
theorem dX10_checksum_229 : decode cX10_checksum 229 = .ok (.getfield 38, 3) := dk_180 0 38 (dk_at dksX10_checksum_9 19 rfl rfl)
theorem dX10_checksum_232 : decode cX10_checksum 232 = .ok (.iload 4, 2) := dk_21 4 (dk_at dksX10_checksum_9 22 rfl rfl)
theorem dX10_checksum_234 : decode cX10_checksum 234 = .ok (.iaload, 1) := dk_46 (dk_at dksX10_checksum_10 0 rfl rfl)
theorem dX10_checksum_235 : decode cX10_checksum 235 = .ok (.invokevirtual 302, 3) := dk_182 1 46 (dk_at dksX10_checksum_10 1 rfl rfl)
theorem dX10_checksum_238 : decode cX10_checksum 238 = .ok (.i2l, 1) := dk_133 (dk_at dksX10_checksum_10 4 rfl rfl)
theorem dX10_checksum_239 : decode cX10_checksum 239 = .ok (.ladd, 1) := dk_97 (dk_at dksX10_checksum_10 5 rfl rfl)
theorem dX10_checksum_240 : decode cX10_checksum 240 = .ok (.lstore_n 1, 1) := dk_64 (dk_at dksX10_checksum_10 6 rfl rfl)
theorem dX10_checksum_241 : decode cX10_checksum 241 = .ok (.iinc 4 1, 3) := dk_132 4 1 (dk_at dksX10_checksum_10 7 rfl rfl)
theorem dX10_checksum_244 : decode cX10_checksum 244 = .ok (.goto (-47), 3) := dk_167 255 209 (dk_at dksX10_checksum_10 10 rfl rfl)
theorem dX10_checksum_247 : decode cX10_checksum 247 = .ok (.lload_n 1, 1) := dk_31 (dk_at dksX10_checksum_10 13 rfl rfl)
theorem dX10_checksum_248 : decode cX10_checksum 248 = .ok (.lreturn, 1) := dk_173 (dk_at dksX10_checksum_10 14 rfl rfl)
theorem q159 : (Jvm.Cond.initialized "HeirCasesModel") ∈ lw_all := lw_g (lw_at lw_m1 34 rfl) rfl
theorem q1074 : (Jvm.Cond.selects "HeirCasesModel" ({ cls := "java/lang/Object", name := "getClass", desc := "()Ljava/lang/Class;" } : Jvm.MethodName) ({ cls := "java/lang/Object", name := "getClass", desc := "()Ljava/lang/Class;" } : Jvm.MethodName)) ∈ lw_all := lw_g (lw_at lw_m4 229 rfl) rfl
theorem q2081 : (Jvm.Cond.instantiable "HeirCasesModel" (27 : Nat)) ∈ lw_all := lw_g (lw_at lw_m9 36 rfl) rfl
theorem q2083 : (Jvm.Cond.instanceMethod ({ cls := "HeirCasesModel", name := "<init>", desc := "()V" } : Jvm.MethodName)) ∈ lw_all := lw_g (lw_at lw_m9 38 rfl) rfl
theorem q2084 : (Jvm.Cond.code ({ cls := "HeirCasesModel", name := "<init>", desc := "()V" } : Jvm.MethodName) prog_17_method_1_code (1 : Nat) (Option.none : Option Jvm.ClassFile.FieldType)) ∈ lw_all := lw_g (lw_at lw_m9 39 rfl) rfl
theorem q2085 : (Jvm.Cond.methodLink "HeirCasesModel" (1 : Nat) ({ cls := "java/lang/Object", name := "<init>", desc := "()V" } : Jvm.MethodName)) ∈ lw_all := lw_g (lw_at lw_m9 40 rfl) rfl
theorem q2086 : (Jvm.Cond.methodLink "HeirCasesModel" (41 : Nat) ({ cls := "HeirCasesModel", name := "lay", desc := "(I)V" } : Jvm.MethodName)) ∈ lw_all := lw_g (lw_at lw_m9 41 rfl) rfl
theorem q2087 : (Jvm.Cond.privateMethod ({ cls := "HeirCasesModel", name := "lay", desc := "(I)V" } : Jvm.MethodName)) ∈ lw_tbl := lw_at lw_m9 42 rfl
theorem q2088 : (Jvm.Cond.instanceMethod ({ cls := "HeirCasesModel", name := "lay", desc := "(I)V" } : Jvm.MethodName)) ∈ lw_all := lw_g (lw_at lw_m9 43 rfl) rfl
theorem q2089 : (Jvm.Cond.code ({ cls := "HeirCasesModel", name := "lay", desc := "(I)V" } : Jvm.MethodName) prog_17_method_37_code (2 : Nat) (Option.none : Option Jvm.ClassFile.FieldType)) ∈ lw_all := lw_g (lw_at lw_m9 44 rfl) rfl
theorem q2090 : (Jvm.Cond.stringRef "HeirCasesModel" (122 : Nat) "facts 2 3; heirs 3 rest 2; rule a = 1 gives 0 1/2, 1 1/4; rule b > 0 and not a = 1 gives 1 1/3; rule a = 1 and b = 2 gives 0 2/3 over 0;") ∈ lw_tbl := lw_at lw_m9 45 rfl
theorem q2091 : (Jvm.Cond.methodLink "HeirCasesModel" (124 : Nat) ({ cls := "HeirCasesModel", name := "tell", desc := "(Ljava/lang/String;)V" } : Jvm.MethodName)) ∈ lw_all := lw_g (lw_at lw_m9 46 rfl) rfl
theorem q2092 : (Jvm.Cond.privateMethod ({ cls := "HeirCasesModel", name := "tell", desc := "(Ljava/lang/String;)V" } : Jvm.MethodName)) ∈ lw_tbl := lw_at lw_m9 47 rfl
theorem q2093 : (Jvm.Cond.instanceMethod ({ cls := "HeirCasesModel", name := "tell", desc := "(Ljava/lang/String;)V" } : Jvm.MethodName)) ∈ lw_all := lw_g (lw_at lw_m9 48 rfl) rfl
theorem q2094 : (Jvm.Cond.code ({ cls := "HeirCasesModel", name := "tell", desc := "(Ljava/lang/String;)V" } : Jvm.MethodName) prog_17_method_36_code (3 : Nat) (Option.none : Option Jvm.ClassFile.FieldType)) ∈ lw_all := lw_g (lw_at lw_m9 49 rfl) rfl
theorem q2095 : (Jvm.Cond.methodLink "HeirCasesModel" (110 : Nat) ({ cls := "java/lang/String", name := "length", desc := "()I" } : Jvm.MethodName)) ∈ lw_all := lw_g (lw_at lw_m9 50 rfl) rfl
theorem q2096 : (Jvm.Cond.methodLink "HeirCasesModel" (118 : Nat) ({ cls := "java/lang/String", name := "charAt", desc := "(I)C" } : Jvm.MethodName)) ∈ lw_all := lw_g (lw_at lw_m9 51 rfl) rfl
theorem q2097 : (Jvm.Cond.stringRef "HeirCasesModel" (128 : Nat) "facts 2 2 2 2; heirs 4 rest 0; estate 9000; heir 1 free 500 rate 20; rule a = 1 or b = 1 and c = 1 gives 1 1/4, 2 1/4, 3 1/4; ") ∈ lw_tbl := lw_at lw_m9 52 rfl
theorem q2098 : (Jvm.Cond.stringRef "HeirCasesModel" (130 : Nat) "rule (a = 1 or b = 1) and c = 1 gives 3 1/12 over 0; rule not (a = 1 or d = 1) gives nothing; rule d = 1 gives 2 1/12, 3 5/12 over 1;") ∈ lw_tbl := lw_at lw_m9 53 rfl
theorem q2099 : (Jvm.Cond.stringRef "HeirCasesModel" (132 : Nat) "facts 4; heirs 1 rest 0; estate 0; rule a < 1 gives 0 1/1; rule a > 2 gives nothing over 0; rule always gives nothing;") ∈ lw_tbl := lw_at lw_m9 54 rfl
theorem q2100 : (Jvm.Cond.methodLink "HeirCasesModel" (134 : Nat) ({ cls := "HeirCasesModel", name := "parseAll", desc := "()Z" } : Jvm.MethodName)) ∈ lw_all := lw_g (lw_at lw_m9 55 rfl) rfl
theorem q2101 : (Jvm.Cond.privateMethod ({ cls := "HeirCasesModel", name := "parseAll", desc := "()Z" } : Jvm.MethodName)) ∈ lw_tbl := lw_at lw_m9 56 rfl
theorem q2102 : (Jvm.Cond.instanceMethod ({ cls := "HeirCasesModel", name := "parseAll", desc := "()Z" } : Jvm.MethodName)) ∈ lw_all := lw_g (lw_at lw_m9 57 rfl) rfl
theorem q2103 : (Jvm.Cond.code ({ cls := "HeirCasesModel", name := "parseAll", desc := "()Z" } : Jvm.MethodName) prog_17_method_59_code (2 : Nat) (Option.some Jvm.ClassFile.FieldType.boolean)) ∈ lw_all := lw_g (lw_at lw_m9 58 rfl) rfl
theorem q2104 : (Jvm.Cond.methodLink "HeirCasesModel" (164 : Nat) ({ cls := "HeirCasesModel", name := "next", desc := "()V" } : Jvm.MethodName)) ∈ lw_all := lw_g (lw_at lw_m9 59 rfl) rfl
theorem q2105 : (Jvm.Cond.privateMethod ({ cls := "HeirCasesModel", name := "next", desc := "()V" } : Jvm.MethodName)) ∈ lw_tbl := lw_at lw_m9 60 rfl
theorem q2106 : (Jvm.Cond.instanceMethod ({ cls := "HeirCasesModel", name := "next", desc := "()V" } : Jvm.MethodName)) ∈ lw_all := lw_g (lw_at lw_m9 61 rfl) rfl
theorem q2107 : (Jvm.Cond.code ({ cls := "HeirCasesModel", name := "next", desc := "()V" } : Jvm.MethodName) prog_17_method_39_code (2 : Nat) (Option.none : Option Jvm.ClassFile.FieldType)) ∈ lw_all := lw_g (lw_at lw_m9 62 rfl) rfl
theorem q2108 : (Jvm.Cond.methodLink "HeirCasesModel" (147 : Nat) ({ cls := "HeirCasesModel", name := "sortOf", desc := "(I)I" } : Jvm.MethodName)) ∈ lw_all := lw_g (lw_at lw_m9 63 rfl) rfl
theorem q2109 : (Jvm.Cond.static ({ cls := "HeirCasesModel", name := "sortOf", desc := "(I)I" } : Jvm.MethodName)) ∈ lw_all := lw_g (lw_at lw_m9 64 rfl) rfl
theorem q2110 : (Jvm.Cond.code ({ cls := "HeirCasesModel", name := "sortOf", desc := "(I)I" } : Jvm.MethodName) prog_17_method_38_code (1 : Nat) (Option.some Jvm.ClassFile.FieldType.int)) ∈ lw_all := lw_g (lw_at lw_m9 65 rfl) rfl
theorem q2111 : (Jvm.Cond.methodLink "HeirCasesModel" (265 : Nat) ({ cls := "HeirCasesModel", name := "reads", desc := "()Z" } : Jvm.MethodName)) ∈ lw_all := lw_g (lw_at lw_m9 66 rfl) rfl
theorem q2112 : (Jvm.Cond.privateMethod ({ cls := "HeirCasesModel", name := "reads", desc := "()Z" } : Jvm.MethodName)) ∈ lw_tbl := lw_at lw_m9 67 rfl
theorem q2113 : (Jvm.Cond.instanceMethod ({ cls := "HeirCasesModel", name := "reads", desc := "()Z" } : Jvm.MethodName)) ∈ lw_all := lw_g (lw_at lw_m9 68 rfl) rfl
theorem q2114 : (Jvm.Cond.code ({ cls := "HeirCasesModel", name := "reads", desc := "()Z" } : Jvm.MethodName) prog_17_method_58_code (1 : Nat) (Option.some Jvm.ClassFile.FieldType.boolean)) ∈ lw_all := lw_g (lw_at lw_m9 69 rfl) rfl
theorem q2115 : (Jvm.Cond.methodLink "HeirCasesModel" (259 : Nat) ({ cls := "HeirCasesModel", name := "readsFacts", desc := "()Z" } : Jvm.MethodName)) ∈ lw_all := lw_g (lw_at lw_m9 70 rfl) rfl
theorem q2116 : (Jvm.Cond.privateMethod ({ cls := "HeirCasesModel", name := "readsFacts", desc := "()Z" } : Jvm.MethodName)) ∈ lw_tbl := lw_at lw_m9 71 rfl
theorem q2117 : (Jvm.Cond.instanceMethod ({ cls := "HeirCasesModel", name := "readsFacts", desc := "()Z" } : Jvm.MethodName)) ∈ lw_all := lw_g (lw_at lw_m9 72 rfl) rfl
theorem q2118 : (Jvm.Cond.code ({ cls := "HeirCasesModel", name := "readsFacts", desc := "()Z" } : Jvm.MethodName) prog_17_method_57_code (2 : Nat) (Option.some Jvm.ClassFile.FieldType.boolean)) ∈ lw_all := lw_g (lw_at lw_m9 73 rfl) rfl
theorem q2119 : (Jvm.Cond.stringRef "HeirCasesModel" (253 : Nat) "facts") ∈ lw_tbl := lw_at lw_m9 74 rfl
theorem q2120 : (Jvm.Cond.methodLink "HeirCasesModel" (228 : Nat) ({ cls := "HeirCasesModel", name := "word", desc := "(Ljava/lang/String;)Z" } : Jvm.MethodName)) ∈ lw_all := lw_g (lw_at lw_m9 75 rfl) rfl
theorem q2121 : (Jvm.Cond.privateMethod ({ cls := "HeirCasesModel", name := "word", desc := "(Ljava/lang/String;)Z" } : Jvm.MethodName)) ∈ lw_tbl := lw_at lw_m9 76 rfl
theorem q2122 : (Jvm.Cond.instanceMethod ({ cls := "HeirCasesModel", name := "word", desc := "(Ljava/lang/String;)Z" } : Jvm.MethodName)) ∈ lw_all := lw_g (lw_at lw_m9 77 rfl) rfl
theorem q2123 : (Jvm.Cond.code ({ cls := "HeirCasesModel", name := "word", desc := "(Ljava/lang/String;)Z" } : Jvm.MethodName) prog_17_method_42_code (2 : Nat) (Option.some Jvm.ClassFile.FieldType.boolean)) ∈ lw_all := lw_g (lw_at lw_m9 78 rfl) rfl
theorem q2124 : (Jvm.Cond.methodLink "HeirCasesModel" (156 : Nat) ({ cls := "HeirCasesModel", name := "says", desc := "(Ljava/lang/String;)Z" } : Jvm.MethodName)) ∈ lw_all := lw_g (lw_at lw_m9 79 rfl) rfl
theorem q2125 : (Jvm.Cond.privateMethod ({ cls := "HeirCasesModel", name := "says", desc := "(Ljava/lang/String;)Z" } : Jvm.MethodName)) ∈ lw_tbl := lw_at lw_m9 80 rfl
theorem q2126 : (Jvm.Cond.instanceMethod ({ cls := "HeirCasesModel", name := "says", desc := "(Ljava/lang/String;)Z" } : Jvm.MethodName)) ∈ lw_all := lw_g (lw_at lw_m9 81 rfl) rfl
theorem q2127 : (Jvm.Cond.code ({ cls := "HeirCasesModel", name := "says", desc := "(Ljava/lang/String;)Z" } : Jvm.MethodName) prog_17_method_40_code (3 : Nat) (Option.some Jvm.ClassFile.FieldType.boolean)) ∈ lw_all := lw_g (lw_at lw_m9 82 rfl) rfl
theorem q2128 : (Jvm.Cond.methodLink "HeirCasesModel" (160 : Nat) ({ cls := "HeirCasesModel", name := "fail", desc := "(I)Z" } : Jvm.MethodName)) ∈ lw_all := lw_g (lw_at lw_m9 83 rfl) rfl
theorem q2129 : (Jvm.Cond.privateMethod ({ cls := "HeirCasesModel", name := "fail", desc := "(I)Z" } : Jvm.MethodName)) ∈ lw_tbl := lw_at lw_m9 84 rfl
theorem q2130 : (Jvm.Cond.instanceMethod ({ cls := "HeirCasesModel", name := "fail", desc := "(I)Z" } : Jvm.MethodName)) ∈ lw_all := lw_g (lw_at lw_m9 85 rfl) rfl
theorem q2131 : (Jvm.Cond.code ({ cls := "HeirCasesModel", name := "fail", desc := "(I)Z" } : Jvm.MethodName) prog_17_method_41_code (2 : Nat) (Option.some Jvm.ClassFile.FieldType.boolean)) ∈ lw_all := lw_g (lw_at lw_m9 86 rfl) rfl
theorem q2132 : (Jvm.Cond.methodLink "HeirCasesModel" (170 : Nat) ({ cls := "HeirCasesModel", name := "isNumber", desc := "(II)Z" } : Jvm.MethodName)) ∈ lw_all := lw_g (lw_at lw_m9 87 rfl) rfl
theorem q2133 : (Jvm.Cond.privateMethod ({ cls := "HeirCasesModel", name := "isNumber", desc := "(II)Z" } : Jvm.MethodName)) ∈ lw_tbl := lw_at lw_m9 88 rfl
theorem q2134 : (Jvm.Cond.instanceMethod ({ cls := "HeirCasesModel", name := "isNumber", desc := "(II)Z" } : Jvm.MethodName)) ∈ lw_all := lw_g (lw_at lw_m9 89 rfl) rfl
theorem q2135 : (Jvm.Cond.code ({ cls := "HeirCasesModel", name := "isNumber", desc := "(II)Z" } : Jvm.MethodName) prog_17_method_44_code (3 : Nat) (Option.some Jvm.ClassFile.FieldType.boolean)) ∈ lw_all := lw_g (lw_at lw_m9 90 rfl) rfl
theorem q2136 : (Jvm.Cond.methodLink "HeirCasesModel" (53 : Nat) ({ cls := "HeirCasesModel", name := "in", desc := "(III)Z" } : Jvm.MethodName)) ∈ lw_all := lw_g (lw_at lw_m9 91 rfl) rfl
theorem q2137 : (Jvm.Cond.static ({ cls := "HeirCasesModel", name := "in", desc := "(III)Z" } : Jvm.MethodName)) ∈ lw_all := lw_g (lw_at lw_m9 92 rfl) rfl
theorem q2138 : (Jvm.Cond.code ({ cls := "HeirCasesModel", name := "in", desc := "(III)Z" } : Jvm.MethodName) prog_17_method_3_code (3 : Nat) (Option.some Jvm.ClassFile.FieldType.boolean)) ∈ lw_all := lw_g (lw_at lw_m9 93 rfl) rfl
theorem q2139 : (Jvm.Cond.methodLink "HeirCasesModel" (202 : Nat) ({ cls := "HeirCasesModel", name := "sign", desc := "(I)Z" } : Jvm.MethodName)) ∈ lw_all := lw_g (lw_at lw_m9 94 rfl) rfl
theorem q2140 : (Jvm.Cond.privateMethod ({ cls := "HeirCasesModel", name := "sign", desc := "(I)Z" } : Jvm.MethodName)) ∈ lw_tbl := lw_at lw_m9 95 rfl
theorem q2141 : (Jvm.Cond.instanceMethod ({ cls := "HeirCasesModel", name := "sign", desc := "(I)Z" } : Jvm.MethodName)) ∈ lw_all := lw_g (lw_at lw_m9 96 rfl) rfl
theorem q2142 : (Jvm.Cond.code ({ cls := "HeirCasesModel", name := "sign", desc := "(I)Z" } : Jvm.MethodName) prog_17_method_43_code (2 : Nat) (Option.some Jvm.ClassFile.FieldType.boolean)) ∈ lw_all := lw_g (lw_at lw_m9 97 rfl) rfl
theorem q2143 : (Jvm.Cond.stringRef "HeirCasesModel" (255 : Nat) "heirs") ∈ lw_tbl := lw_at lw_m9 98 rfl
theorem q2144 : (Jvm.Cond.methodLink "HeirCasesModel" (182 : Nat) ({ cls := "HeirCasesModel", name := "number", desc := "(II)Z" } : Jvm.MethodName)) ∈ lw_all := lw_g (lw_at lw_m9 99 rfl) rfl
theorem q2145 : (Jvm.Cond.privateMethod ({ cls := "HeirCasesModel", name := "number", desc := "(II)Z" } : Jvm.MethodName)) ∈ lw_tbl := lw_at lw_m9 100 rfl
theorem q2146 : (Jvm.Cond.instanceMethod ({ cls := "HeirCasesModel", name := "number", desc := "(II)Z" } : Jvm.MethodName)) ∈ lw_all := lw_g (lw_at lw_m9 101 rfl) rfl
theorem q2147 : (Jvm.Cond.code ({ cls := "HeirCasesModel", name := "number", desc := "(II)Z" } : Jvm.MethodName) prog_17_method_45_code (3 : Nat) (Option.some Jvm.ClassFile.FieldType.boolean)) ∈ lw_all := lw_g (lw_at lw_m9 102 rfl) rfl
theorem q2148 : (Jvm.Cond.stringRef "HeirCasesModel" (257 : Nat) "rest") ∈ lw_tbl := lw_at lw_m9 103 rfl
theorem q2149 : (Jvm.Cond.methodLink "HeirCasesModel" (262 : Nat) ({ cls := "HeirCasesModel", name := "readsLine", desc := "()Z" } : Jvm.MethodName)) ∈ lw_all := lw_g (lw_at lw_m9 104 rfl) rfl
theorem q2150 : (Jvm.Cond.privateMethod ({ cls := "HeirCasesModel", name := "readsLine", desc := "()Z" } : Jvm.MethodName)) ∈ lw_tbl := lw_at lw_m9 105 rfl
theorem q2151 : (Jvm.Cond.instanceMethod ({ cls := "HeirCasesModel", name := "readsLine", desc := "()Z" } : Jvm.MethodName)) ∈ lw_all := lw_g (lw_at lw_m9 106 rfl) rfl
theorem q2152 : (Jvm.Cond.code ({ cls := "HeirCasesModel", name := "readsLine", desc := "()Z" } : Jvm.MethodName) prog_17_method_56_code (1 : Nat) (Option.some Jvm.ClassFile.FieldType.boolean)) ∈ lw_all := lw_g (lw_at lw_m9 107 rfl) rfl
theorem q2153 : (Jvm.Cond.stringRef "HeirCasesModel" (241 : Nat) "rule") ∈ lw_tbl := lw_at lw_m9 108 rfl
theorem q2154 : (Jvm.Cond.methodLink "HeirCasesModel" (243 : Nat) ({ cls := "HeirCasesModel", name := "readsRule", desc := "()Z" } : Jvm.MethodName)) ∈ lw_all := lw_g (lw_at lw_m9 109 rfl) rfl
theorem q2155 : (Jvm.Cond.privateMethod ({ cls := "HeirCasesModel", name := "readsRule", desc := "()Z" } : Jvm.MethodName)) ∈ lw_tbl := lw_at lw_m9 110 rfl
theorem q2156 : (Jvm.Cond.instanceMethod ({ cls := "HeirCasesModel", name := "readsRule", desc := "()Z" } : Jvm.MethodName)) ∈ lw_all := lw_g (lw_at lw_m9 111 rfl) rfl
theorem q2157 : (Jvm.Cond.code ({ cls := "HeirCasesModel", name := "readsRule", desc := "()Z" } : Jvm.MethodName) prog_17_method_54_code (2 : Nat) (Option.some Jvm.ClassFile.FieldType.boolean)) ∈ lw_all := lw_g (lw_at lw_m9 112 rfl) rfl
theorem q2158 : (Jvm.Cond.methodLink "HeirCasesModel" (57 : Nat) ({ cls := "HeirCasesModel", name := "rule0", desc := "(I)I" } : Jvm.MethodName)) ∈ lw_all := lw_g (lw_at lw_m9 113 rfl) rfl
theorem q2159 : (Jvm.Cond.static ({ cls := "HeirCasesModel", name := "rule0", desc := "(I)I" } : Jvm.MethodName)) ∈ lw_all := lw_g (lw_at lw_m9 114 rfl) rfl
theorem q2160 : (Jvm.Cond.code ({ cls := "HeirCasesModel", name := "rule0", desc := "(I)I" } : Jvm.MethodName) prog_17_method_13_code (1 : Nat) (Option.some Jvm.ClassFile.FieldType.int)) ∈ lw_all := lw_g (lw_at lw_m9 115 rfl) rfl
theorem q2161 : (Jvm.Cond.methodLink "HeirCasesModel" (199 : Nat) ({ cls := "HeirCasesModel", name := "readsGuard", desc := "()Z" } : Jvm.MethodName)) ∈ lw_all := lw_g (lw_at lw_m9 116 rfl) rfl
theorem q2162 : (Jvm.Cond.privateMethod ({ cls := "HeirCasesModel", name := "readsGuard", desc := "()Z" } : Jvm.MethodName)) ∈ lw_tbl := lw_at lw_m9 117 rfl
theorem q2163 : (Jvm.Cond.instanceMethod ({ cls := "HeirCasesModel", name := "readsGuard", desc := "()Z" } : Jvm.MethodName)) ∈ lw_all := lw_g (lw_at lw_m9 118 rfl) rfl
theorem q2164 : (Jvm.Cond.code ({ cls := "HeirCasesModel", name := "readsGuard", desc := "()Z" } : Jvm.MethodName) prog_17_method_50_code (1 : Nat) (Option.some Jvm.ClassFile.FieldType.boolean)) ∈ lw_all := lw_g (lw_at lw_m9 119 rfl) rfl
theorem q2165 : (Jvm.Cond.methodLink "HeirCasesModel" (212 : Nat) ({ cls := "HeirCasesModel", name := "readsTerm", desc := "()Z" } : Jvm.MethodName)) ∈ lw_all := lw_g (lw_at lw_m9 120 rfl) rfl
theorem q2166 : (Jvm.Cond.privateMethod ({ cls := "HeirCasesModel", name := "readsTerm", desc := "()Z" } : Jvm.MethodName)) ∈ lw_tbl := lw_at lw_m9 121 rfl
theorem q2167 : (Jvm.Cond.instanceMethod ({ cls := "HeirCasesModel", name := "readsTerm", desc := "()Z" } : Jvm.MethodName)) ∈ lw_all := lw_g (lw_at lw_m9 122 rfl) rfl
theorem q2168 : (Jvm.Cond.code ({ cls := "HeirCasesModel", name := "readsTerm", desc := "()Z" } : Jvm.MethodName) prog_17_method_49_code (1 : Nat) (Option.some Jvm.ClassFile.FieldType.boolean)) ∈ lw_all := lw_g (lw_at lw_m9 123 rfl) rfl
theorem q2169 : (Jvm.Cond.methodLink "HeirCasesModel" (193 : Nat) ({ cls := "HeirCasesModel", name := "readsFactor", desc := "()Z" } : Jvm.MethodName)) ∈ lw_all := lw_g (lw_at lw_m9 124 rfl) rfl
theorem q2170 : (Jvm.Cond.privateMethod ({ cls := "HeirCasesModel", name := "readsFactor", desc := "()Z" } : Jvm.MethodName)) ∈ lw_tbl := lw_at lw_m9 125 rfl
theorem q2171 : (Jvm.Cond.instanceMethod ({ cls := "HeirCasesModel", name := "readsFactor", desc := "()Z" } : Jvm.MethodName)) ∈ lw_all := lw_g (lw_at lw_m9 126 rfl) rfl
theorem q2172 : (Jvm.Cond.code ({ cls := "HeirCasesModel", name := "readsFactor", desc := "()Z" } : Jvm.MethodName) prog_17_method_48_code (1 : Nat) (Option.some Jvm.ClassFile.FieldType.boolean)) ∈ lw_all := lw_g (lw_at lw_m9 127 rfl) rfl
theorem q2173 : (Jvm.Cond.stringRef "HeirCasesModel" (188 : Nat) "not") ∈ lw_tbl := lw_at lw_m9 128 rfl
theorem q2174 : (Jvm.Cond.methodLink "HeirCasesModel" (185 : Nat) ({ cls := "HeirCasesModel", name := "emits", desc := "(I)V" } : Jvm.MethodName)) ∈ lw_all := lw_g (lw_at lw_m9 129 rfl) rfl
theorem q2175 : (Jvm.Cond.privateMethod ({ cls := "HeirCasesModel", name := "emits", desc := "(I)V" } : Jvm.MethodName)) ∈ lw_tbl := lw_at lw_m9 130 rfl
theorem q2176 : (Jvm.Cond.instanceMethod ({ cls := "HeirCasesModel", name := "emits", desc := "(I)V" } : Jvm.MethodName)) ∈ lw_all := lw_g (lw_at lw_m9 131 rfl) rfl
theorem q2177 : (Jvm.Cond.code ({ cls := "HeirCasesModel", name := "emits", desc := "(I)V" } : Jvm.MethodName) prog_17_method_46_code (2 : Nat) (Option.none : Option Jvm.ClassFile.FieldType)) ∈ lw_all := lw_g (lw_at lw_m9 132 rfl) rfl
theorem q2178 : (Jvm.Cond.stringRef "HeirCasesModel" (205 : Nat) "always") ∈ lw_tbl := lw_at lw_m9 133 rfl
theorem q2179 : (Jvm.Cond.methodLink "HeirCasesModel" (207 : Nat) ({ cls := "HeirCasesModel", name := "readsCompare", desc := "()Z" } : Jvm.MethodName)) ∈ lw_all := lw_g (lw_at lw_m9 134 rfl) rfl
theorem q2180 : (Jvm.Cond.privateMethod ({ cls := "HeirCasesModel", name := "readsCompare", desc := "()Z" } : Jvm.MethodName)) ∈ lw_tbl := lw_at lw_m9 135 rfl
theorem q2181 : (Jvm.Cond.instanceMethod ({ cls := "HeirCasesModel", name := "readsCompare", desc := "()Z" } : Jvm.MethodName)) ∈ lw_all := lw_g (lw_at lw_m9 136 rfl) rfl
theorem q2182 : (Jvm.Cond.code ({ cls := "HeirCasesModel", name := "readsCompare", desc := "()Z" } : Jvm.MethodName) prog_17_method_47_code (3 : Nat) (Option.some Jvm.ClassFile.FieldType.boolean)) ∈ lw_all := lw_g (lw_at lw_m9 137 rfl) rfl
theorem q2183 : (Jvm.Cond.methodLink "HeirCasesModel" (176 : Nat) ({ cls := "HeirCasesModel", name := "isFact", desc := "(I)Z" } : Jvm.MethodName)) ∈ lw_all := lw_g (lw_at lw_m9 138 rfl) rfl
theorem q2184 : (Jvm.Cond.privateMethod ({ cls := "HeirCasesModel", name := "isFact", desc := "(I)Z" } : Jvm.MethodName)) ∈ lw_tbl := lw_at lw_m9 139 rfl
theorem q2185 : (Jvm.Cond.instanceMethod ({ cls := "HeirCasesModel", name := "isFact", desc := "(I)Z" } : Jvm.MethodName)) ∈ lw_all := lw_g (lw_at lw_m9 140 rfl) rfl
theorem q2186 : (Jvm.Cond.code ({ cls := "HeirCasesModel", name := "isFact", desc := "(I)Z" } : Jvm.MethodName) prog_17_method_12_code (2 : Nat) (Option.some Jvm.ClassFile.FieldType.boolean)) ∈ lw_all := lw_g (lw_at lw_m9 141 rfl) rfl
theorem q2187 : (Jvm.Cond.stringRef "HeirCasesModel" (210 : Nat) "and") ∈ lw_tbl := lw_at lw_m9 142 rfl
theorem q2188 : (Jvm.Cond.stringRef "HeirCasesModel" (215 : Nat) "or") ∈ lw_tbl := lw_at lw_m9 143 rfl
theorem q2189 : (Jvm.Cond.stringRef "HeirCasesModel" (226 : Nat) "gives") ∈ lw_tbl := lw_at lw_m9 144 rfl
theorem q2190 : (Jvm.Cond.methodLink "HeirCasesModel" (231 : Nat) ({ cls := "HeirCasesModel", name := "readsParts", desc := "()Z" } : Jvm.MethodName)) ∈ lw_all := lw_g (lw_at lw_m9 145 rfl) rfl
theorem q2191 : (Jvm.Cond.privateMethod ({ cls := "HeirCasesModel", name := "readsParts", desc := "()Z" } : Jvm.MethodName)) ∈ lw_tbl := lw_at lw_m9 146 rfl
theorem q2192 : (Jvm.Cond.instanceMethod ({ cls := "HeirCasesModel", name := "readsParts", desc := "()Z" } : Jvm.MethodName)) ∈ lw_all := lw_g (lw_at lw_m9 147 rfl) rfl
theorem q2193 : (Jvm.Cond.code ({ cls := "HeirCasesModel", name := "readsParts", desc := "()Z" } : Jvm.MethodName) prog_17_method_52_code (3 : Nat) (Option.some Jvm.ClassFile.FieldType.boolean)) ∈ lw_all := lw_g (lw_at lw_m9 148 rfl) rfl
theorem q2194 : (Jvm.Cond.stringRef "HeirCasesModel" (219 : Nat) "nothing") ∈ lw_tbl := lw_at lw_m9 149 rfl
theorem q2195 : (Jvm.Cond.methodLink "HeirCasesModel" (221 : Nat) ({ cls := "HeirCasesModel", name := "readsPart", desc := "(I)Z" } : Jvm.MethodName)) ∈ lw_all := lw_g (lw_at lw_m9 150 rfl) rfl
theorem q2196 : (Jvm.Cond.privateMethod ({ cls := "HeirCasesModel", name := "readsPart", desc := "(I)Z" } : Jvm.MethodName)) ∈ lw_tbl := lw_at lw_m9 151 rfl
theorem q2197 : (Jvm.Cond.instanceMethod ({ cls := "HeirCasesModel", name := "readsPart", desc := "(I)Z" } : Jvm.MethodName)) ∈ lw_all := lw_g (lw_at lw_m9 152 rfl) rfl
theorem q2198 : (Jvm.Cond.code ({ cls := "HeirCasesModel", name := "readsPart", desc := "(I)Z" } : Jvm.MethodName) prog_17_method_51_code (7 : Nat) (Option.some Jvm.ClassFile.FieldType.boolean)) ∈ lw_all := lw_g (lw_at lw_m9 153 rfl) rfl
theorem q2199 : (Jvm.Cond.methodLink "HeirCasesModel" (49 : Nat) ({ cls := "HeirCasesModel", name := "has", desc := "(II)Z" } : Jvm.MethodName)) ∈ lw_all := lw_g (lw_at lw_m9 154 rfl) rfl
theorem q2200 : (Jvm.Cond.static ({ cls := "HeirCasesModel", name := "has", desc := "(II)Z" } : Jvm.MethodName)) ∈ lw_all := lw_g (lw_at lw_m9 155 rfl) rfl
theorem q2201 : (Jvm.Cond.code ({ cls := "HeirCasesModel", name := "has", desc := "(II)Z" } : Jvm.MethodName) prog_17_method_7_code (2 : Nat) (Option.some Jvm.ClassFile.FieldType.boolean)) ∈ lw_all := lw_g (lw_at lw_m9 156 rfl) rfl
theorem q2202 : (Jvm.Cond.methodLink "HeirCasesModel" (234 : Nat) ({ cls := "HeirCasesModel", name := "readsOver", desc := "()Z" } : Jvm.MethodName)) ∈ lw_all := lw_g (lw_at lw_m9 157 rfl) rfl
theorem q2203 : (Jvm.Cond.privateMethod ({ cls := "HeirCasesModel", name := "readsOver", desc := "()Z" } : Jvm.MethodName)) ∈ lw_tbl := lw_at lw_m9 158 rfl
theorem q2204 : (Jvm.Cond.instanceMethod ({ cls := "HeirCasesModel", name := "readsOver", desc := "()Z" } : Jvm.MethodName)) ∈ lw_all := lw_g (lw_at lw_m9 159 rfl) rfl
theorem q2205 : (Jvm.Cond.code ({ cls := "HeirCasesModel", name := "readsOver", desc := "()Z" } : Jvm.MethodName) prog_17_method_53_code (2 : Nat) (Option.some Jvm.ClassFile.FieldType.boolean)) ∈ lw_all := lw_g (lw_at lw_m9 160 rfl) rfl
theorem q2206 : (Jvm.Cond.stringRef "HeirCasesModel" (224 : Nat) "over") ∈ lw_tbl := lw_at lw_m9 161 rfl
theorem q2207 : (Jvm.Cond.stringRef "HeirCasesModel" (246 : Nat) "heir") ∈ lw_tbl := lw_at lw_m9 162 rfl
theorem q2208 : (Jvm.Cond.methodLink "HeirCasesModel" (248 : Nat) ({ cls := "HeirCasesModel", name := "readsHeir", desc := "()Z" } : Jvm.MethodName)) ∈ lw_all := lw_g (lw_at lw_m9 163 rfl) rfl
theorem q2209 : (Jvm.Cond.privateMethod ({ cls := "HeirCasesModel", name := "readsHeir", desc := "()Z" } : Jvm.MethodName)) ∈ lw_tbl := lw_at lw_m9 164 rfl
theorem q2210 : (Jvm.Cond.instanceMethod ({ cls := "HeirCasesModel", name := "readsHeir", desc := "()Z" } : Jvm.MethodName)) ∈ lw_all := lw_g (lw_at lw_m9 165 rfl) rfl
theorem q2211 : (Jvm.Cond.code ({ cls := "HeirCasesModel", name := "readsHeir", desc := "()Z" } : Jvm.MethodName) prog_17_method_55_code (2 : Nat) (Option.some Jvm.ClassFile.FieldType.boolean)) ∈ lw_all := lw_g (lw_at lw_m9 166 rfl) rfl
theorem q2212 : (Jvm.Cond.stringRef "HeirCasesModel" (237 : Nat) "free") ∈ lw_tbl := lw_at lw_m9 167 rfl
theorem q2213 : (Jvm.Cond.stringRef "HeirCasesModel" (239 : Nat) "rate") ∈ lw_tbl := lw_at lw_m9 168 rfl
theorem q2214 : (Jvm.Cond.stringRef "HeirCasesModel" (251 : Nat) "estate") ∈ lw_tbl := lw_at lw_m9 169 rfl
theorem q2215 : (Jvm.Cond.fieldLink "HeirCasesModel" (7 : Nat) "HeirCasesModel" "w" "[I") ∈ lw_all := lw_g (lw_at lw_m9 170 rfl) rfl
theorem q2216 : (Jvm.Cond.fieldLink "HeirCasesModel" (13 : Nat) "HeirCasesModel" "before" "[I") ∈ lw_all := lw_g (lw_at lw_m9 171 rfl) rfl
theorem q2217 : (Jvm.Cond.fieldLink "HeirCasesModel" (16 : Nat) "HeirCasesModel" "aside" "[I") ∈ lw_all := lw_g (lw_at lw_m9 172 rfl) rfl
theorem q2218 : (Jvm.Cond.fieldLink "HeirCasesModel" (19 : Nat) "HeirCasesModel" "past" "[I") ∈ lw_all := lw_g (lw_at lw_m9 173 rfl) rfl
theorem q2219 : (Jvm.Cond.fieldLink "HeirCasesModel" (22 : Nat) "HeirCasesModel" "kept" "[I") ∈ lw_all := lw_g (lw_at lw_m9 174 rfl) rfl
theorem q2220 : (Jvm.Cond.fieldLink "HeirCasesModel" (268 : Nat) "HeirCasesModel" "pastMany" "I") ∈ lw_all := lw_g (lw_at lw_m9 175 rfl) rfl
theorem q2221 : (Jvm.Cond.fieldLink "HeirCasesModel" (271 : Nat) "HeirCasesModel" "keptBits" "I") ∈ lw_all := lw_g (lw_at lw_m9 176 rfl) rfl
theorem q2222 : (Jvm.Cond.fieldLink "HeirCasesModel" (25 : Nat) "HeirCasesModel" "buffer" "[I") ∈ lw_all := lw_g (lw_at lw_m9 177 rfl) rfl
theorem q2223 : (Jvm.Cond.fieldLink "HeirCasesModel" (28 : Nat) "HeirCasesModel" "text" "[I") ∈ lw_all := lw_g (lw_at lw_m9 178 rfl) rfl
theorem q2224 : (Jvm.Cond.fieldLink "HeirCasesModel" (274 : Nat) "HeirCasesModel" "typed" "I") ∈ lw_all := lw_g (lw_at lw_m9 179 rfl) rfl
theorem q2225 : (Jvm.Cond.fieldLink "HeirCasesModel" (115 : Nat) "HeirCasesModel" "textLength" "I") ∈ lw_all := lw_g (lw_at lw_m9 180 rfl) rfl
theorem q2226 : (Jvm.Cond.fieldLink "HeirCasesModel" (31 : Nat) "HeirCasesModel" "report" "[C") ∈ lw_all := lw_g (lw_at lw_m9 181 rfl) rfl
theorem q2227 : (Jvm.Cond.fieldLink "HeirCasesModel" (287 : Nat) "HeirCasesModel" "reportLength" "I") ∈ lw_all := lw_g (lw_at lw_m9 182 rfl) rfl
theorem q2228 : (Jvm.Cond.fieldLink "HeirCasesModel" (45 : Nat) "HeirCasesModel" "thrown" "I") ∈ lw_all := lw_g (lw_at lw_m9 183 rfl) rfl
theorem q2229 : (Jvm.Cond.fieldLink "HeirCasesModel" (35 : Nat) "HeirCasesModel" "stack" "[I") ∈ lw_all := lw_g (lw_at lw_m9 184 rfl) rfl
theorem q2230 : (Jvm.Cond.fieldLink "HeirCasesModel" (38 : Nat) "HeirCasesModel" "apply" "[I") ∈ lw_all := lw_g (lw_at lw_m9 185 rfl) rfl
theorem q2231 : (Jvm.Cond.fieldLink "HeirCasesModel" (144 : Nat) "HeirCasesModel" "kind" "I") ∈ lw_all := lw_g (lw_at lw_m9 186 rfl) rfl
theorem q2232 : (Jvm.Cond.fieldLink "HeirCasesModel" (141 : Nat) "HeirCasesModel" "offset" "I") ∈ lw_all := lw_g (lw_at lw_m9 187 rfl) rfl
theorem q2233 : (Jvm.Cond.fieldLink "HeirCasesModel" (138 : Nat) "HeirCasesModel" "tokenEnd" "I") ∈ lw_all := lw_g (lw_at lw_m9 188 rfl) rfl
theorem q2234 : (Jvm.Cond.fieldLink "HeirCasesModel" (150 : Nat) "HeirCasesModel" "value" "I") ∈ lw_all := lw_g (lw_at lw_m9 189 rfl) rfl
theorem q2235 : (Jvm.Cond.fieldLink "HeirCasesModel" (153 : Nat) "HeirCasesModel" "fault" "I") ∈ lw_all := lw_g (lw_at lw_m9 190 rfl) rfl
theorem q2236 : (Jvm.Cond.fieldLink "HeirCasesModel" (167 : Nat) "HeirCasesModel" "told" "I") ∈ lw_all := lw_g (lw_at lw_m9 191 rfl) rfl
theorem q2237 : (Jvm.Cond.fieldLink "HeirCasesModel" (179 : Nat) "HeirCasesModel" "factors" "I") ∈ lw_all := lw_g (lw_at lw_m9 192 rfl) rfl
theorem q2238 : (Jvm.Cond.fieldLink "HeirCasesModel" (190 : Nat) "HeirCasesModel" "nots" "I") ∈ lw_all := lw_g (lw_at lw_m9 193 rfl) rfl
theorem q2239 : (Jvm.Cond.fieldLink "HeirCasesModel" (196 : Nat) "HeirCasesModel" "depth" "I") ∈ lw_all := lw_g (lw_at lw_m9 194 rfl) rfl
theorem q2240 : (Jvm.Cond.fieldLink "HeirCasesModel" (173 : Nat) "HeirCasesModel" "room" "I") ∈ lw_all := lw_g (lw_at lw_m9 195 rfl) rfl
theorem q2241 : (Jvm.Cond.fieldLink "HeirCasesModel" (217 : Nat) "HeirCasesModel" "part" "I") ∈ lw_all := lw_g (lw_at lw_m9 196 rfl) rfl
theorem q2242 : (Jvm.Cond.laysFinal "HeirCasesModel" "HeirCasesModel" "w" "[I") ∈ lw_all := lw_g (lw_at lw_m9 197 rfl) rfl
theorem q2243 : (Jvm.Cond.soleField "HeirCasesModel" "w") ∈ lw_all := lw_g (lw_at lw_m9 198 rfl) rfl
theorem q2244 : (Jvm.Cond.laysFinal "HeirCasesModel" "HeirCasesModel" "before" "[I") ∈ lw_all := lw_g (lw_at lw_m9 199 rfl) rfl
theorem q2245 : (Jvm.Cond.soleField "HeirCasesModel" "before") ∈ lw_all := lw_g (lw_at lw_m9 200 rfl) rfl
theorem q2246 : (Jvm.Cond.laysFinal "HeirCasesModel" "HeirCasesModel" "aside" "[I") ∈ lw_all := lw_g (lw_at lw_m9 201 rfl) rfl
theorem q2247 : (Jvm.Cond.soleField "HeirCasesModel" "aside") ∈ lw_all := lw_g (lw_at lw_m9 202 rfl) rfl
theorem q2248 : (Jvm.Cond.laysFinal "HeirCasesModel" "HeirCasesModel" "past" "[I") ∈ lw_all := lw_g (lw_at lw_m9 203 rfl) rfl
theorem q2249 : (Jvm.Cond.soleField "HeirCasesModel" "past") ∈ lw_all := lw_g (lw_at lw_m9 204 rfl) rfl
theorem q2250 : (Jvm.Cond.laysFinal "HeirCasesModel" "HeirCasesModel" "kept" "[I") ∈ lw_all := lw_g (lw_at lw_m9 205 rfl) rfl
theorem q2251 : (Jvm.Cond.soleField "HeirCasesModel" "kept") ∈ lw_all := lw_g (lw_at lw_m9 206 rfl) rfl
theorem q2252 : (Jvm.Cond.lays "HeirCasesModel" "HeirCasesModel" "pastMany" "I") ∈ lw_all := lw_g (lw_at lw_m9 207 rfl) rfl
theorem q2253 : (Jvm.Cond.soleField "HeirCasesModel" "pastMany") ∈ lw_all := lw_g (lw_at lw_m9 208 rfl) rfl
theorem q2254 : (Jvm.Cond.lays "HeirCasesModel" "HeirCasesModel" "keptBits" "I") ∈ lw_all := lw_g (lw_at lw_m9 209 rfl) rfl
theorem q2255 : (Jvm.Cond.soleField "HeirCasesModel" "keptBits") ∈ lw_all := lw_g (lw_at lw_m9 210 rfl) rfl
theorem q2256 : (Jvm.Cond.laysFinal "HeirCasesModel" "HeirCasesModel" "buffer" "[I") ∈ lw_all := lw_g (lw_at lw_m9 211 rfl) rfl
theorem q2257 : (Jvm.Cond.soleField "HeirCasesModel" "buffer") ∈ lw_all := lw_g (lw_at lw_m9 212 rfl) rfl
theorem q2258 : (Jvm.Cond.laysFinal "HeirCasesModel" "HeirCasesModel" "text" "[I") ∈ lw_all := lw_g (lw_at lw_m9 213 rfl) rfl
theorem q2259 : (Jvm.Cond.soleField "HeirCasesModel" "text") ∈ lw_all := lw_g (lw_at lw_m9 214 rfl) rfl
theorem q2260 : (Jvm.Cond.lays "HeirCasesModel" "HeirCasesModel" "typed" "I") ∈ lw_all := lw_g (lw_at lw_m9 215 rfl) rfl
theorem q2261 : (Jvm.Cond.soleField "HeirCasesModel" "typed") ∈ lw_all := lw_g (lw_at lw_m9 216 rfl) rfl
theorem q2262 : (Jvm.Cond.lays "HeirCasesModel" "HeirCasesModel" "textLength" "I") ∈ lw_all := lw_g (lw_at lw_m9 217 rfl) rfl
theorem q2263 : (Jvm.Cond.soleField "HeirCasesModel" "textLength") ∈ lw_all := lw_g (lw_at lw_m9 218 rfl) rfl
theorem q2264 : (Jvm.Cond.laysFinal "HeirCasesModel" "HeirCasesModel" "report" "[C") ∈ lw_all := lw_g (lw_at lw_m9 219 rfl) rfl
theorem q2265 : (Jvm.Cond.soleField "HeirCasesModel" "report") ∈ lw_all := lw_g (lw_at lw_m9 220 rfl) rfl
theorem q2266 : (Jvm.Cond.lays "HeirCasesModel" "HeirCasesModel" "reportLength" "I") ∈ lw_all := lw_g (lw_at lw_m9 221 rfl) rfl
theorem q2267 : (Jvm.Cond.soleField "HeirCasesModel" "reportLength") ∈ lw_all := lw_g (lw_at lw_m9 222 rfl) rfl
theorem q2268 : (Jvm.Cond.lays "HeirCasesModel" "HeirCasesModel" "thrown" "I") ∈ lw_all := lw_g (lw_at lw_m9 223 rfl) rfl
theorem q2269 : (Jvm.Cond.soleField "HeirCasesModel" "thrown") ∈ lw_all := lw_g (lw_at lw_m9 224 rfl) rfl
theorem q2270 : (Jvm.Cond.laysFinal "HeirCasesModel" "HeirCasesModel" "stack" "[I") ∈ lw_all := lw_g (lw_at lw_m9 225 rfl) rfl
theorem q2271 : (Jvm.Cond.soleField "HeirCasesModel" "stack") ∈ lw_all := lw_g (lw_at lw_m9 226 rfl) rfl
theorem q2272 : (Jvm.Cond.laysFinal "HeirCasesModel" "HeirCasesModel" "apply" "[I") ∈ lw_all := lw_g (lw_at lw_m9 227 rfl) rfl
theorem q2273 : (Jvm.Cond.soleField "HeirCasesModel" "apply") ∈ lw_all := lw_g (lw_at lw_m9 228 rfl) rfl
theorem q2274 : (Jvm.Cond.lays "HeirCasesModel" "HeirCasesModel" "kind" "I") ∈ lw_all := lw_g (lw_at lw_m9 229 rfl) rfl
theorem q2275 : (Jvm.Cond.soleField "HeirCasesModel" "kind") ∈ lw_all := lw_g (lw_at lw_m9 230 rfl) rfl
theorem q2276 : (Jvm.Cond.lays "HeirCasesModel" "HeirCasesModel" "offset" "I") ∈ lw_all := lw_g (lw_at lw_m9 231 rfl) rfl
theorem q2277 : (Jvm.Cond.soleField "HeirCasesModel" "offset") ∈ lw_all := lw_g (lw_at lw_m9 232 rfl) rfl
theorem q2278 : (Jvm.Cond.lays "HeirCasesModel" "HeirCasesModel" "tokenEnd" "I") ∈ lw_all := lw_g (lw_at lw_m9 233 rfl) rfl
theorem q2279 : (Jvm.Cond.soleField "HeirCasesModel" "tokenEnd") ∈ lw_all := lw_g (lw_at lw_m9 234 rfl) rfl
theorem q2280 : (Jvm.Cond.lays "HeirCasesModel" "HeirCasesModel" "value" "I") ∈ lw_all := lw_g (lw_at lw_m9 235 rfl) rfl
theorem q2281 : (Jvm.Cond.soleField "HeirCasesModel" "value") ∈ lw_all := lw_g (lw_at lw_m9 236 rfl) rfl
theorem q2282 : (Jvm.Cond.lays "HeirCasesModel" "HeirCasesModel" "fault" "I") ∈ lw_all := lw_g (lw_at lw_m9 237 rfl) rfl
theorem q2283 : (Jvm.Cond.soleField "HeirCasesModel" "fault") ∈ lw_all := lw_g (lw_at lw_m9 238 rfl) rfl
theorem q2284 : (Jvm.Cond.lays "HeirCasesModel" "HeirCasesModel" "told" "I") ∈ lw_all := lw_g (lw_at lw_m9 239 rfl) rfl
theorem q2285 : (Jvm.Cond.soleField "HeirCasesModel" "told") ∈ lw_all := lw_g (lw_at lw_m10 0 rfl) rfl
theorem q2286 : (Jvm.Cond.lays "HeirCasesModel" "HeirCasesModel" "factors" "I") ∈ lw_all := lw_g (lw_at lw_m10 1 rfl) rfl
theorem q2287 : (Jvm.Cond.soleField "HeirCasesModel" "factors") ∈ lw_all := lw_g (lw_at lw_m10 2 rfl) rfl
theorem q2288 : (Jvm.Cond.lays "HeirCasesModel" "HeirCasesModel" "nots" "I") ∈ lw_all := lw_g (lw_at lw_m10 3 rfl) rfl
theorem q2289 : (Jvm.Cond.soleField "HeirCasesModel" "nots") ∈ lw_all := lw_g (lw_at lw_m10 4 rfl) rfl
theorem q2290 : (Jvm.Cond.lays "HeirCasesModel" "HeirCasesModel" "depth" "I") ∈ lw_all := lw_g (lw_at lw_m10 5 rfl) rfl
theorem q2291 : (Jvm.Cond.soleField "HeirCasesModel" "depth") ∈ lw_all := lw_g (lw_at lw_m10 6 rfl) rfl
theorem q2292 : (Jvm.Cond.lays "HeirCasesModel" "HeirCasesModel" "room" "I") ∈ lw_all := lw_g (lw_at lw_m10 7 rfl) rfl
theorem q2293 : (Jvm.Cond.soleField "HeirCasesModel" "room") ∈ lw_all := lw_g (lw_at lw_m10 8 rfl) rfl
theorem q2294 : (Jvm.Cond.lays "HeirCasesModel" "HeirCasesModel" "part" "I") ∈ lw_all := lw_g (lw_at lw_m10 9 rfl) rfl
theorem q2295 : (Jvm.Cond.soleField "HeirCasesModel" "part") ∈ lw_all := lw_g (lw_at lw_m10 10 rfl) rfl
theorem q2296 : (Jvm.Cond.superclass "HeirCasesModel" "java/lang/Object") ∈ lw_all := lw_g (lw_at lw_m10 11 rfl) rfl
theorem q2299 : (Jvm.Cond.instanceMethod ({ cls := "HeirCasesModel", name := "thrown", desc := "()I" } : Jvm.MethodName)) ∈ lw_all := lw_g (lw_at lw_m10 14 rfl) rfl
theorem q2300 : (Jvm.Cond.selects "HeirCasesModel" ({ cls := "HeirCasesModel", name := "thrown", desc := "()I" } : Jvm.MethodName) ({ cls := "HeirCasesModel", name := "thrown", desc := "()I" } : Jvm.MethodName)) ∈ lw_all := lw_g (lw_at lw_m10 15 rfl) rfl
theorem q2301 : (Jvm.Cond.code ({ cls := "HeirCasesModel", name := "thrown", desc := "()I" } : Jvm.MethodName) prog_17_method_2_code (1 : Nat) (Option.some Jvm.ClassFile.FieldType.int)) ∈ lw_all := lw_g (lw_at lw_m10 16 rfl) rfl
theorem q2303 : (Jvm.Cond.instanceMethod ({ cls := "HeirCasesModel", name := "append", desc := "(IIIII)I" } : Jvm.MethodName)) ∈ lw_all := lw_g (lw_at lw_m10 18 rfl) rfl
theorem q2304 : (Jvm.Cond.selects "HeirCasesModel" ({ cls := "HeirCasesModel", name := "append", desc := "(IIIII)I" } : Jvm.MethodName) ({ cls := "HeirCasesModel", name := "append", desc := "(IIIII)I" } : Jvm.MethodName)) ∈ lw_all := lw_g (lw_at lw_m10 19 rfl) rfl
theorem q2305 : (Jvm.Cond.code ({ cls := "HeirCasesModel", name := "append", desc := "(IIIII)I" } : Jvm.MethodName) prog_17_method_60_code (6 : Nat) (Option.some Jvm.ClassFile.FieldType.int)) ∈ lw_all := lw_g (lw_at lw_m10 20 rfl) rfl
theorem q2306 : (Jvm.Cond.methodLink "HeirCasesModel" (277 : Nat) ({ cls := "HeirCasesModel", name := "type", desc := "(I)V" } : Jvm.MethodName)) ∈ lw_all := lw_g (lw_at lw_m10 21 rfl) rfl
theorem q2307 : (Jvm.Cond.privateMethod ({ cls := "HeirCasesModel", name := "type", desc := "(I)V" } : Jvm.MethodName)) ∈ lw_tbl := lw_at lw_m10 22 rfl
theorem q2308 : (Jvm.Cond.instanceMethod ({ cls := "HeirCasesModel", name := "type", desc := "(I)V" } : Jvm.MethodName)) ∈ lw_all := lw_g (lw_at lw_m10 23 rfl) rfl
theorem q2309 : (Jvm.Cond.code ({ cls := "HeirCasesModel", name := "type", desc := "(I)V" } : Jvm.MethodName) prog_17_method_61_code (3 : Nat) (Option.none : Option Jvm.ClassFile.FieldType)) ∈ lw_all := lw_g (lw_at lw_m10 24 rfl) rfl
theorem q2311 : (Jvm.Cond.instanceMethod ({ cls := "HeirCasesModel", name := "parse", desc := "(I)I" } : Jvm.MethodName)) ∈ lw_all := lw_g (lw_at lw_m10 26 rfl) rfl
theorem q2312 : (Jvm.Cond.selects "HeirCasesModel" ({ cls := "HeirCasesModel", name := "parse", desc := "(I)I" } : Jvm.MethodName) ({ cls := "HeirCasesModel", name := "parse", desc := "(I)I" } : Jvm.MethodName)) ∈ lw_all := lw_g (lw_at lw_m10 27 rfl) rfl
theorem q2313 : (Jvm.Cond.code ({ cls := "HeirCasesModel", name := "parse", desc := "(I)I" } : Jvm.MethodName) prog_17_method_63_code (2 : Nat) (Option.some Jvm.ClassFile.FieldType.int)) ∈ lw_all := lw_g (lw_at lw_m10 28 rfl) rfl
theorem q2314 : (Jvm.Cond.methodLink "HeirCasesModel" (280 : Nat) ({ cls := "HeirCasesModel", name := "throwsOne", desc := "(Z)Z" } : Jvm.MethodName)) ∈ lw_all := lw_g (lw_at lw_m10 29 rfl) rfl
theorem q2315 : (Jvm.Cond.privateMethod ({ cls := "HeirCasesModel", name := "throwsOne", desc := "(Z)Z" } : Jvm.MethodName)) ∈ lw_tbl := lw_at lw_m10 30 rfl
theorem q2316 : (Jvm.Cond.instanceMethod ({ cls := "HeirCasesModel", name := "throwsOne", desc := "(Z)Z" } : Jvm.MethodName)) ∈ lw_all := lw_g (lw_at lw_m10 31 rfl) rfl
theorem q2317 : (Jvm.Cond.code ({ cls := "HeirCasesModel", name := "throwsOne", desc := "(Z)Z" } : Jvm.MethodName) prog_17_method_4_code (2 : Nat) (Option.some Jvm.ClassFile.FieldType.boolean)) ∈ lw_all := lw_g (lw_at lw_m10 32 rfl) rfl
theorem q2318 : (Jvm.Cond.methodLink "HeirCasesModel" (284 : Nat) ({ cls := "HeirCasesModel", name := "takes", desc := "(I)V" } : Jvm.MethodName)) ∈ lw_all := lw_g (lw_at lw_m10 33 rfl) rfl
theorem q2319 : (Jvm.Cond.privateMethod ({ cls := "HeirCasesModel", name := "takes", desc := "(I)V" } : Jvm.MethodName)) ∈ lw_tbl := lw_at lw_m10 34 rfl
theorem q2320 : (Jvm.Cond.instanceMethod ({ cls := "HeirCasesModel", name := "takes", desc := "(I)V" } : Jvm.MethodName)) ∈ lw_all := lw_g (lw_at lw_m10 35 rfl) rfl
theorem q2321 : (Jvm.Cond.code ({ cls := "HeirCasesModel", name := "takes", desc := "(I)V" } : Jvm.MethodName) prog_17_method_62_code (3 : Nat) (Option.none : Option Jvm.ClassFile.FieldType)) ∈ lw_all := lw_g (lw_at lw_m10 36 rfl) rfl
theorem q2323 : (Jvm.Cond.instanceMethod ({ cls := "HeirCasesModel", name := "load", desc := "(I)I" } : Jvm.MethodName)) ∈ lw_all := lw_g (lw_at lw_m10 38 rfl) rfl
theorem q2324 : (Jvm.Cond.selects "HeirCasesModel" ({ cls := "HeirCasesModel", name := "load", desc := "(I)I" } : Jvm.MethodName) ({ cls := "HeirCasesModel", name := "load", desc := "(I)I" } : Jvm.MethodName)) ∈ lw_all := lw_g (lw_at lw_m10 39 rfl) rfl
theorem q2325 : (Jvm.Cond.code ({ cls := "HeirCasesModel", name := "load", desc := "(I)I" } : Jvm.MethodName) prog_17_method_64_code (2 : Nat) (Option.some Jvm.ClassFile.FieldType.int)) ∈ lw_all := lw_g (lw_at lw_m10 40 rfl) rfl
theorem q2327 : (Jvm.Cond.instanceMethod ({ cls := "HeirCasesModel", name := "size", desc := "(I)I" } : Jvm.MethodName)) ∈ lw_all := lw_g (lw_at lw_m10 42 rfl) rfl
theorem q2328 : (Jvm.Cond.selects "HeirCasesModel" ({ cls := "HeirCasesModel", name := "size", desc := "(I)I" } : Jvm.MethodName) ({ cls := "HeirCasesModel", name := "size", desc := "(I)I" } : Jvm.MethodName)) ∈ lw_all := lw_g (lw_at lw_m10 43 rfl) rfl
theorem q2329 : (Jvm.Cond.code ({ cls := "HeirCasesModel", name := "size", desc := "(I)I" } : Jvm.MethodName) prog_17_method_66_code (2 : Nat) (Option.some Jvm.ClassFile.FieldType.int)) ∈ lw_all := lw_g (lw_at lw_m10 44 rfl) rfl
theorem q2330 : (Jvm.Cond.methodLink "HeirCasesModel" (293 : Nat) ({ cls := "HeirCasesModel", name := "sizeOf", desc := "(I)I" } : Jvm.MethodName)) ∈ lw_all := lw_g (lw_at lw_m10 45 rfl) rfl
theorem q2331 : (Jvm.Cond.privateMethod ({ cls := "HeirCasesModel", name := "sizeOf", desc := "(I)I" } : Jvm.MethodName)) ∈ lw_tbl := lw_at lw_m10 46 rfl
theorem q2332 : (Jvm.Cond.instanceMethod ({ cls := "HeirCasesModel", name := "sizeOf", desc := "(I)I" } : Jvm.MethodName)) ∈ lw_all := lw_g (lw_at lw_m10 47 rfl) rfl
theorem q2333 : (Jvm.Cond.code ({ cls := "HeirCasesModel", name := "sizeOf", desc := "(I)I" } : Jvm.MethodName) prog_17_method_65_code (2 : Nat) (Option.some Jvm.ClassFile.FieldType.int)) ∈ lw_all := lw_g (lw_at lw_m10 48 rfl) rfl
theorem q2334 : (Jvm.Cond.methodLink "HeirCasesModel" (61 : Nat) ({ cls := "HeirCasesModel", name := "cases", desc := "()I" } : Jvm.MethodName)) ∈ lw_all := lw_g (lw_at lw_m10 49 rfl) rfl
theorem q2335 : (Jvm.Cond.privateMethod ({ cls := "HeirCasesModel", name := "cases", desc := "()I" } : Jvm.MethodName)) ∈ lw_tbl := lw_at lw_m10 50 rfl
theorem q2336 : (Jvm.Cond.instanceMethod ({ cls := "HeirCasesModel", name := "cases", desc := "()I" } : Jvm.MethodName)) ∈ lw_all := lw_g (lw_at lw_m10 51 rfl) rfl
theorem q2337 : (Jvm.Cond.code ({ cls := "HeirCasesModel", name := "cases", desc := "()I" } : Jvm.MethodName) prog_17_method_15_code (3 : Nat) (Option.some Jvm.ClassFile.FieldType.int)) ∈ lw_all := lw_g (lw_at lw_m10 52 rfl) rfl
theorem q2338 : (Jvm.Cond.methodLink "HeirCasesModel" (290 : Nat) ({ cls := "HeirCasesModel", name := "setsOut", desc := "()V" } : Jvm.MethodName)) ∈ lw_all := lw_g (lw_at lw_m10 53 rfl) rfl
theorem q2339 : (Jvm.Cond.privateMethod ({ cls := "HeirCasesModel", name := "setsOut", desc := "()V" } : Jvm.MethodName)) ∈ lw_tbl := lw_at lw_m10 54 rfl
theorem q2340 : (Jvm.Cond.instanceMethod ({ cls := "HeirCasesModel", name := "setsOut", desc := "()V" } : Jvm.MethodName)) ∈ lw_all := lw_g (lw_at lw_m10 55 rfl) rfl
theorem q2341 : (Jvm.Cond.code ({ cls := "HeirCasesModel", name := "setsOut", desc := "()V" } : Jvm.MethodName) prog_17_method_21_code (4 : Nat) (Option.none : Option Jvm.ClassFile.FieldType)) ∈ lw_all := lw_g (lw_at lw_m10 56 rfl) rfl
theorem q2342 : (Jvm.Cond.methodLink "HeirCasesModel" (80 : Nat) ({ cls := "HeirCasesModel", name := "holds", desc := "(II)Z" } : Jvm.MethodName)) ∈ lw_all := lw_g (lw_at lw_m10 57 rfl) rfl
theorem q2343 : (Jvm.Cond.privateMethod ({ cls := "HeirCasesModel", name := "holds", desc := "(II)Z" } : Jvm.MethodName)) ∈ lw_tbl := lw_at lw_m10 58 rfl
theorem q2344 : (Jvm.Cond.instanceMethod ({ cls := "HeirCasesModel", name := "holds", desc := "(II)Z" } : Jvm.MethodName)) ∈ lw_all := lw_g (lw_at lw_m10 59 rfl) rfl
theorem q2345 : (Jvm.Cond.code ({ cls := "HeirCasesModel", name := "holds", desc := "(II)Z" } : Jvm.MethodName) prog_17_method_19_code (6 : Nat) (Option.some Jvm.ClassFile.FieldType.boolean)) ∈ lw_all := lw_g (lw_at lw_m10 60 rfl) rfl
theorem q2346 : (Jvm.Cond.methodLink "HeirCasesModel" (69 : Nat) ({ cls := "HeirCasesModel", name := "of", desc := "(II)I" } : Jvm.MethodName)) ∈ lw_all := lw_g (lw_at lw_m10 61 rfl) rfl
theorem q2347 : (Jvm.Cond.privateMethod ({ cls := "HeirCasesModel", name := "of", desc := "(II)I" } : Jvm.MethodName)) ∈ lw_tbl := lw_at lw_m10 62 rfl
theorem q2348 : (Jvm.Cond.instanceMethod ({ cls := "HeirCasesModel", name := "of", desc := "(II)I" } : Jvm.MethodName)) ∈ lw_all := lw_g (lw_at lw_m10 63 rfl) rfl
theorem q2349 : (Jvm.Cond.code ({ cls := "HeirCasesModel", name := "of", desc := "(II)I" } : Jvm.MethodName) prog_17_method_14_code (3 : Nat) (Option.some Jvm.ClassFile.FieldType.int)) ∈ lw_all := lw_g (lw_at lw_m10 64 rfl) rfl
theorem q2350 : (Jvm.Cond.methodLink "HeirCasesModel" (72 : Nat) ({ cls := "java/lang/Math", name := "max", desc := "(II)I" } : Jvm.MethodName)) ∈ lw_all := lw_g (lw_at lw_m10 65 rfl) rfl
theorem q2351 : (Jvm.Cond.methodLink "HeirCasesModel" (77 : Nat) ({ cls := "HeirCasesModel", name := "compares", desc := "(II)I" } : Jvm.MethodName)) ∈ lw_all := lw_g (lw_at lw_m10 66 rfl) rfl
theorem q2352 : (Jvm.Cond.privateMethod ({ cls := "HeirCasesModel", name := "compares", desc := "(II)I" } : Jvm.MethodName)) ∈ lw_tbl := lw_at lw_m10 67 rfl
theorem q2353 : (Jvm.Cond.instanceMethod ({ cls := "HeirCasesModel", name := "compares", desc := "(II)I" } : Jvm.MethodName)) ∈ lw_all := lw_g (lw_at lw_m10 68 rfl) rfl
theorem q2354 : (Jvm.Cond.code ({ cls := "HeirCasesModel", name := "compares", desc := "(II)I" } : Jvm.MethodName) prog_17_method_18_code (7 : Nat) (Option.some Jvm.ClassFile.FieldType.int)) ∈ lw_all := lw_g (lw_at lw_m10 69 rfl) rfl
theorem q2355 : (Jvm.Cond.methodLink "HeirCasesModel" (65 : Nat) ({ cls := "HeirCasesModel", name := "valueOf", desc := "(II)I" } : Jvm.MethodName)) ∈ lw_all := lw_g (lw_at lw_m10 70 rfl) rfl
theorem q2356 : (Jvm.Cond.privateMethod ({ cls := "HeirCasesModel", name := "valueOf", desc := "(II)I" } : Jvm.MethodName)) ∈ lw_tbl := lw_at lw_m10 71 rfl
theorem q2357 : (Jvm.Cond.instanceMethod ({ cls := "HeirCasesModel", name := "valueOf", desc := "(II)I" } : Jvm.MethodName)) ∈ lw_all := lw_g (lw_at lw_m10 72 rfl) rfl
theorem q2358 : (Jvm.Cond.code ({ cls := "HeirCasesModel", name := "valueOf", desc := "(II)I" } : Jvm.MethodName) prog_17_method_17_code (5 : Nat) (Option.some Jvm.ClassFile.FieldType.int)) ∈ lw_all := lw_g (lw_at lw_m10 73 rfl) rfl
theorem q2359 : (Jvm.Cond.methodLink "HeirCasesModel" (98 : Nat) ({ cls := "HeirCasesModel", name := "many", desc := "(II)I" } : Jvm.MethodName)) ∈ lw_all := lw_g (lw_at lw_m10 74 rfl) rfl
theorem q2360 : (Jvm.Cond.privateMethod ({ cls := "HeirCasesModel", name := "many", desc := "(II)I" } : Jvm.MethodName)) ∈ lw_tbl := lw_at lw_m10 75 rfl
theorem q2361 : (Jvm.Cond.instanceMethod ({ cls := "HeirCasesModel", name := "many", desc := "(II)I" } : Jvm.MethodName)) ∈ lw_all := lw_g (lw_at lw_m10 76 rfl) rfl
theorem q2362 : (Jvm.Cond.code ({ cls := "HeirCasesModel", name := "many", desc := "(II)I" } : Jvm.MethodName) prog_17_method_27_code (7 : Nat) (Option.some Jvm.ClassFile.FieldType.int)) ∈ lw_all := lw_g (lw_at lw_m10 77 rfl) rfl
theorem q2363 : (Jvm.Cond.methodLink "HeirCasesModel" (95 : Nat) ({ cls := "HeirCasesModel", name := "verdictOf", desc := "(I)I" } : Jvm.MethodName)) ∈ lw_all := lw_g (lw_at lw_m10 78 rfl) rfl
theorem q2364 : (Jvm.Cond.privateMethod ({ cls := "HeirCasesModel", name := "verdictOf", desc := "(I)I" } : Jvm.MethodName)) ∈ lw_tbl := lw_at lw_m10 79 rfl
theorem q2365 : (Jvm.Cond.instanceMethod ({ cls := "HeirCasesModel", name := "verdictOf", desc := "(I)I" } : Jvm.MethodName)) ∈ lw_all := lw_g (lw_at lw_m10 80 rfl) rfl
theorem q2366 : (Jvm.Cond.code ({ cls := "HeirCasesModel", name := "verdictOf", desc := "(I)I" } : Jvm.MethodName) prog_17_method_25_code (3 : Nat) (Option.some Jvm.ClassFile.FieldType.int)) ∈ lw_all := lw_g (lw_at lw_m10 81 rfl) rfl
theorem q2367 : (Jvm.Cond.methodLink "HeirCasesModel" (86 : Nat) ({ cls := "HeirCasesModel", name := "unbeaten", desc := "(I)I" } : Jvm.MethodName)) ∈ lw_all := lw_g (lw_at lw_m10 82 rfl) rfl
theorem q2368 : (Jvm.Cond.privateMethod ({ cls := "HeirCasesModel", name := "unbeaten", desc := "(I)I" } : Jvm.MethodName)) ∈ lw_tbl := lw_at lw_m10 83 rfl
theorem q2369 : (Jvm.Cond.instanceMethod ({ cls := "HeirCasesModel", name := "unbeaten", desc := "(I)I" } : Jvm.MethodName)) ∈ lw_all := lw_g (lw_at lw_m10 84 rfl) rfl
theorem q2370 : (Jvm.Cond.code ({ cls := "HeirCasesModel", name := "unbeaten", desc := "(I)I" } : Jvm.MethodName) prog_17_method_22_code (4 : Nat) (Option.some Jvm.ClassFile.FieldType.int)) ∈ lw_all := lw_g (lw_at lw_m10 85 rfl) rfl
theorem q2371 : (Jvm.Cond.methodLink "HeirCasesModel" (89 : Nat) ({ cls := "HeirCasesModel", name := "least", desc := "(I)I" } : Jvm.MethodName)) ∈ lw_all := lw_g (lw_at lw_m10 86 rfl) rfl
theorem q2372 : (Jvm.Cond.static ({ cls := "HeirCasesModel", name := "least", desc := "(I)I" } : Jvm.MethodName)) ∈ lw_all := lw_g (lw_at lw_m10 87 rfl) rfl
theorem q2373 : (Jvm.Cond.code ({ cls := "HeirCasesModel", name := "least", desc := "(I)I" } : Jvm.MethodName) prog_17_method_9_code (2 : Nat) (Option.some Jvm.ClassFile.FieldType.int)) ∈ lw_all := lw_g (lw_at lw_m10 88 rfl) rfl
theorem q2374 : (Jvm.Cond.methodLink "HeirCasesModel" (92 : Nat) ({ cls := "HeirCasesModel", name := "other", desc := "(II)I" } : Jvm.MethodName)) ∈ lw_all := lw_g (lw_at lw_m10 89 rfl) rfl
theorem q2375 : (Jvm.Cond.privateMethod ({ cls := "HeirCasesModel", name := "other", desc := "(II)I" } : Jvm.MethodName)) ∈ lw_tbl := lw_at lw_m10 90 rfl
theorem q2376 : (Jvm.Cond.instanceMethod ({ cls := "HeirCasesModel", name := "other", desc := "(II)I" } : Jvm.MethodName)) ∈ lw_all := lw_g (lw_at lw_m10 91 rfl) rfl
theorem q2377 : (Jvm.Cond.code ({ cls := "HeirCasesModel", name := "other", desc := "(II)I" } : Jvm.MethodName) prog_17_method_24_code (4 : Nat) (Option.some Jvm.ClassFile.FieldType.int)) ∈ lw_all := lw_g (lw_at lw_m10 92 rfl) rfl
theorem q2378 : (Jvm.Cond.methodLink "HeirCasesModel" (83 : Nat) ({ cls := "HeirCasesModel", name := "isSame", desc := "(II)Z" } : Jvm.MethodName)) ∈ lw_all := lw_g (lw_at lw_m10 93 rfl) rfl
theorem q2379 : (Jvm.Cond.privateMethod ({ cls := "HeirCasesModel", name := "isSame", desc := "(II)Z" } : Jvm.MethodName)) ∈ lw_tbl := lw_at lw_m10 94 rfl
theorem q2380 : (Jvm.Cond.instanceMethod ({ cls := "HeirCasesModel", name := "isSame", desc := "(II)Z" } : Jvm.MethodName)) ∈ lw_all := lw_g (lw_at lw_m10 95 rfl) rfl
theorem q2381 : (Jvm.Cond.code ({ cls := "HeirCasesModel", name := "isSame", desc := "(II)Z" } : Jvm.MethodName) prog_17_method_23_code (5 : Nat) (Option.some Jvm.ClassFile.FieldType.boolean)) ∈ lw_all := lw_g (lw_at lw_m10 96 rfl) rfl
theorem q2383 : (Jvm.Cond.instanceMethod ({ cls := "HeirCasesModel", name := "values", desc := "(I)I" } : Jvm.MethodName)) ∈ lw_all := lw_g (lw_at lw_m10 98 rfl) rfl
theorem q2384 : (Jvm.Cond.selects "HeirCasesModel" ({ cls := "HeirCasesModel", name := "values", desc := "(I)I" } : Jvm.MethodName) ({ cls := "HeirCasesModel", name := "values", desc := "(I)I" } : Jvm.MethodName)) ∈ lw_all := lw_g (lw_at lw_m10 99 rfl) rfl
theorem q2385 : (Jvm.Cond.code ({ cls := "HeirCasesModel", name := "values", desc := "(I)I" } : Jvm.MethodName) prog_17_method_67_code (2 : Nat) (Option.some Jvm.ClassFile.FieldType.int)) ∈ lw_all := lw_g (lw_at lw_m10 100 rfl) rfl
theorem q2387 : (Jvm.Cond.instanceMethod ({ cls := "HeirCasesModel", name := "valueIn", desc := "(II)I" } : Jvm.MethodName)) ∈ lw_all := lw_g (lw_at lw_m10 102 rfl) rfl
theorem q2388 : (Jvm.Cond.selects "HeirCasesModel" ({ cls := "HeirCasesModel", name := "valueIn", desc := "(II)I" } : Jvm.MethodName) ({ cls := "HeirCasesModel", name := "valueIn", desc := "(II)I" } : Jvm.MethodName)) ∈ lw_all := lw_g (lw_at lw_m10 103 rfl) rfl
theorem q2389 : (Jvm.Cond.code ({ cls := "HeirCasesModel", name := "valueIn", desc := "(II)I" } : Jvm.MethodName) prog_17_method_68_code (3 : Nat) (Option.some Jvm.ClassFile.FieldType.int)) ∈ lw_all := lw_g (lw_at lw_m10 104 rfl) rfl
theorem q2390 : (Jvm.Cond.methodLink "HeirCasesModel" (296 : Nat) ({ cls := "HeirCasesModel", name := "isCase", desc := "(I)Z" } : Jvm.MethodName)) ∈ lw_all := lw_g (lw_at lw_m10 105 rfl) rfl
theorem q2391 : (Jvm.Cond.privateMethod ({ cls := "HeirCasesModel", name := "isCase", desc := "(I)Z" } : Jvm.MethodName)) ∈ lw_tbl := lw_at lw_m10 106 rfl
theorem q2392 : (Jvm.Cond.instanceMethod ({ cls := "HeirCasesModel", name := "isCase", desc := "(I)Z" } : Jvm.MethodName)) ∈ lw_all := lw_g (lw_at lw_m10 107 rfl) rfl
theorem q2393 : (Jvm.Cond.code ({ cls := "HeirCasesModel", name := "isCase", desc := "(I)Z" } : Jvm.MethodName) prog_17_method_16_code (2 : Nat) (Option.some Jvm.ClassFile.FieldType.boolean)) ∈ lw_all := lw_g (lw_at lw_m10 108 rfl) rfl
theorem q2394 : (Jvm.Cond.methodLink "HeirCasesModel" (299 : Nat) ({ cls := "HeirCasesModel", name := "throwsOne", desc := "(ZZ)Z" } : Jvm.MethodName)) ∈ lw_all := lw_g (lw_at lw_m10 109 rfl) rfl
theorem q2395 : (Jvm.Cond.privateMethod ({ cls := "HeirCasesModel", name := "throwsOne", desc := "(ZZ)Z" } : Jvm.MethodName)) ∈ lw_tbl := lw_at lw_m10 110 rfl
theorem q2396 : (Jvm.Cond.instanceMethod ({ cls := "HeirCasesModel", name := "throwsOne", desc := "(ZZ)Z" } : Jvm.MethodName)) ∈ lw_all := lw_g (lw_at lw_m10 111 rfl) rfl
theorem q2397 : (Jvm.Cond.code ({ cls := "HeirCasesModel", name := "throwsOne", desc := "(ZZ)Z" } : Jvm.MethodName) prog_17_method_5_code (3 : Nat) (Option.some Jvm.ClassFile.FieldType.boolean)) ∈ lw_all := lw_g (lw_at lw_m10 112 rfl) rfl
theorem q2399 : (Jvm.Cond.instanceMethod ({ cls := "HeirCasesModel", name := "heir", desc := "(II)I" } : Jvm.MethodName)) ∈ lw_all := lw_g (lw_at lw_m10 114 rfl) rfl
theorem q2400 : (Jvm.Cond.selects "HeirCasesModel" ({ cls := "HeirCasesModel", name := "heir", desc := "(II)I" } : Jvm.MethodName) ({ cls := "HeirCasesModel", name := "heir", desc := "(II)I" } : Jvm.MethodName)) ∈ lw_all := lw_g (lw_at lw_m10 115 rfl) rfl
theorem q2401 : (Jvm.Cond.code ({ cls := "HeirCasesModel", name := "heir", desc := "(II)I" } : Jvm.MethodName) prog_17_method_72_code (3 : Nat) (Option.some Jvm.ClassFile.FieldType.int)) ∈ lw_all := lw_g (lw_at lw_m10 116 rfl) rfl
theorem q2402 : (Jvm.Cond.methodLink "HeirCasesModel" (315 : Nat) ({ cls := "HeirCasesModel", name := "isHeir", desc := "(I)Z" } : Jvm.MethodName)) ∈ lw_all := lw_g (lw_at lw_m10 117 rfl) rfl
theorem q2403 : (Jvm.Cond.privateMethod ({ cls := "HeirCasesModel", name := "isHeir", desc := "(I)Z" } : Jvm.MethodName)) ∈ lw_tbl := lw_at lw_m10 118 rfl
theorem q2404 : (Jvm.Cond.instanceMethod ({ cls := "HeirCasesModel", name := "isHeir", desc := "(I)Z" } : Jvm.MethodName)) ∈ lw_all := lw_g (lw_at lw_m10 119 rfl) rfl
theorem q2405 : (Jvm.Cond.code ({ cls := "HeirCasesModel", name := "isHeir", desc := "(I)Z" } : Jvm.MethodName) prog_17_method_11_code (2 : Nat) (Option.some Jvm.ClassFile.FieldType.boolean)) ∈ lw_all := lw_g (lw_at lw_m10 120 rfl) rfl
theorem q2406 : (Jvm.Cond.methodLink "HeirCasesModel" (318 : Nat) ({ cls := "HeirCasesModel", name := "heirTold", desc := "(II)I" } : Jvm.MethodName)) ∈ lw_all := lw_g (lw_at lw_m10 121 rfl) rfl
theorem q2407 : (Jvm.Cond.privateMethod ({ cls := "HeirCasesModel", name := "heirTold", desc := "(II)I" } : Jvm.MethodName)) ∈ lw_tbl := lw_at lw_m10 122 rfl
theorem q2408 : (Jvm.Cond.instanceMethod ({ cls := "HeirCasesModel", name := "heirTold", desc := "(II)I" } : Jvm.MethodName)) ∈ lw_all := lw_g (lw_at lw_m10 123 rfl) rfl
theorem q2409 : (Jvm.Cond.code ({ cls := "HeirCasesModel", name := "heirTold", desc := "(II)I" } : Jvm.MethodName) prog_17_method_71_code (3 : Nat) (Option.some Jvm.ClassFile.FieldType.int)) ∈ lw_all := lw_g (lw_at lw_m10 124 rfl) rfl
theorem q2410 : (Jvm.Cond.methodLink "HeirCasesModel" (308 : Nat) ({ cls := "HeirCasesModel", name := "setOf", desc := "(I)I" } : Jvm.MethodName)) ∈ lw_all := lw_g (lw_at lw_m10 125 rfl) rfl
theorem q2411 : (Jvm.Cond.privateMethod ({ cls := "HeirCasesModel", name := "setOf", desc := "(I)I" } : Jvm.MethodName)) ∈ lw_tbl := lw_at lw_m10 126 rfl
theorem q2412 : (Jvm.Cond.instanceMethod ({ cls := "HeirCasesModel", name := "setOf", desc := "(I)I" } : Jvm.MethodName)) ∈ lw_all := lw_g (lw_at lw_m10 127 rfl) rfl
theorem q2413 : (Jvm.Cond.code ({ cls := "HeirCasesModel", name := "setOf", desc := "(I)I" } : Jvm.MethodName) prog_17_method_69_code (4 : Nat) (Option.some Jvm.ClassFile.FieldType.int)) ∈ lw_all := lw_g (lw_at lw_m10 128 rfl) rfl
theorem q2414 : (Jvm.Cond.methodLink "HeirCasesModel" (302 : Nat) ({ cls := "HeirCasesModel", name := "settles", desc := "(I)I" } : Jvm.MethodName)) ∈ lw_all := lw_g (lw_at lw_m10 129 rfl) rfl
theorem q2415 : (Jvm.Cond.privateMethod ({ cls := "HeirCasesModel", name := "settles", desc := "(I)I" } : Jvm.MethodName)) ∈ lw_tbl := lw_at lw_m10 130 rfl
theorem q2416 : (Jvm.Cond.instanceMethod ({ cls := "HeirCasesModel", name := "settles", desc := "(I)I" } : Jvm.MethodName)) ∈ lw_all := lw_g (lw_at lw_m10 131 rfl) rfl
theorem q2417 : (Jvm.Cond.code ({ cls := "HeirCasesModel", name := "settles", desc := "(I)I" } : Jvm.MethodName) prog_17_method_26_code (2 : Nat) (Option.some Jvm.ClassFile.FieldType.int)) ∈ lw_all := lw_g (lw_at lw_m10 132 rfl) rfl
theorem q2418 : (Jvm.Cond.methodLink "HeirCasesModel" (101 : Nat) ({ cls := "HeirCasesModel", name := "part", desc := "(II)I" } : Jvm.MethodName)) ∈ lw_all := lw_g (lw_at lw_m10 133 rfl) rfl
theorem q2419 : (Jvm.Cond.privateMethod ({ cls := "HeirCasesModel", name := "part", desc := "(II)I" } : Jvm.MethodName)) ∈ lw_tbl := lw_at lw_m10 134 rfl
theorem q2420 : (Jvm.Cond.instanceMethod ({ cls := "HeirCasesModel", name := "part", desc := "(II)I" } : Jvm.MethodName)) ∈ lw_all := lw_g (lw_at lw_m10 135 rfl) rfl
theorem q2421 : (Jvm.Cond.code ({ cls := "HeirCasesModel", name := "part", desc := "(II)I" } : Jvm.MethodName) prog_17_method_29_code (5 : Nat) (Option.some Jvm.ClassFile.FieldType.int)) ∈ lw_all := lw_g (lw_at lw_m10 136 rfl) rfl
theorem q2422 : (Jvm.Cond.methodLink "HeirCasesModel" (104 : Nat) ({ cls := "HeirCasesModel", name := "duty", desc := "(II)I" } : Jvm.MethodName)) ∈ lw_all := lw_g (lw_at lw_m10 137 rfl) rfl
theorem q2423 : (Jvm.Cond.privateMethod ({ cls := "HeirCasesModel", name := "duty", desc := "(II)I" } : Jvm.MethodName)) ∈ lw_tbl := lw_at lw_m10 138 rfl
theorem q2424 : (Jvm.Cond.instanceMethod ({ cls := "HeirCasesModel", name := "duty", desc := "(II)I" } : Jvm.MethodName)) ∈ lw_all := lw_g (lw_at lw_m10 139 rfl) rfl
theorem q2425 : (Jvm.Cond.code ({ cls := "HeirCasesModel", name := "duty", desc := "(II)I" } : Jvm.MethodName) prog_17_method_30_code (4 : Nat) (Option.some Jvm.ClassFile.FieldType.int)) ∈ lw_all := lw_g (lw_at lw_m10 140 rfl) rfl
theorem q2426 : (Jvm.Cond.methodLink "HeirCasesModel" (311 : Nat) ({ cls := "HeirCasesModel", name := "extreme", desc := "(IZ)I" } : Jvm.MethodName)) ∈ lw_all := lw_g (lw_at lw_m10 141 rfl) rfl
theorem q2427 : (Jvm.Cond.privateMethod ({ cls := "HeirCasesModel", name := "extreme", desc := "(IZ)I" } : Jvm.MethodName)) ∈ lw_tbl := lw_at lw_m10 142 rfl
theorem q2428 : (Jvm.Cond.instanceMethod ({ cls := "HeirCasesModel", name := "extreme", desc := "(IZ)I" } : Jvm.MethodName)) ∈ lw_all := lw_g (lw_at lw_m10 143 rfl) rfl
theorem q2429 : (Jvm.Cond.code ({ cls := "HeirCasesModel", name := "extreme", desc := "(IZ)I" } : Jvm.MethodName) prog_17_method_70_code (8 : Nat) (Option.some Jvm.ClassFile.FieldType.int)) ∈ lw_all := lw_g (lw_at lw_m10 144 rfl) rfl
theorem q2430 : (Jvm.Cond.methodLink "HeirCasesModel" (305 : Nat) ({ cls := "java/lang/Math", name := "min", desc := "(II)I" } : Jvm.MethodName)) ∈ lw_all := lw_g (lw_at lw_m10 145 rfl) rfl
theorem q2432 : (Jvm.Cond.instanceMethod ({ cls := "HeirCasesModel", name := "rule", desc := "(II)I" } : Jvm.MethodName)) ∈ lw_all := lw_g (lw_at lw_m10 147 rfl) rfl
theorem q2433 : (Jvm.Cond.selects "HeirCasesModel" ({ cls := "HeirCasesModel", name := "rule", desc := "(II)I" } : Jvm.MethodName) ({ cls := "HeirCasesModel", name := "rule", desc := "(II)I" } : Jvm.MethodName)) ∈ lw_all := lw_g (lw_at lw_m10 148 rfl) rfl
theorem q2434 : (Jvm.Cond.code ({ cls := "HeirCasesModel", name := "rule", desc := "(II)I" } : Jvm.MethodName) prog_17_method_76_code (3 : Nat) (Option.some Jvm.ClassFile.FieldType.int)) ∈ lw_all := lw_g (lw_at lw_m10 149 rfl) rfl
theorem q2435 : (Jvm.Cond.methodLink "HeirCasesModel" (330 : Nat) ({ cls := "HeirCasesModel", name := "isRule", desc := "(I)Z" } : Jvm.MethodName)) ∈ lw_all := lw_g (lw_at lw_m10 150 rfl) rfl
theorem q2436 : (Jvm.Cond.privateMethod ({ cls := "HeirCasesModel", name := "isRule", desc := "(I)Z" } : Jvm.MethodName)) ∈ lw_tbl := lw_at lw_m10 151 rfl
theorem q2437 : (Jvm.Cond.instanceMethod ({ cls := "HeirCasesModel", name := "isRule", desc := "(I)Z" } : Jvm.MethodName)) ∈ lw_all := lw_g (lw_at lw_m10 152 rfl) rfl
theorem q2438 : (Jvm.Cond.code ({ cls := "HeirCasesModel", name := "isRule", desc := "(I)Z" } : Jvm.MethodName) prog_17_method_10_code (2 : Nat) (Option.some Jvm.ClassFile.FieldType.boolean)) ∈ lw_all := lw_g (lw_at lw_m10 153 rfl) rfl
theorem q2439 : (Jvm.Cond.methodLink "HeirCasesModel" (333 : Nat) ({ cls := "HeirCasesModel", name := "ruleTold", desc := "(II)I" } : Jvm.MethodName)) ∈ lw_all := lw_g (lw_at lw_m10 154 rfl) rfl
theorem q2440 : (Jvm.Cond.privateMethod ({ cls := "HeirCasesModel", name := "ruleTold", desc := "(II)I" } : Jvm.MethodName)) ∈ lw_tbl := lw_at lw_m10 155 rfl
theorem q2441 : (Jvm.Cond.instanceMethod ({ cls := "HeirCasesModel", name := "ruleTold", desc := "(II)I" } : Jvm.MethodName)) ∈ lw_all := lw_g (lw_at lw_m10 156 rfl) rfl
theorem q2442 : (Jvm.Cond.code ({ cls := "HeirCasesModel", name := "ruleTold", desc := "(II)I" } : Jvm.MethodName) prog_17_method_75_code (3 : Nat) (Option.some Jvm.ClassFile.FieldType.int)) ∈ lw_all := lw_g (lw_at lw_m10 157 rfl) rfl
theorem q2443 : (Jvm.Cond.methodLink "HeirCasesModel" (321 : Nat) ({ cls := "HeirCasesModel", name := "comparisons", desc := "(I)I" } : Jvm.MethodName)) ∈ lw_all := lw_g (lw_at lw_m10 158 rfl) rfl
theorem q2444 : (Jvm.Cond.privateMethod ({ cls := "HeirCasesModel", name := "comparisons", desc := "(I)I" } : Jvm.MethodName)) ∈ lw_tbl := lw_at lw_m10 159 rfl
theorem q2445 : (Jvm.Cond.instanceMethod ({ cls := "HeirCasesModel", name := "comparisons", desc := "(I)I" } : Jvm.MethodName)) ∈ lw_all := lw_g (lw_at lw_m10 160 rfl) rfl
theorem q2446 : (Jvm.Cond.code ({ cls := "HeirCasesModel", name := "comparisons", desc := "(I)I" } : Jvm.MethodName) prog_17_method_20_code (4 : Nat) (Option.some Jvm.ClassFile.FieldType.int)) ∈ lw_all := lw_g (lw_at lw_m10 161 rfl) rfl
theorem q2447 : (Jvm.Cond.methodLink "HeirCasesModel" (324 : Nat) ({ cls := "HeirCasesModel", name := "overIt", desc := "(I)I" } : Jvm.MethodName)) ∈ lw_all := lw_g (lw_at lw_m10 162 rfl) rfl
theorem q2448 : (Jvm.Cond.privateMethod ({ cls := "HeirCasesModel", name := "overIt", desc := "(I)I" } : Jvm.MethodName)) ∈ lw_tbl := lw_at lw_m10 163 rfl
theorem q2449 : (Jvm.Cond.instanceMethod ({ cls := "HeirCasesModel", name := "overIt", desc := "(I)I" } : Jvm.MethodName)) ∈ lw_all := lw_g (lw_at lw_m10 164 rfl) rfl
theorem q2450 : (Jvm.Cond.code ({ cls := "HeirCasesModel", name := "overIt", desc := "(I)I" } : Jvm.MethodName) prog_17_method_74_code (4 : Nat) (Option.some Jvm.ClassFile.FieldType.int)) ∈ lw_all := lw_g (lw_at lw_m10 165 rfl) rfl
theorem q2451 : (Jvm.Cond.methodLink "HeirCasesModel" (327 : Nat) ({ cls := "HeirCasesModel", name := "manyOf", desc := "(II)I" } : Jvm.MethodName)) ∈ lw_all := lw_g (lw_at lw_m10 166 rfl) rfl
theorem q2452 : (Jvm.Cond.privateMethod ({ cls := "HeirCasesModel", name := "manyOf", desc := "(II)I" } : Jvm.MethodName)) ∈ lw_tbl := lw_at lw_m10 167 rfl
theorem q2453 : (Jvm.Cond.instanceMethod ({ cls := "HeirCasesModel", name := "manyOf", desc := "(II)I" } : Jvm.MethodName)) ∈ lw_all := lw_g (lw_at lw_m10 168 rfl) rfl
theorem q2454 : (Jvm.Cond.code ({ cls := "HeirCasesModel", name := "manyOf", desc := "(II)I" } : Jvm.MethodName) prog_17_method_73_code (8 : Nat) (Option.some Jvm.ClassFile.FieldType.int)) ∈ lw_all := lw_g (lw_at lw_m10 169 rfl) rfl
theorem q2456 : (Jvm.Cond.instanceMethod ({ cls := "HeirCasesModel", name := "share", desc := "(IIZ)I" } : Jvm.MethodName)) ∈ lw_all := lw_g (lw_at lw_m10 171 rfl) rfl
theorem q2457 : (Jvm.Cond.selects "HeirCasesModel" ({ cls := "HeirCasesModel", name := "share", desc := "(IIZ)I" } : Jvm.MethodName) ({ cls := "HeirCasesModel", name := "share", desc := "(IIZ)I" } : Jvm.MethodName)) ∈ lw_all := lw_g (lw_at lw_m10 172 rfl) rfl
theorem q2458 : (Jvm.Cond.code ({ cls := "HeirCasesModel", name := "share", desc := "(IIZ)I" } : Jvm.MethodName) prog_17_method_78_code (4 : Nat) (Option.some Jvm.ClassFile.FieldType.int)) ∈ lw_all := lw_g (lw_at lw_m10 173 rfl) rfl
theorem q2459 : (Jvm.Cond.methodLink "HeirCasesModel" (336 : Nat) ({ cls := "HeirCasesModel", name := "shareTold", desc := "(IIZ)I" } : Jvm.MethodName)) ∈ lw_all := lw_g (lw_at lw_m10 174 rfl) rfl
theorem q2460 : (Jvm.Cond.privateMethod ({ cls := "HeirCasesModel", name := "shareTold", desc := "(IIZ)I" } : Jvm.MethodName)) ∈ lw_tbl := lw_at lw_m10 175 rfl
theorem q2461 : (Jvm.Cond.instanceMethod ({ cls := "HeirCasesModel", name := "shareTold", desc := "(IIZ)I" } : Jvm.MethodName)) ∈ lw_all := lw_g (lw_at lw_m10 176 rfl) rfl
theorem q2462 : (Jvm.Cond.code ({ cls := "HeirCasesModel", name := "shareTold", desc := "(IIZ)I" } : Jvm.MethodName) prog_17_method_77_code (5 : Nat) (Option.some Jvm.ClassFile.FieldType.int)) ∈ lw_all := lw_g (lw_at lw_m10 177 rfl) rfl
theorem q2463 : (Jvm.Cond.methodLink "HeirCasesModel" (107 : Nat) ({ cls := "HeirCasesModel", name := "divisor", desc := "(II)I" } : Jvm.MethodName)) ∈ lw_all := lw_g (lw_at lw_m10 178 rfl) rfl
theorem q2464 : (Jvm.Cond.static ({ cls := "HeirCasesModel", name := "divisor", desc := "(II)I" } : Jvm.MethodName)) ∈ lw_all := lw_g (lw_at lw_m10 179 rfl) rfl
theorem q2465 : (Jvm.Cond.code ({ cls := "HeirCasesModel", name := "divisor", desc := "(II)I" } : Jvm.MethodName) prog_17_method_33_code (2 : Nat) (Option.some Jvm.ClassFile.FieldType.int)) ∈ lw_all := lw_g (lw_at lw_m10 180 rfl) rfl
theorem q2467 : (Jvm.Cond.instanceMethod ({ cls := "HeirCasesModel", name := "applies", desc := "(II)Z" } : Jvm.MethodName)) ∈ lw_all := lw_g (lw_at lw_m10 182 rfl) rfl
theorem q2468 : (Jvm.Cond.selects "HeirCasesModel" ({ cls := "HeirCasesModel", name := "applies", desc := "(II)Z" } : Jvm.MethodName) ({ cls := "HeirCasesModel", name := "applies", desc := "(II)Z" } : Jvm.MethodName)) ∈ lw_all := lw_g (lw_at lw_m10 183 rfl) rfl
theorem q2469 : (Jvm.Cond.code ({ cls := "HeirCasesModel", name := "applies", desc := "(II)Z" } : Jvm.MethodName) prog_17_method_79_code (3 : Nat) (Option.some Jvm.ClassFile.FieldType.boolean)) ∈ lw_all := lw_g (lw_at lw_m10 184 rfl) rfl
theorem q2471 : (Jvm.Cond.instanceMethod ({ cls := "HeirCasesModel", name := "applying", desc := "(I)I" } : Jvm.MethodName)) ∈ lw_all := lw_g (lw_at lw_m10 186 rfl) rfl
theorem q2472 : (Jvm.Cond.selects "HeirCasesModel" ({ cls := "HeirCasesModel", name := "applying", desc := "(I)I" } : Jvm.MethodName) ({ cls := "HeirCasesModel", name := "applying", desc := "(I)I" } : Jvm.MethodName)) ∈ lw_all := lw_g (lw_at lw_m10 187 rfl) rfl
theorem q2473 : (Jvm.Cond.code ({ cls := "HeirCasesModel", name := "applying", desc := "(I)I" } : Jvm.MethodName) prog_17_method_80_code (2 : Nat) (Option.some Jvm.ClassFile.FieldType.int)) ∈ lw_all := lw_g (lw_at lw_m10 188 rfl) rfl
theorem q2475 : (Jvm.Cond.instanceMethod ({ cls := "HeirCasesModel", name := "verdict", desc := "(I)I" } : Jvm.MethodName)) ∈ lw_all := lw_g (lw_at lw_m10 190 rfl) rfl
theorem q2476 : (Jvm.Cond.selects "HeirCasesModel" ({ cls := "HeirCasesModel", name := "verdict", desc := "(I)I" } : Jvm.MethodName) ({ cls := "HeirCasesModel", name := "verdict", desc := "(I)I" } : Jvm.MethodName)) ∈ lw_all := lw_g (lw_at lw_m10 191 rfl) rfl
theorem q2477 : (Jvm.Cond.code ({ cls := "HeirCasesModel", name := "verdict", desc := "(I)I" } : Jvm.MethodName) prog_17_method_81_code (2 : Nat) (Option.some Jvm.ClassFile.FieldType.int)) ∈ lw_all := lw_g (lw_at lw_m10 192 rfl) rfl
theorem q2479 : (Jvm.Cond.instanceMethod ({ cls := "HeirCasesModel", name := "settledBy", desc := "(I)I" } : Jvm.MethodName)) ∈ lw_all := lw_g (lw_at lw_m10 194 rfl) rfl
theorem q2480 : (Jvm.Cond.selects "HeirCasesModel" ({ cls := "HeirCasesModel", name := "settledBy", desc := "(I)I" } : Jvm.MethodName) ({ cls := "HeirCasesModel", name := "settledBy", desc := "(I)I" } : Jvm.MethodName)) ∈ lw_all := lw_g (lw_at lw_m10 195 rfl) rfl
theorem q2481 : (Jvm.Cond.code ({ cls := "HeirCasesModel", name := "settledBy", desc := "(I)I" } : Jvm.MethodName) prog_17_method_82_code (2 : Nat) (Option.some Jvm.ClassFile.FieldType.int)) ∈ lw_all := lw_g (lw_at lw_m10 196 rfl) rfl
theorem q2483 : (Jvm.Cond.instanceMethod ({ cls := "HeirCasesModel", name := "why", desc := "(III)I" } : Jvm.MethodName)) ∈ lw_all := lw_g (lw_at lw_m10 198 rfl) rfl
theorem q2484 : (Jvm.Cond.selects "HeirCasesModel" ({ cls := "HeirCasesModel", name := "why", desc := "(III)I" } : Jvm.MethodName) ({ cls := "HeirCasesModel", name := "why", desc := "(III)I" } : Jvm.MethodName)) ∈ lw_all := lw_g (lw_at lw_m10 199 rfl) rfl
theorem q2485 : (Jvm.Cond.code ({ cls := "HeirCasesModel", name := "why", desc := "(III)I" } : Jvm.MethodName) prog_17_method_84_code (6 : Nat) (Option.some Jvm.ClassFile.FieldType.int)) ∈ lw_all := lw_g (lw_at lw_m10 200 rfl) rfl
theorem q2486 : (Jvm.Cond.methodLink "HeirCasesModel" (340 : Nat) ({ cls := "HeirCasesModel", name := "throwsOne", desc := "(ZZZ)Z" } : Jvm.MethodName)) ∈ lw_all := lw_g (lw_at lw_m10 201 rfl) rfl
theorem q2487 : (Jvm.Cond.privateMethod ({ cls := "HeirCasesModel", name := "throwsOne", desc := "(ZZZ)Z" } : Jvm.MethodName)) ∈ lw_tbl := lw_at lw_m10 202 rfl
theorem q2488 : (Jvm.Cond.instanceMethod ({ cls := "HeirCasesModel", name := "throwsOne", desc := "(ZZZ)Z" } : Jvm.MethodName)) ∈ lw_all := lw_g (lw_at lw_m10 203 rfl) rfl
theorem q2489 : (Jvm.Cond.code ({ cls := "HeirCasesModel", name := "throwsOne", desc := "(ZZZ)Z" } : Jvm.MethodName) prog_17_method_6_code (4 : Nat) (Option.some Jvm.ClassFile.FieldType.boolean)) ∈ lw_all := lw_g (lw_at lw_m10 204 rfl) rfl
theorem q2490 : (Jvm.Cond.methodLink "HeirCasesModel" (343 : Nat) ({ cls := "HeirCasesModel", name := "reason", desc := "(II)I" } : Jvm.MethodName)) ∈ lw_all := lw_g (lw_at lw_m10 205 rfl) rfl
theorem q2491 : (Jvm.Cond.privateMethod ({ cls := "HeirCasesModel", name := "reason", desc := "(II)I" } : Jvm.MethodName)) ∈ lw_tbl := lw_at lw_m10 206 rfl
theorem q2492 : (Jvm.Cond.instanceMethod ({ cls := "HeirCasesModel", name := "reason", desc := "(II)I" } : Jvm.MethodName)) ∈ lw_all := lw_g (lw_at lw_m10 207 rfl) rfl
theorem q2493 : (Jvm.Cond.code ({ cls := "HeirCasesModel", name := "reason", desc := "(II)I" } : Jvm.MethodName) prog_17_method_83_code (4 : Nat) (Option.some Jvm.ClassFile.FieldType.int)) ∈ lw_all := lw_g (lw_at lw_m10 208 rfl) rfl
theorem q2494 : (Jvm.Cond.methodLink "HeirCasesModel" (346 : Nat) ({ cls := "HeirCasesModel", name := "bits", desc := "(I)I" } : Jvm.MethodName)) ∈ lw_all := lw_g (lw_at lw_m10 209 rfl) rfl
theorem q2495 : (Jvm.Cond.static ({ cls := "HeirCasesModel", name := "bits", desc := "(I)I" } : Jvm.MethodName)) ∈ lw_all := lw_g (lw_at lw_m10 210 rfl) rfl
theorem q2496 : (Jvm.Cond.code ({ cls := "HeirCasesModel", name := "bits", desc := "(I)I" } : Jvm.MethodName) prog_17_method_8_code (3 : Nat) (Option.some Jvm.ClassFile.FieldType.int)) ∈ lw_all := lw_g (lw_at lw_m10 211 rfl) rfl
theorem q2498 : (Jvm.Cond.instanceMethod ({ cls := "HeirCasesModel", name := "example", desc := "(II)I" } : Jvm.MethodName)) ∈ lw_all := lw_g (lw_at lw_m10 213 rfl) rfl
theorem q2499 : (Jvm.Cond.selects "HeirCasesModel" ({ cls := "HeirCasesModel", name := "example", desc := "(II)I" } : Jvm.MethodName) ({ cls := "HeirCasesModel", name := "example", desc := "(II)I" } : Jvm.MethodName)) ∈ lw_all := lw_g (lw_at lw_m10 214 rfl) rfl
theorem q2500 : (Jvm.Cond.code ({ cls := "HeirCasesModel", name := "example", desc := "(II)I" } : Jvm.MethodName) prog_17_method_85_code (6 : Nat) (Option.some Jvm.ClassFile.FieldType.int)) ∈ lw_all := lw_g (lw_at lw_m10 215 rfl) rfl
theorem q2502 : (Jvm.Cond.instanceMethod ({ cls := "HeirCasesModel", name := "isClosed", desc := "()Z" } : Jvm.MethodName)) ∈ lw_all := lw_g (lw_at lw_m10 217 rfl) rfl
theorem q2503 : (Jvm.Cond.selects "HeirCasesModel" ({ cls := "HeirCasesModel", name := "isClosed", desc := "()Z" } : Jvm.MethodName) ({ cls := "HeirCasesModel", name := "isClosed", desc := "()Z" } : Jvm.MethodName)) ∈ lw_all := lw_g (lw_at lw_m10 218 rfl) rfl
theorem q2504 : (Jvm.Cond.code ({ cls := "HeirCasesModel", name := "isClosed", desc := "()Z" } : Jvm.MethodName) prog_17_method_86_code (1 : Nat) (Option.some Jvm.ClassFile.FieldType.boolean)) ∈ lw_all := lw_g (lw_at lw_m10 219 rfl) rfl
theorem q2505 : (Jvm.Cond.methodLink "HeirCasesModel" (349 : Nat) ({ cls := "HeirCasesModel", name := "gaps", desc := "(I)I" } : Jvm.MethodName)) ∈ lw_all := lw_g (lw_at lw_m10 220 rfl) rfl
theorem q2506 : (Jvm.Cond.privateMethod ({ cls := "HeirCasesModel", name := "gaps", desc := "(I)I" } : Jvm.MethodName)) ∈ lw_tbl := lw_at lw_m10 221 rfl
theorem q2507 : (Jvm.Cond.instanceMethod ({ cls := "HeirCasesModel", name := "gaps", desc := "(I)I" } : Jvm.MethodName)) ∈ lw_all := lw_g (lw_at lw_m10 222 rfl) rfl
theorem q2508 : (Jvm.Cond.code ({ cls := "HeirCasesModel", name := "gaps", desc := "(I)I" } : Jvm.MethodName) prog_17_method_28_code (2 : Nat) (Option.some Jvm.ClassFile.FieldType.int)) ∈ lw_all := lw_g (lw_at lw_m10 223 rfl) rfl
theorem q2510 : (Jvm.Cond.instanceMethod ({ cls := "HeirCasesModel", name := "isWider", desc := "(II)Z" } : Jvm.MethodName)) ∈ lw_all := lw_g (lw_at lw_m10 225 rfl) rfl
theorem q2511 : (Jvm.Cond.selects "HeirCasesModel" ({ cls := "HeirCasesModel", name := "isWider", desc := "(II)Z" } : Jvm.MethodName) ({ cls := "HeirCasesModel", name := "isWider", desc := "(II)Z" } : Jvm.MethodName)) ∈ lw_all := lw_g (lw_at lw_m10 226 rfl) rfl
theorem q2512 : (Jvm.Cond.code ({ cls := "HeirCasesModel", name := "isWider", desc := "(II)Z" } : Jvm.MethodName) prog_17_method_87_code (6 : Nat) (Option.some Jvm.ClassFile.FieldType.boolean)) ∈ lw_all := lw_g (lw_at lw_m10 227 rfl) rfl
theorem q2514 : (Jvm.Cond.instanceMethod ({ cls := "HeirCasesModel", name := "common", desc := "(II)I" } : Jvm.MethodName)) ∈ lw_all := lw_g (lw_at lw_m10 229 rfl) rfl
theorem q2515 : (Jvm.Cond.selects "HeirCasesModel" ({ cls := "HeirCasesModel", name := "common", desc := "(II)I" } : Jvm.MethodName) ({ cls := "HeirCasesModel", name := "common", desc := "(II)I" } : Jvm.MethodName)) ∈ lw_all := lw_g (lw_at lw_m10 230 rfl) rfl
theorem q2516 : (Jvm.Cond.code ({ cls := "HeirCasesModel", name := "common", desc := "(II)I" } : Jvm.MethodName) prog_17_method_88_code (6 : Nat) (Option.some Jvm.ClassFile.FieldType.int)) ∈ lw_all := lw_g (lw_at lw_m10 231 rfl) rfl
theorem q2518 : (Jvm.Cond.instanceMethod ({ cls := "HeirCasesModel", name := "needed", desc := "()I" } : Jvm.MethodName)) ∈ lw_all := lw_g (lw_at lw_m10 233 rfl) rfl
theorem q2519 : (Jvm.Cond.selects "HeirCasesModel" ({ cls := "HeirCasesModel", name := "needed", desc := "()I" } : Jvm.MethodName) ({ cls := "HeirCasesModel", name := "needed", desc := "()I" } : Jvm.MethodName)) ∈ lw_all := lw_g (lw_at lw_m10 234 rfl) rfl
theorem q2520 : (Jvm.Cond.code ({ cls := "HeirCasesModel", name := "needed", desc := "()I" } : Jvm.MethodName) prog_17_method_89_code (4 : Nat) (Option.some Jvm.ClassFile.FieldType.int)) ∈ lw_all := lw_g (lw_at lw_m10 235 rfl) rfl
theorem q2522 : (Jvm.Cond.instanceMethod ({ cls := "HeirCasesModel", name := "idle", desc := "()I" } : Jvm.MethodName)) ∈ lw_all := lw_g (lw_at lw_m10 237 rfl) rfl
theorem q2523 : (Jvm.Cond.selects "HeirCasesModel" ({ cls := "HeirCasesModel", name := "idle", desc := "()I" } : Jvm.MethodName) ({ cls := "HeirCasesModel", name := "idle", desc := "()I" } : Jvm.MethodName)) ∈ lw_all := lw_g (lw_at lw_m10 238 rfl) rfl
theorem q2524 : (Jvm.Cond.code ({ cls := "HeirCasesModel", name := "idle", desc := "()I" } : Jvm.MethodName) prog_17_method_90_code (3 : Nat) (Option.some Jvm.ClassFile.FieldType.int)) ∈ lw_all := lw_g (lw_at lw_m10 239 rfl) rfl
theorem q2526 : (Jvm.Cond.instanceMethod ({ cls := "HeirCasesModel", name := "gapsWithout", desc := "(I)I" } : Jvm.MethodName)) ∈ lw_all := lw_g (lw_at lw_m11 1 rfl) rfl
theorem q2527 : (Jvm.Cond.selects "HeirCasesModel" ({ cls := "HeirCasesModel", name := "gapsWithout", desc := "(I)I" } : Jvm.MethodName) ({ cls := "HeirCasesModel", name := "gapsWithout", desc := "(I)I" } : Jvm.MethodName)) ∈ lw_all := lw_g (lw_at lw_m11 2 rfl) rfl
theorem q2528 : (Jvm.Cond.code ({ cls := "HeirCasesModel", name := "gapsWithout", desc := "(I)I" } : Jvm.MethodName) prog_17_method_91_code (2 : Nat) (Option.some Jvm.ClassFile.FieldType.int)) ∈ lw_all := lw_g (lw_at lw_m11 3 rfl) rfl
theorem q2530 : (Jvm.Cond.instanceMethod ({ cls := "HeirCasesModel", name := "clashesIf", desc := "(II)I" } : Jvm.MethodName)) ∈ lw_all := lw_g (lw_at lw_m11 5 rfl) rfl
theorem q2531 : (Jvm.Cond.selects "HeirCasesModel" ({ cls := "HeirCasesModel", name := "clashesIf", desc := "(II)I" } : Jvm.MethodName) ({ cls := "HeirCasesModel", name := "clashesIf", desc := "(II)I" } : Jvm.MethodName)) ∈ lw_all := lw_g (lw_at lw_m11 6 rfl) rfl
theorem q2532 : (Jvm.Cond.code ({ cls := "HeirCasesModel", name := "clashesIf", desc := "(II)I" } : Jvm.MethodName) prog_17_method_92_code (5 : Nat) (Option.some Jvm.ClassFile.FieldType.int)) ∈ lw_all := lw_g (lw_at lw_m11 7 rfl) rfl
theorem q2534 : (Jvm.Cond.instanceMethod ({ cls := "HeirCasesModel", name := "patch", desc := "()I" } : Jvm.MethodName)) ∈ lw_all := lw_g (lw_at lw_m11 9 rfl) rfl
theorem q2535 : (Jvm.Cond.selects "HeirCasesModel" ({ cls := "HeirCasesModel", name := "patch", desc := "()I" } : Jvm.MethodName) ({ cls := "HeirCasesModel", name := "patch", desc := "()I" } : Jvm.MethodName)) ∈ lw_all := lw_g (lw_at lw_m11 10 rfl) rfl
theorem q2536 : (Jvm.Cond.code ({ cls := "HeirCasesModel", name := "patch", desc := "()I" } : Jvm.MethodName) prog_17_method_94_code (6 : Nat) (Option.some Jvm.ClassFile.FieldType.int)) ∈ lw_all := lw_g (lw_at lw_m11 11 rfl) rfl
theorem q2537 : (Jvm.Cond.methodLink "HeirCasesModel" (352 : Nat) ({ cls := "HeirCasesModel", name := "gapsWith", desc := "(II)I" } : Jvm.MethodName)) ∈ lw_all := lw_g (lw_at lw_m11 12 rfl) rfl
theorem q2538 : (Jvm.Cond.privateMethod ({ cls := "HeirCasesModel", name := "gapsWith", desc := "(II)I" } : Jvm.MethodName)) ∈ lw_tbl := lw_at lw_m11 13 rfl
theorem q2539 : (Jvm.Cond.instanceMethod ({ cls := "HeirCasesModel", name := "gapsWith", desc := "(II)I" } : Jvm.MethodName)) ∈ lw_all := lw_g (lw_at lw_m11 14 rfl) rfl
theorem q2540 : (Jvm.Cond.code ({ cls := "HeirCasesModel", name := "gapsWith", desc := "(II)I" } : Jvm.MethodName) prog_17_method_93_code (7 : Nat) (Option.some Jvm.ClassFile.FieldType.int)) ∈ lw_all := lw_g (lw_at lw_m11 15 rfl) rfl
theorem q2542 : (Jvm.Cond.instanceMethod ({ cls := "HeirCasesModel", name := "farFrom", desc := "(I)I" } : Jvm.MethodName)) ∈ lw_all := lw_g (lw_at lw_m11 17 rfl) rfl
theorem q2543 : (Jvm.Cond.selects "HeirCasesModel" ({ cls := "HeirCasesModel", name := "farFrom", desc := "(I)I" } : Jvm.MethodName) ({ cls := "HeirCasesModel", name := "farFrom", desc := "(I)I" } : Jvm.MethodName)) ∈ lw_all := lw_g (lw_at lw_m11 18 rfl) rfl
theorem q2544 : (Jvm.Cond.code ({ cls := "HeirCasesModel", name := "farFrom", desc := "(I)I" } : Jvm.MethodName) prog_17_method_96_code (6 : Nat) (Option.some Jvm.ClassFile.FieldType.int)) ∈ lw_all := lw_g (lw_at lw_m11 19 rfl) rfl
theorem q2545 : (Jvm.Cond.methodLink "HeirCasesModel" (355 : Nat) ({ cls := "HeirCasesModel", name := "apart", desc := "(II)I" } : Jvm.MethodName)) ∈ lw_all := lw_g (lw_at lw_m11 20 rfl) rfl
theorem q2546 : (Jvm.Cond.privateMethod ({ cls := "HeirCasesModel", name := "apart", desc := "(II)I" } : Jvm.MethodName)) ∈ lw_tbl := lw_at lw_m11 21 rfl
theorem q2547 : (Jvm.Cond.instanceMethod ({ cls := "HeirCasesModel", name := "apart", desc := "(II)I" } : Jvm.MethodName)) ∈ lw_all := lw_g (lw_at lw_m11 22 rfl) rfl
theorem q2548 : (Jvm.Cond.code ({ cls := "HeirCasesModel", name := "apart", desc := "(II)I" } : Jvm.MethodName) prog_17_method_95_code (5 : Nat) (Option.some Jvm.ClassFile.FieldType.int)) ∈ lw_all := lw_g (lw_at lw_m11 23 rfl) rfl
theorem q2550 : (Jvm.Cond.instanceMethod ({ cls := "HeirCasesModel", name := "gets", desc := "(III)I" } : Jvm.MethodName)) ∈ lw_all := lw_g (lw_at lw_m11 25 rfl) rfl
theorem q2551 : (Jvm.Cond.selects "HeirCasesModel" ({ cls := "HeirCasesModel", name := "gets", desc := "(III)I" } : Jvm.MethodName) ({ cls := "HeirCasesModel", name := "gets", desc := "(III)I" } : Jvm.MethodName)) ∈ lw_all := lw_g (lw_at lw_m11 26 rfl) rfl
theorem q2552 : (Jvm.Cond.code ({ cls := "HeirCasesModel", name := "gets", desc := "(III)I" } : Jvm.MethodName) prog_17_method_97_code (5 : Nat) (Option.some Jvm.ClassFile.FieldType.int)) ∈ lw_all := lw_g (lw_at lw_m11 27 rfl) rfl
theorem q2554 : (Jvm.Cond.instanceMethod ({ cls := "HeirCasesModel", name := "duties", desc := "(I)I" } : Jvm.MethodName)) ∈ lw_all := lw_g (lw_at lw_m11 29 rfl) rfl
theorem q2555 : (Jvm.Cond.selects "HeirCasesModel" ({ cls := "HeirCasesModel", name := "duties", desc := "(I)I" } : Jvm.MethodName) ({ cls := "HeirCasesModel", name := "duties", desc := "(I)I" } : Jvm.MethodName)) ∈ lw_all := lw_g (lw_at lw_m11 30 rfl) rfl
theorem q2556 : (Jvm.Cond.code ({ cls := "HeirCasesModel", name := "duties", desc := "(I)I" } : Jvm.MethodName) prog_17_method_98_code (3 : Nat) (Option.some Jvm.ClassFile.FieldType.int)) ∈ lw_all := lw_g (lw_at lw_m11 31 rfl) rfl
theorem q2557 : (Jvm.Cond.methodLink "HeirCasesModel" (358 : Nat) ({ cls := "HeirCasesModel", name := "duties0", desc := "(I)I" } : Jvm.MethodName)) ∈ lw_all := lw_g (lw_at lw_m11 32 rfl) rfl
theorem q2558 : (Jvm.Cond.privateMethod ({ cls := "HeirCasesModel", name := "duties0", desc := "(I)I" } : Jvm.MethodName)) ∈ lw_tbl := lw_at lw_m11 33 rfl
theorem q2559 : (Jvm.Cond.instanceMethod ({ cls := "HeirCasesModel", name := "duties0", desc := "(I)I" } : Jvm.MethodName)) ∈ lw_all := lw_g (lw_at lw_m11 34 rfl) rfl
theorem q2560 : (Jvm.Cond.code ({ cls := "HeirCasesModel", name := "duties0", desc := "(I)I" } : Jvm.MethodName) prog_17_method_31_code (4 : Nat) (Option.some Jvm.ClassFile.FieldType.int)) ∈ lw_all := lw_g (lw_at lw_m11 35 rfl) rfl
theorem q2562 : (Jvm.Cond.instanceMethod ({ cls := "HeirCasesModel", name := "dearest", desc := "()I" } : Jvm.MethodName)) ∈ lw_all := lw_g (lw_at lw_m11 37 rfl) rfl
theorem q2563 : (Jvm.Cond.selects "HeirCasesModel" ({ cls := "HeirCasesModel", name := "dearest", desc := "()I" } : Jvm.MethodName) ({ cls := "HeirCasesModel", name := "dearest", desc := "()I" } : Jvm.MethodName)) ∈ lw_all := lw_g (lw_at lw_m11 38 rfl) rfl
theorem q2564 : (Jvm.Cond.code ({ cls := "HeirCasesModel", name := "dearest", desc := "()I" } : Jvm.MethodName) prog_17_method_99_code (6 : Nat) (Option.some Jvm.ClassFile.FieldType.int)) ∈ lw_all := lw_g (lw_at lw_m11 39 rfl) rfl
theorem q2566 : (Jvm.Cond.instanceMethod ({ cls := "HeirCasesModel", name := "gap", desc := "()I" } : Jvm.MethodName)) ∈ lw_all := lw_g (lw_at lw_m11 41 rfl) rfl
theorem q2567 : (Jvm.Cond.selects "HeirCasesModel" ({ cls := "HeirCasesModel", name := "gap", desc := "()I" } : Jvm.MethodName) ({ cls := "HeirCasesModel", name := "gap", desc := "()I" } : Jvm.MethodName)) ∈ lw_all := lw_g (lw_at lw_m11 42 rfl) rfl
theorem q2568 : (Jvm.Cond.code ({ cls := "HeirCasesModel", name := "gap", desc := "()I" } : Jvm.MethodName) prog_17_method_100_code (6 : Nat) (Option.some Jvm.ClassFile.FieldType.int)) ∈ lw_all := lw_g (lw_at lw_m11 43 rfl) rfl
theorem q2570 : (Jvm.Cond.instanceMethod ({ cls := "HeirCasesModel", name := "settledShare", desc := "()F" } : Jvm.MethodName)) ∈ lw_all := lw_g (lw_at lw_m11 45 rfl) rfl
theorem q2571 : (Jvm.Cond.selects "HeirCasesModel" ({ cls := "HeirCasesModel", name := "settledShare", desc := "()F" } : Jvm.MethodName) ({ cls := "HeirCasesModel", name := "settledShare", desc := "()F" } : Jvm.MethodName)) ∈ lw_all := lw_g (lw_at lw_m11 46 rfl) rfl
theorem q2572 : (Jvm.Cond.code ({ cls := "HeirCasesModel", name := "settledShare", desc := "()F" } : Jvm.MethodName) prog_17_method_101_code (1 : Nat) (Option.some Jvm.ClassFile.FieldType.float)) ∈ lw_all := lw_g (lw_at lw_m11 47 rfl) rfl
theorem q2574 : (Jvm.Cond.instanceMethod ({ cls := "HeirCasesModel", name := "meanDuties", desc := "()D" } : Jvm.MethodName)) ∈ lw_all := lw_g (lw_at lw_m11 49 rfl) rfl
theorem q2575 : (Jvm.Cond.selects "HeirCasesModel" ({ cls := "HeirCasesModel", name := "meanDuties", desc := "()D" } : Jvm.MethodName) ({ cls := "HeirCasesModel", name := "meanDuties", desc := "()D" } : Jvm.MethodName)) ∈ lw_all := lw_g (lw_at lw_m11 50 rfl) rfl
theorem q2576 : (Jvm.Cond.code ({ cls := "HeirCasesModel", name := "meanDuties", desc := "()D" } : Jvm.MethodName) prog_17_method_102_code (6 : Nat) (Option.some Jvm.ClassFile.FieldType.double)) ∈ lw_all := lw_g (lw_at lw_m11 51 rfl) rfl
theorem q2578 : (Jvm.Cond.instanceMethod ({ cls := "HeirCasesModel", name := "writeRule", desc := "(I)I" } : Jvm.MethodName)) ∈ lw_all := lw_g (lw_at lw_m11 53 rfl) rfl
theorem q2579 : (Jvm.Cond.selects "HeirCasesModel" ({ cls := "HeirCasesModel", name := "writeRule", desc := "(I)I" } : Jvm.MethodName) ({ cls := "HeirCasesModel", name := "writeRule", desc := "(I)I" } : Jvm.MethodName)) ∈ lw_all := lw_g (lw_at lw_m11 54 rfl) rfl
theorem q2580 : (Jvm.Cond.code ({ cls := "HeirCasesModel", name := "writeRule", desc := "(I)I" } : Jvm.MethodName) prog_17_method_110_code (3 : Nat) (Option.some Jvm.ClassFile.FieldType.int)) ∈ lw_all := lw_g (lw_at lw_m11 55 rfl) rfl
theorem q2581 : (Jvm.Cond.methodLink "HeirCasesModel" (384 : Nat) ({ cls := "HeirCasesModel", name := "writePart", desc := "(III)V" } : Jvm.MethodName)) ∈ lw_all := lw_g (lw_at lw_m11 56 rfl) rfl
theorem q2582 : (Jvm.Cond.privateMethod ({ cls := "HeirCasesModel", name := "writePart", desc := "(III)V" } : Jvm.MethodName)) ∈ lw_tbl := lw_at lw_m11 57 rfl
theorem q2583 : (Jvm.Cond.instanceMethod ({ cls := "HeirCasesModel", name := "writePart", desc := "(III)V" } : Jvm.MethodName)) ∈ lw_all := lw_g (lw_at lw_m11 58 rfl) rfl
theorem q2584 : (Jvm.Cond.code ({ cls := "HeirCasesModel", name := "writePart", desc := "(III)V" } : Jvm.MethodName) prog_17_method_108_code (6 : Nat) (Option.none : Option Jvm.ClassFile.FieldType)) ∈ lw_all := lw_g (lw_at lw_m11 59 rfl) rfl
theorem q2585 : (Jvm.Cond.methodLink "HeirCasesModel" (381 : Nat) ({ cls := "HeirCasesModel", name := "writeCompare", desc := "(I)V" } : Jvm.MethodName)) ∈ lw_all := lw_g (lw_at lw_m11 60 rfl) rfl
theorem q2586 : (Jvm.Cond.privateMethod ({ cls := "HeirCasesModel", name := "writeCompare", desc := "(I)V" } : Jvm.MethodName)) ∈ lw_tbl := lw_at lw_m11 61 rfl
theorem q2587 : (Jvm.Cond.instanceMethod ({ cls := "HeirCasesModel", name := "writeCompare", desc := "(I)V" } : Jvm.MethodName)) ∈ lw_all := lw_g (lw_at lw_m11 62 rfl) rfl
theorem q2588 : (Jvm.Cond.code ({ cls := "HeirCasesModel", name := "writeCompare", desc := "(I)V" } : Jvm.MethodName) prog_17_method_107_code (3 : Nat) (Option.none : Option Jvm.ClassFile.FieldType)) ∈ lw_all := lw_g (lw_at lw_m11 63 rfl) rfl
theorem q2589 : (Jvm.Cond.stringRef "HeirCasesModel" (370 : Nat) "") ∈ lw_tbl := lw_at lw_m11 64 rfl
theorem q2590 : (Jvm.Cond.methodLink "HeirCasesModel" (372 : Nat) ({ cls := "HeirCasesModel", name := "writeToken", desc := "(Ljava/lang/String;)V" } : Jvm.MethodName)) ∈ lw_all := lw_g (lw_at lw_m11 65 rfl) rfl
theorem q2591 : (Jvm.Cond.privateMethod ({ cls := "HeirCasesModel", name := "writeToken", desc := "(Ljava/lang/String;)V" } : Jvm.MethodName)) ∈ lw_tbl := lw_at lw_m11 66 rfl
theorem q2592 : (Jvm.Cond.instanceMethod ({ cls := "HeirCasesModel", name := "writeToken", desc := "(Ljava/lang/String;)V" } : Jvm.MethodName)) ∈ lw_all := lw_g (lw_at lw_m11 67 rfl) rfl
theorem q2593 : (Jvm.Cond.code ({ cls := "HeirCasesModel", name := "writeToken", desc := "(Ljava/lang/String;)V" } : Jvm.MethodName) prog_17_method_105_code (3 : Nat) (Option.none : Option Jvm.ClassFile.FieldType)) ∈ lw_all := lw_g (lw_at lw_m11 68 rfl) rfl
theorem q2594 : (Jvm.Cond.methodLink "HeirCasesModel" (364 : Nat) ({ cls := "HeirCasesModel", name := "write", desc := "(I)V" } : Jvm.MethodName)) ∈ lw_all := lw_g (lw_at lw_m11 69 rfl) rfl
theorem q2595 : (Jvm.Cond.privateMethod ({ cls := "HeirCasesModel", name := "write", desc := "(I)V" } : Jvm.MethodName)) ∈ lw_tbl := lw_at lw_m11 70 rfl
theorem q2596 : (Jvm.Cond.instanceMethod ({ cls := "HeirCasesModel", name := "write", desc := "(I)V" } : Jvm.MethodName)) ∈ lw_all := lw_g (lw_at lw_m11 71 rfl) rfl
theorem q2597 : (Jvm.Cond.code ({ cls := "HeirCasesModel", name := "write", desc := "(I)V" } : Jvm.MethodName) prog_17_method_103_code (2 : Nat) (Option.none : Option Jvm.ClassFile.FieldType)) ∈ lw_all := lw_g (lw_at lw_m11 72 rfl) rfl
theorem q2598 : (Jvm.Cond.stringRef "HeirCasesModel" (375 : Nat) "=") ∈ lw_tbl := lw_at lw_m11 73 rfl
theorem q2599 : (Jvm.Cond.stringRef "HeirCasesModel" (377 : Nat) "<") ∈ lw_tbl := lw_at lw_m11 74 rfl
theorem q2600 : (Jvm.Cond.stringRef "HeirCasesModel" (379 : Nat) ">") ∈ lw_tbl := lw_at lw_m11 75 rfl
theorem q2601 : (Jvm.Cond.methodLink "HeirCasesModel" (361 : Nat) ({ cls := "HeirCasesModel", name := "writeNumber", desc := "(I)V" } : Jvm.MethodName)) ∈ lw_all := lw_g (lw_at lw_m11 76 rfl) rfl
theorem q2602 : (Jvm.Cond.privateMethod ({ cls := "HeirCasesModel", name := "writeNumber", desc := "(I)V" } : Jvm.MethodName)) ∈ lw_tbl := lw_at lw_m11 77 rfl
theorem q2603 : (Jvm.Cond.instanceMethod ({ cls := "HeirCasesModel", name := "writeNumber", desc := "(I)V" } : Jvm.MethodName)) ∈ lw_all := lw_g (lw_at lw_m11 78 rfl) rfl
theorem q2604 : (Jvm.Cond.code ({ cls := "HeirCasesModel", name := "writeNumber", desc := "(I)V" } : Jvm.MethodName) prog_17_method_104_code (2 : Nat) (Option.none : Option Jvm.ClassFile.FieldType)) ∈ lw_all := lw_g (lw_at lw_m11 79 rfl) rfl
theorem q2605 : (Jvm.Cond.stringRef "HeirCasesModel" (388 : Nat) "(") ∈ lw_tbl := lw_at lw_m11 80 rfl
theorem q2606 : (Jvm.Cond.methodLink "HeirCasesModel" (367 : Nat) ({ cls := "HeirCasesModel", name := "beginOf", desc := "(II)I" } : Jvm.MethodName)) ∈ lw_all := lw_g (lw_at lw_m11 81 rfl) rfl
theorem q2607 : (Jvm.Cond.privateMethod ({ cls := "HeirCasesModel", name := "beginOf", desc := "(II)I" } : Jvm.MethodName)) ∈ lw_tbl := lw_at lw_m11 82 rfl
theorem q2608 : (Jvm.Cond.instanceMethod ({ cls := "HeirCasesModel", name := "beginOf", desc := "(II)I" } : Jvm.MethodName)) ∈ lw_all := lw_g (lw_at lw_m11 83 rfl) rfl
theorem q2609 : (Jvm.Cond.code ({ cls := "HeirCasesModel", name := "beginOf", desc := "(II)I" } : Jvm.MethodName) prog_17_method_106_code (5 : Nat) (Option.some Jvm.ClassFile.FieldType.int)) ∈ lw_all := lw_g (lw_at lw_m11 84 rfl) rfl
theorem q2610 : (Jvm.Cond.stringRef "HeirCasesModel" (390 : Nat) ")") ∈ lw_tbl := lw_at lw_m11 85 rfl
theorem q2611 : (Jvm.Cond.methodLink "HeirCasesModel" (392 : Nat) ({ cls := "HeirCasesModel", name := "writeParts", desc := "(I)V" } : Jvm.MethodName)) ∈ lw_all := lw_g (lw_at lw_m11 86 rfl) rfl
theorem q2612 : (Jvm.Cond.privateMethod ({ cls := "HeirCasesModel", name := "writeParts", desc := "(I)V" } : Jvm.MethodName)) ∈ lw_tbl := lw_at lw_m11 87 rfl
theorem q2613 : (Jvm.Cond.instanceMethod ({ cls := "HeirCasesModel", name := "writeParts", desc := "(I)V" } : Jvm.MethodName)) ∈ lw_all := lw_g (lw_at lw_m11 88 rfl) rfl
theorem q2614 : (Jvm.Cond.code ({ cls := "HeirCasesModel", name := "writeParts", desc := "(I)V" } : Jvm.MethodName) prog_17_method_109_code (4 : Nat) (Option.none : Option Jvm.ClassFile.FieldType)) ∈ lw_all := lw_g (lw_at lw_m11 89 rfl) rfl
theorem q2616 : (Jvm.Cond.instanceMethod ({ cls := "HeirCasesModel", name := "writeVerdicts", desc := "()I" } : Jvm.MethodName)) ∈ lw_all := lw_g (lw_at lw_m11 91 rfl) rfl
theorem q2617 : (Jvm.Cond.selects "HeirCasesModel" ({ cls := "HeirCasesModel", name := "writeVerdicts", desc := "()I" } : Jvm.MethodName) ({ cls := "HeirCasesModel", name := "writeVerdicts", desc := "()I" } : Jvm.MethodName)) ∈ lw_all := lw_g (lw_at lw_m11 92 rfl) rfl
theorem q2618 : (Jvm.Cond.code ({ cls := "HeirCasesModel", name := "writeVerdicts", desc := "()I" } : Jvm.MethodName) prog_17_method_111_code (4 : Nat) (Option.some Jvm.ClassFile.FieldType.int)) ∈ lw_all := lw_g (lw_at lw_m11 93 rfl) rfl
theorem q2620 : (Jvm.Cond.instanceMethod ({ cls := "HeirCasesModel", name := "reportAt", desc := "(I)C" } : Jvm.MethodName)) ∈ lw_all := lw_g (lw_at lw_m11 95 rfl) rfl
theorem q2621 : (Jvm.Cond.selects "HeirCasesModel" ({ cls := "HeirCasesModel", name := "reportAt", desc := "(I)C" } : Jvm.MethodName) ({ cls := "HeirCasesModel", name := "reportAt", desc := "(I)C" } : Jvm.MethodName)) ∈ lw_all := lw_g (lw_at lw_m11 96 rfl) rfl
theorem q2622 : (Jvm.Cond.code ({ cls := "HeirCasesModel", name := "reportAt", desc := "(I)C" } : Jvm.MethodName) prog_17_method_112_code (2 : Nat) (Option.some Jvm.ClassFile.FieldType.char)) ∈ lw_all := lw_g (lw_at lw_m11 97 rfl) rfl
theorem q2624 : (Jvm.Cond.instanceMethod ({ cls := "HeirCasesModel", name := "addRule", desc := "(I)I" } : Jvm.MethodName)) ∈ lw_all := lw_g (lw_at lw_m11 99 rfl) rfl
theorem q2625 : (Jvm.Cond.selects "HeirCasesModel" ({ cls := "HeirCasesModel", name := "addRule", desc := "(I)I" } : Jvm.MethodName) ({ cls := "HeirCasesModel", name := "addRule", desc := "(I)I" } : Jvm.MethodName)) ∈ lw_all := lw_g (lw_at lw_m11 100 rfl) rfl
theorem q2626 : (Jvm.Cond.code ({ cls := "HeirCasesModel", name := "addRule", desc := "(I)I" } : Jvm.MethodName) prog_17_method_115_code (3 : Nat) (Option.some Jvm.ClassFile.FieldType.int)) ∈ lw_all := lw_g (lw_at lw_m11 101 rfl) rfl
theorem q2627 : (Jvm.Cond.methodLink "HeirCasesModel" (395 : Nat) ({ cls := "HeirCasesModel", name := "begins", desc := "()V" } : Jvm.MethodName)) ∈ lw_all := lw_g (lw_at lw_m11 102 rfl) rfl
theorem q2628 : (Jvm.Cond.privateMethod ({ cls := "HeirCasesModel", name := "begins", desc := "()V" } : Jvm.MethodName)) ∈ lw_tbl := lw_at lw_m11 103 rfl
theorem q2629 : (Jvm.Cond.instanceMethod ({ cls := "HeirCasesModel", name := "begins", desc := "()V" } : Jvm.MethodName)) ∈ lw_all := lw_g (lw_at lw_m11 104 rfl) rfl
theorem q2630 : (Jvm.Cond.code ({ cls := "HeirCasesModel", name := "begins", desc := "()V" } : Jvm.MethodName) prog_17_method_113_code (2 : Nat) (Option.none : Option Jvm.ClassFile.FieldType)) ∈ lw_all := lw_g (lw_at lw_m11 105 rfl) rfl
theorem q2631 : (Jvm.Cond.methodLink "HeirCasesModel" (398 : Nat) ({ cls := "HeirCasesModel", name := "remember", desc := "()V" } : Jvm.MethodName)) ∈ lw_all := lw_g (lw_at lw_m11 106 rfl) rfl
theorem q2632 : (Jvm.Cond.privateMethod ({ cls := "HeirCasesModel", name := "remember", desc := "()V" } : Jvm.MethodName)) ∈ lw_tbl := lw_at lw_m11 107 rfl
theorem q2633 : (Jvm.Cond.instanceMethod ({ cls := "HeirCasesModel", name := "remember", desc := "()V" } : Jvm.MethodName)) ∈ lw_all := lw_g (lw_at lw_m11 108 rfl) rfl
theorem q2634 : (Jvm.Cond.code ({ cls := "HeirCasesModel", name := "remember", desc := "()V" } : Jvm.MethodName) prog_17_method_114_code (2 : Nat) (Option.none : Option Jvm.ClassFile.FieldType)) ∈ lw_all := lw_g (lw_at lw_m11 109 rfl) rfl
theorem q2636 : (Jvm.Cond.instanceMethod ({ cls := "HeirCasesModel", name := "dropRule", desc := "(I)I" } : Jvm.MethodName)) ∈ lw_all := lw_g (lw_at lw_m11 111 rfl) rfl
theorem q2637 : (Jvm.Cond.selects "HeirCasesModel" ({ cls := "HeirCasesModel", name := "dropRule", desc := "(I)I" } : Jvm.MethodName) ({ cls := "HeirCasesModel", name := "dropRule", desc := "(I)I" } : Jvm.MethodName)) ∈ lw_all := lw_g (lw_at lw_m11 112 rfl) rfl
theorem q2638 : (Jvm.Cond.code ({ cls := "HeirCasesModel", name := "dropRule", desc := "(I)I" } : Jvm.MethodName) prog_17_method_117_code (3 : Nat) (Option.some Jvm.ClassFile.FieldType.int)) ∈ lw_all := lw_g (lw_at lw_m11 113 rfl) rfl
theorem q2639 : (Jvm.Cond.methodLink "HeirCasesModel" (401 : Nat) ({ cls := "HeirCasesModel", name := "without", desc := "(II)I" } : Jvm.MethodName)) ∈ lw_all := lw_g (lw_at lw_m11 114 rfl) rfl
theorem q2640 : (Jvm.Cond.static ({ cls := "HeirCasesModel", name := "without", desc := "(II)I" } : Jvm.MethodName)) ∈ lw_all := lw_g (lw_at lw_m11 115 rfl) rfl
theorem q2641 : (Jvm.Cond.code ({ cls := "HeirCasesModel", name := "without", desc := "(II)I" } : Jvm.MethodName) prog_17_method_116_code (2 : Nat) (Option.some Jvm.ClassFile.FieldType.int)) ∈ lw_all := lw_g (lw_at lw_m11 116 rfl) rfl
theorem q2643 : (Jvm.Cond.instanceMethod ({ cls := "HeirCasesModel", name := "setOver", desc := "(IIZ)I" } : Jvm.MethodName)) ∈ lw_all := lw_g (lw_at lw_m11 118 rfl) rfl
theorem q2644 : (Jvm.Cond.selects "HeirCasesModel" ({ cls := "HeirCasesModel", name := "setOver", desc := "(IIZ)I" } : Jvm.MethodName) ({ cls := "HeirCasesModel", name := "setOver", desc := "(IIZ)I" } : Jvm.MethodName)) ∈ lw_all := lw_g (lw_at lw_m11 119 rfl) rfl
theorem q2645 : (Jvm.Cond.code ({ cls := "HeirCasesModel", name := "setOver", desc := "(IIZ)I" } : Jvm.MethodName) prog_17_method_118_code (5 : Nat) (Option.some Jvm.ClassFile.FieldType.int)) ∈ lw_all := lw_g (lw_at lw_m11 120 rfl) rfl
theorem q2647 : (Jvm.Cond.instanceMethod ({ cls := "HeirCasesModel", name := "setShare", desc := "(IIII)I" } : Jvm.MethodName)) ∈ lw_all := lw_g (lw_at lw_m11 122 rfl) rfl
theorem q2648 : (Jvm.Cond.selects "HeirCasesModel" ({ cls := "HeirCasesModel", name := "setShare", desc := "(IIII)I" } : Jvm.MethodName) ({ cls := "HeirCasesModel", name := "setShare", desc := "(IIII)I" } : Jvm.MethodName)) ∈ lw_all := lw_g (lw_at lw_m11 123 rfl) rfl
theorem q2649 : (Jvm.Cond.code ({ cls := "HeirCasesModel", name := "setShare", desc := "(IIII)I" } : Jvm.MethodName) prog_17_method_119_code (8 : Nat) (Option.some Jvm.ClassFile.FieldType.int)) ∈ lw_all := lw_g (lw_at lw_m11 124 rfl) rfl
theorem q2650 : (Jvm.Cond.methodLink "HeirCasesModel" (404 : Nat) ({ cls := "HeirCasesModel", name := "sharesOf", desc := "(I)I" } : Jvm.MethodName)) ∈ lw_all := lw_g (lw_at lw_m11 125 rfl) rfl
theorem q2651 : (Jvm.Cond.privateMethod ({ cls := "HeirCasesModel", name := "sharesOf", desc := "(I)I" } : Jvm.MethodName)) ∈ lw_tbl := lw_at lw_m11 126 rfl
theorem q2652 : (Jvm.Cond.instanceMethod ({ cls := "HeirCasesModel", name := "sharesOf", desc := "(I)I" } : Jvm.MethodName)) ∈ lw_all := lw_g (lw_at lw_m11 127 rfl) rfl
theorem q2653 : (Jvm.Cond.code ({ cls := "HeirCasesModel", name := "sharesOf", desc := "(I)I" } : Jvm.MethodName) prog_17_method_32_code (4 : Nat) (Option.some Jvm.ClassFile.FieldType.int)) ∈ lw_all := lw_g (lw_at lw_m11 128 rfl) rfl
theorem q2655 : (Jvm.Cond.instanceMethod ({ cls := "HeirCasesModel", name := "setHeir", desc := "(III)I" } : Jvm.MethodName)) ∈ lw_all := lw_g (lw_at lw_m11 130 rfl) rfl
theorem q2656 : (Jvm.Cond.selects "HeirCasesModel" ({ cls := "HeirCasesModel", name := "setHeir", desc := "(III)I" } : Jvm.MethodName) ({ cls := "HeirCasesModel", name := "setHeir", desc := "(III)I" } : Jvm.MethodName)) ∈ lw_all := lw_g (lw_at lw_m11 131 rfl) rfl
theorem q2657 : (Jvm.Cond.code ({ cls := "HeirCasesModel", name := "setHeir", desc := "(III)I" } : Jvm.MethodName) prog_17_method_121_code (5 : Nat) (Option.some Jvm.ClassFile.FieldType.int)) ∈ lw_all := lw_g (lw_at lw_m11 132 rfl) rfl
theorem q2658 : (Jvm.Cond.methodLink "HeirCasesModel" (407 : Nat) ({ cls := "HeirCasesModel", name := "sets", desc := "(II)I" } : Jvm.MethodName)) ∈ lw_all := lw_g (lw_at lw_m11 133 rfl) rfl
theorem q2659 : (Jvm.Cond.privateMethod ({ cls := "HeirCasesModel", name := "sets", desc := "(II)I" } : Jvm.MethodName)) ∈ lw_tbl := lw_at lw_m11 134 rfl
theorem q2660 : (Jvm.Cond.instanceMethod ({ cls := "HeirCasesModel", name := "sets", desc := "(II)I" } : Jvm.MethodName)) ∈ lw_all := lw_g (lw_at lw_m11 135 rfl) rfl
theorem q2661 : (Jvm.Cond.code ({ cls := "HeirCasesModel", name := "sets", desc := "(II)I" } : Jvm.MethodName) prog_17_method_120_code (4 : Nat) (Option.some Jvm.ClassFile.FieldType.int)) ∈ lw_all := lw_g (lw_at lw_m11 136 rfl) rfl
theorem q2663 : (Jvm.Cond.instanceMethod ({ cls := "HeirCasesModel", name := "setRest", desc := "(I)I" } : Jvm.MethodName)) ∈ lw_all := lw_g (lw_at lw_m11 138 rfl) rfl
theorem q2664 : (Jvm.Cond.selects "HeirCasesModel" ({ cls := "HeirCasesModel", name := "setRest", desc := "(I)I" } : Jvm.MethodName) ({ cls := "HeirCasesModel", name := "setRest", desc := "(I)I" } : Jvm.MethodName)) ∈ lw_all := lw_g (lw_at lw_m11 139 rfl) rfl
theorem q2665 : (Jvm.Cond.code ({ cls := "HeirCasesModel", name := "setRest", desc := "(I)I" } : Jvm.MethodName) prog_17_method_122_code (2 : Nat) (Option.some Jvm.ClassFile.FieldType.int)) ∈ lw_all := lw_g (lw_at lw_m11 140 rfl) rfl
theorem q2667 : (Jvm.Cond.instanceMethod ({ cls := "HeirCasesModel", name := "setEstate", desc := "(I)I" } : Jvm.MethodName)) ∈ lw_all := lw_g (lw_at lw_m11 142 rfl) rfl
theorem q2668 : (Jvm.Cond.selects "HeirCasesModel" ({ cls := "HeirCasesModel", name := "setEstate", desc := "(I)I" } : Jvm.MethodName) ({ cls := "HeirCasesModel", name := "setEstate", desc := "(I)I" } : Jvm.MethodName)) ∈ lw_all := lw_g (lw_at lw_m11 143 rfl) rfl
theorem q2669 : (Jvm.Cond.code ({ cls := "HeirCasesModel", name := "setEstate", desc := "(I)I" } : Jvm.MethodName) prog_17_method_123_code (2 : Nat) (Option.some Jvm.ClassFile.FieldType.int)) ∈ lw_all := lw_g (lw_at lw_m11 144 rfl) rfl
theorem q2671 : (Jvm.Cond.instanceMethod ({ cls := "HeirCasesModel", name := "setValue", desc := "(II)I" } : Jvm.MethodName)) ∈ lw_all := lw_g (lw_at lw_m11 146 rfl) rfl
theorem q2672 : (Jvm.Cond.selects "HeirCasesModel" ({ cls := "HeirCasesModel", name := "setValue", desc := "(II)I" } : Jvm.MethodName) ({ cls := "HeirCasesModel", name := "setValue", desc := "(II)I" } : Jvm.MethodName)) ∈ lw_all := lw_g (lw_at lw_m11 147 rfl) rfl
theorem q2673 : (Jvm.Cond.code ({ cls := "HeirCasesModel", name := "setValue", desc := "(II)I" } : Jvm.MethodName) prog_17_method_124_code (5 : Nat) (Option.some Jvm.ClassFile.FieldType.int)) ∈ lw_all := lw_g (lw_at lw_m11 148 rfl) rfl
theorem q2675 : (Jvm.Cond.instanceMethod ({ cls := "HeirCasesModel", name := "undo", desc := "()I" } : Jvm.MethodName)) ∈ lw_all := lw_g (lw_at lw_m11 150 rfl) rfl
theorem q2676 : (Jvm.Cond.selects "HeirCasesModel" ({ cls := "HeirCasesModel", name := "undo", desc := "()I" } : Jvm.MethodName) ({ cls := "HeirCasesModel", name := "undo", desc := "()I" } : Jvm.MethodName)) ∈ lw_all := lw_g (lw_at lw_m11 151 rfl) rfl
theorem q2677 : (Jvm.Cond.code ({ cls := "HeirCasesModel", name := "undo", desc := "()I" } : Jvm.MethodName) prog_17_method_125_code (2 : Nat) (Option.some Jvm.ClassFile.FieldType.int)) ∈ lw_all := lw_g (lw_at lw_m11 152 rfl) rfl
theorem q2679 : (Jvm.Cond.instanceMethod ({ cls := "HeirCasesModel", name := "saveSnapshot", desc := "(I)Z" } : Jvm.MethodName)) ∈ lw_all := lw_g (lw_at lw_m11 154 rfl) rfl
theorem q2680 : (Jvm.Cond.selects "HeirCasesModel" ({ cls := "HeirCasesModel", name := "saveSnapshot", desc := "(I)Z" } : Jvm.MethodName) ({ cls := "HeirCasesModel", name := "saveSnapshot", desc := "(I)Z" } : Jvm.MethodName)) ∈ lw_all := lw_g (lw_at lw_m11 155 rfl) rfl
theorem q2681 : (Jvm.Cond.code ({ cls := "HeirCasesModel", name := "saveSnapshot", desc := "(I)Z" } : Jvm.MethodName) prog_17_method_126_code (4 : Nat) (Option.some Jvm.ClassFile.FieldType.boolean)) ∈ lw_all := lw_g (lw_at lw_m11 156 rfl) rfl
theorem q2683 : (Jvm.Cond.instanceMethod ({ cls := "HeirCasesModel", name := "restoreSnapshot", desc := "(I)I" } : Jvm.MethodName)) ∈ lw_all := lw_g (lw_at lw_m11 158 rfl) rfl
theorem q2684 : (Jvm.Cond.selects "HeirCasesModel" ({ cls := "HeirCasesModel", name := "restoreSnapshot", desc := "(I)I" } : Jvm.MethodName) ({ cls := "HeirCasesModel", name := "restoreSnapshot", desc := "(I)I" } : Jvm.MethodName)) ∈ lw_all := lw_g (lw_at lw_m11 159 rfl) rfl
theorem q2685 : (Jvm.Cond.code ({ cls := "HeirCasesModel", name := "restoreSnapshot", desc := "(I)I" } : Jvm.MethodName) prog_17_method_127_code (4 : Nat) (Option.some Jvm.ClassFile.FieldType.int)) ∈ lw_all := lw_g (lw_at lw_m11 160 rfl) rfl
theorem q2687 : (Jvm.Cond.instanceMethod ({ cls := "HeirCasesModel", name := "checksum", desc := "()J" } : Jvm.MethodName)) ∈ lw_all := lw_g (lw_at lw_m11 162 rfl) rfl
theorem q2688 : (Jvm.Cond.selects "HeirCasesModel" ({ cls := "HeirCasesModel", name := "checksum", desc := "()J" } : Jvm.MethodName) ({ cls := "HeirCasesModel", name := "checksum", desc := "()J" } : Jvm.MethodName)) ∈ lw_all := lw_g (lw_at lw_m11 163 rfl) rfl
theorem q2689 : (Jvm.Cond.code ({ cls := "HeirCasesModel", name := "checksum", desc := "()J" } : Jvm.MethodName) prog_17_method_128_code (5 : Nat) (Option.some Jvm.ClassFile.FieldType.long)) ∈ lw_all := lw_g (lw_at lw_m11 164 rfl) rfl
theorem q2690 : (Jvm.Cond.constantLong "HeirCasesModel" (410 : Nat) (31 : Int64)) ∈ lw_all := lw_g (lw_at lw_m11 165 rfl) rfl
theorem q2731 : (Jvm.Cond.castable "HeirCasesModel" "java/lang/Object") ∈ lw_tbl := lw_at lw_m11 206 rfl
theorem in_X10 : ∀ w ∈ wsX100, w ∈ lw_all := lw_in wsX100 [2242, 2244, 2246, 2248, 2250, 2252, 2254, 2256, 2258, 2260, 2262, 2264, 2266, 2268, 2270, 2272, 2274, 2276, 2278, 2280, 2282, 2284, 2286, 2288, 2290, 2292, 2294] (by decide +kernel) (by decide +kernel)
