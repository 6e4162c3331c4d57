/-! HeirCases -/
set_option maxRecDepth 100000
def RX1 : String := "HeirCases"
def TX1 : u_T := fun k => match k with
  | 0 => ("HeirCases", "will", "LHeirCases$Will;", false)
  | 1 => ("HeirCases", "past", "Ljava/util/ArrayDeque;", true)
  | 2 => ("HeirCases", "slots", "[LHeirCases$Will;", true)
  | 3 => ("HeirCases", "buffer", "Ljava/lang/StringBuilder;", true)
  | _ => ("HeirCases", "report", "Ljava/lang/StringBuilder;", false)
def tyX1 : Nat → FieldType := fun k => match k with
  | 0 => .object "HeirCases$Will"
  | 1 => .object "java/util/ArrayDeque"
  | 2 => .array (.object "HeirCases$Will")
  | 3 => .object "java/lang/StringBuilder"
  | _ => .object "java/lang/StringBuilder"
abbrev wsX10 : List Cond := u_ws RX1 TX1 5
theorem nmX1 : ∀ a, a < 5 → ∀ b, b < 5 → a ≠ b → (TX1 a).2.1 ≠ (TX1 b).2.1 := by decide +kernel
theorem tyX1_ok : ∀ k, k < 5 → parseFieldDescriptor (TX1 k).2.2.1 = some (tyX1 k) := by decide +kernel
abbrev cX1_init : ByteArray := prog_1_method_5_code
def yX1_init : MethodName := ⟨RX1, "<init>", "()V"⟩
def dkwX1_init_2 : List UInt8 := [182, 0, 46, 177]
abbrev dktX1_init_2 : List UInt8 := dkwX1_init_2 ++ []
def dkwX1_init_1 : List UInt8 := [187, 0, 36, 89, 183, 0, 38, 181, 0, 39, 42, 187, 0, 36, 89, 183, 0, 38, 181, 0, 43, 42, 3]
abbrev dktX1_init_1 : List UInt8 := dkwX1_init_1 ++ dktX1_init_2
def dkwX1_init_0 : List UInt8 := [42, 183, 0, 18, 42, 187, 0, 21, 89, 183, 0, 23, 181, 0, 24, 42, 5, 189, 0, 30, 181, 0, 32, 42]
abbrev dktX1_init_0 : List UInt8 := dkwX1_init_0 ++ dktX1_init_1
theorem dksX1_init_0 : cX1_init.data.toList.drop 0 = dktX1_init_0 := by decide +kernel
theorem dksX1_init_1 : cX1_init.data.toList.drop 24 = dktX1_init_1 := dk_seg dksX1_init_0 24 rfl rfl
theorem dksX1_init_2 : cX1_init.data.toList.drop 47 = dktX1_init_2 := dk_seg dksX1_init_1 23 rfl rfl
theorem dX1_init_0 : decode cX1_init 0 = .ok (.aload_n 0, 1) := dk_42 (dk_at dksX1_init_0 0 rfl rfl)
theorem dX1_init_1 : decode cX1_init 1 = .ok (.invokespecial 18, 3) := dk_183 0 18 (dk_at dksX1_init_0 1 rfl rfl)
theorem dX1_init_4 : decode cX1_init 4 = .ok (.aload_n 0, 1) := dk_42 (dk_at dksX1_init_0 4 rfl rfl)
theorem dX1_init_5 : decode cX1_init 5 = .ok (.new 21, 3) := dk_187 0 21 (dk_at dksX1_init_0 5 rfl rfl)
theorem dX1_init_8 : decode cX1_init 8 = .ok (.dup, 1) := dk_89 (dk_at dksX1_init_0 8 rfl rfl)
theorem dX1_init_9 : decode cX1_init 9 = .ok (.invokespecial 23, 3) := dk_183 0 23 (dk_at dksX1_init_0 9 rfl rfl)
theorem dX1_init_12 : decode cX1_init 12 = .ok (.putfield 24, 3) := dk_181 0 24 (dk_at dksX1_init_0 12 rfl rfl)
theorem dX1_init_15 : decode cX1_init 15 = .ok (.aload_n 0, 1) := dk_42 (dk_at dksX1_init_0 15 rfl rfl)
theorem dX1_init_16 : decode cX1_init 16 = .ok (.iconst 2, 1) := dk_5 (dk_at dksX1_init_0 16 rfl rfl)
theorem dX1_init_17 : decode cX1_init 17 = .ok (.anewarray 30, 3) := dk_189 0 30 (dk_at dksX1_init_0 17 rfl rfl)
theorem dX1_init_20 : decode cX1_init 20 = .ok (.putfield 32, 3) := dk_181 0 32 (dk_at dksX1_init_0 20 rfl rfl)
theorem dX1_init_23 : decode cX1_init 23 = .ok (.aload_n 0, 1) := dk_42 (dk_at dksX1_init_0 23 rfl rfl)
theorem dX1_init_24 : decode cX1_init 24 = .ok (.new 36, 3) := dk_187 0 36 (dk_at dksX1_init_1 0 rfl rfl)
theorem dX1_init_27 : decode cX1_init 27 = .ok (.dup, 1) := dk_89 (dk_at dksX1_init_1 3 rfl rfl)
theorem dX1_init_28 : decode cX1_init 28 = .ok (.invokespecial 38, 3) := dk_183 0 38 (dk_at dksX1_init_1 4 rfl rfl)
theorem dX1_init_31 : decode cX1_init 31 = .ok (.putfield 39, 3) := dk_181 0 39 (dk_at dksX1_init_1 7 rfl rfl)
theorem dX1_init_34 : decode cX1_init 34 = .ok (.aload_n 0, 1) := dk_42 (dk_at dksX1_init_1 10 rfl rfl)
theorem dX1_init_35 : decode cX1_init 35 = .ok (.new 36, 3) := dk_187 0 36 (dk_at dksX1_init_1 11 rfl rfl)
theorem dX1_init_38 : decode cX1_init 38 = .ok (.dup, 1) := dk_89 (dk_at dksX1_init_1 14 rfl rfl)
theorem dX1_init_39 : decode cX1_init 39 = .ok (.invokespecial 38, 3) := dk_183 0 38 (dk_at dksX1_init_1 15 rfl rfl)
theorem dX1_init_42 : decode cX1_init 42 = .ok (.putfield 43, 3) := dk_181 0 43 (dk_at dksX1_init_1 18 rfl rfl)
theorem dX1_init_45 : decode cX1_init 45 = .ok (.aload_n 0, 1) := dk_42 (dk_at dksX1_init_1 21 rfl rfl)
theorem dX1_init_46 : decode cX1_init 46 = .ok (.iconst 0, 1) := dk_3 (dk_at dksX1_init_1 22 rfl rfl)
theorem dX1_init_47 : decode cX1_init 47 = .ok (.invokevirtual 46, 3) := dk_182 0 46 (dk_at dksX1_init_2 0 rfl rfl)
theorem dX1_init_50 : decode cX1_init 50 = .ok (.return_, 1) := dk_177 (dk_at dksX1_init_2 3 rfl rfl)
abbrev cX1_start : ByteArray := prog_1_method_6_code
def yX1_start : MethodName := ⟨RX1, "start", "(I)V"⟩
def dkwX1_start_1 : List UInt8 := [167, 0, 14, 78, 187, 0, 75, 89, 18, 77, 183, 0, 79, 191, 177]
abbrev dktX1_start_1 : List UInt8 := dkwX1_start_1 ++ []
def dkwX1_start_0 : List UInt8 := [27, 184, 0, 50, 77, 42, 187, 0, 54, 89, 44, 44, 182, 0, 56, 183, 0, 62, 182, 0, 65, 182, 0, 69]
abbrev dktX1_start_0 : List UInt8 := dkwX1_start_0 ++ dktX1_start_1
theorem dksX1_start_0 : cX1_start.data.toList.drop 0 = dktX1_start_0 := by decide +kernel
theorem dksX1_start_1 : cX1_start.data.toList.drop 24 = dktX1_start_1 := dk_seg dksX1_start_0 24 rfl rfl
theorem dX1_start_0 : decode cX1_start 0 = .ok (.iload_n 1, 1) := dk_27 (dk_at dksX1_start_0 0 rfl rfl)
theorem dX1_start_1 : decode cX1_start 1 = .ok (.invokestatic 50, 3) := dk_184 0 50 (dk_at dksX1_start_0 1 rfl rfl)
theorem dX1_start_4 : decode cX1_start 4 = .ok (.astore_n 2, 1) := dk_77 (dk_at dksX1_start_0 4 rfl rfl)
theorem dX1_start_5 : decode cX1_start 5 = .ok (.aload_n 0, 1) := dk_42 (dk_at dksX1_start_0 5 rfl rfl)
theorem dX1_start_6 : decode cX1_start 6 = .ok (.new 54, 3) := dk_187 0 54 (dk_at dksX1_start_0 6 rfl rfl)
theorem dX1_start_9 : decode cX1_start 9 = .ok (.dup, 1) := dk_89 (dk_at dksX1_start_0 9 rfl rfl)
theorem dX1_start_10 : decode cX1_start 10 = .ok (.aload_n 2, 1) := dk_44 (dk_at dksX1_start_0 10 rfl rfl)
theorem dX1_start_11 : decode cX1_start 11 = .ok (.aload_n 2, 1) := dk_44 (dk_at dksX1_start_0 11 rfl rfl)
theorem dX1_start_12 : decode cX1_start 12 = .ok (.invokevirtual 56, 3) := dk_182 0 56 (dk_at dksX1_start_0 12 rfl rfl)
theorem dX1_start_15 : decode cX1_start 15 = .ok (.invokespecial 62, 3) := dk_183 0 62 (dk_at dksX1_start_0 15 rfl rfl)
theorem dX1_start_18 : decode cX1_start 18 = .ok (.invokevirtual 65, 3) := dk_182 0 65 (dk_at dksX1_start_0 18 rfl rfl)
theorem dX1_start_21 : decode cX1_start 21 = .ok (.invokevirtual 69, 3) := dk_182 0 69 (dk_at dksX1_start_0 21 rfl rfl)
theorem dX1_start_24 : decode cX1_start 24 = .ok (.goto 14, 3) := dk_167 0 14 (dk_at dksX1_start_1 0 rfl rfl)
theorem dX1_start_27 : decode cX1_start 27 = .ok (.astore_n 3, 1) := dk_78 (dk_at dksX1_start_1 3 rfl rfl)
theorem dX1_start_28 : decode cX1_start 28 = .ok (.new 75, 3) := dk_187 0 75 (dk_at dksX1_start_1 4 rfl rfl)
theorem dX1_start_31 : decode cX1_start 31 = .ok (.dup, 1) := dk_89 (dk_at dksX1_start_1 7 rfl rfl)
theorem dX1_start_32 : decode cX1_start 32 = .ok (.ldc 77, 2) := dk_18 77 (dk_at dksX1_start_1 8 rfl rfl)
theorem dX1_start_34 : decode cX1_start 34 = .ok (.invokespecial 79, 3) := dk_183 0 79 (dk_at dksX1_start_1 10 rfl rfl)
theorem dX1_start_37 : decode cX1_start 37 = .ok (.athrow, 1) := dk_191 (dk_at dksX1_start_1 13 rfl rfl)
theorem dX1_start_38 : decode cX1_start 38 = .ok (.return_, 1) := dk_177 (dk_at dksX1_start_1 14 rfl rfl)
abbrev cX1_builtIn : ByteArray := prog_1_method_4_code
def yX1_builtIn : MethodName := ⟨RX1, "builtIn", "(I)Ljava/lang/String;"⟩
def dkwX1_builtIn_2 : List UInt8 := [18, 12, 167, 0, 10, 18, 14, 167, 0, 5, 18, 16, 176]
abbrev dktX1_builtIn_2 : List UInt8 := dkwX1_builtIn_2 ++ []
def dkwX1_builtIn_1 : List UInt8 := [171, 0, 0, 0, 0, 0, 37, 0, 0, 0, 2, 0, 0, 0, 0, 0, 0, 0, 27, 0, 0, 0, 1, 0, 0, 0, 32]
abbrev dktX1_builtIn_1 : List UInt8 := dkwX1_builtIn_1 ++ dktX1_builtIn_2
def dkwX1_builtIn_0 : List UInt8 := [26]
abbrev dktX1_builtIn_0 : List UInt8 := dkwX1_builtIn_0 ++ dktX1_builtIn_1
theorem dksX1_builtIn_0 : cX1_builtIn.data.toList.drop 0 = dktX1_builtIn_0 := by decide +kernel
theorem dksX1_builtIn_1 : cX1_builtIn.data.toList.drop 1 = dktX1_builtIn_1 := dk_seg dksX1_builtIn_0 1 rfl rfl
theorem dksX1_builtIn_2 : cX1_builtIn.data.toList.drop 28 = dktX1_builtIn_2 := dk_seg dksX1_builtIn_1 27 rfl rfl
theorem dX1_builtIn_0 : decode cX1_builtIn 0 = .ok (.iload_n 0, 1) := dk_26 (dk_at dksX1_builtIn_0 0 rfl rfl)
theorem dX1_builtIn_1 : decode cX1_builtIn 1 = .ok (.lookupswitch 37 #[(0, 27), (1, 32)], 27) := by decide +kernel
theorem dX1_builtIn_28 : decode cX1_builtIn 28 = .ok (.ldc 12, 2) := dk_18 12 (dk_at dksX1_builtIn_2 0 rfl rfl)
theorem dX1_builtIn_30 : decode cX1_builtIn 30 = .ok (.goto 10, 3) := dk_167 0 10 (dk_at dksX1_builtIn_2 2 rfl rfl)
theorem dX1_builtIn_33 : decode cX1_builtIn 33 = .ok (.ldc 14, 2) := dk_18 14 (dk_at dksX1_builtIn_2 5 rfl rfl)
theorem dX1_builtIn_35 : decode cX1_builtIn 35 = .ok (.goto 5, 3) := dk_167 0 5 (dk_at dksX1_builtIn_2 7 rfl rfl)
theorem dX1_builtIn_38 : decode cX1_builtIn 38 = .ok (.ldc 16, 2) := dk_18 16 (dk_at dksX1_builtIn_2 10 rfl rfl)
theorem dX1_builtIn_40 : decode cX1_builtIn 40 = .ok (.areturn, 1) := dk_176 (dk_at dksX1_builtIn_2 12 rfl rfl)
abbrev cX1_not : ByteArray := prog_1_method_2_code
def yX1_not : MethodName := ⟨RX1, "not", "(LHeirCases$Guard;)LHeirCases$Guard;"⟩
def dkwX1_not_0 : List UInt8 := [187, 0, 7, 89, 42, 183, 0, 9, 176]
abbrev dktX1_not_0 : List UInt8 := dkwX1_not_0 ++ []
theorem dksX1_not_0 : cX1_not.data.toList.drop 0 = dktX1_not_0 := by decide +kernel
theorem dX1_not_0 : decode cX1_not 0 = .ok (.new 7, 3) := dk_187 0 7 (dk_at dksX1_not_0 0 rfl rfl)
theorem dX1_not_3 : decode cX1_not 3 = .ok (.dup, 1) := dk_89 (dk_at dksX1_not_0 3 rfl rfl)
theorem dX1_not_4 : decode cX1_not 4 = .ok (.aload_n 0, 1) := dk_42 (dk_at dksX1_not_0 4 rfl rfl)
theorem dX1_not_5 : decode cX1_not 5 = .ok (.invokespecial 9, 3) := dk_183 0 9 (dk_at dksX1_not_0 5 rfl rfl)
theorem dX1_not_8 : decode cX1_not 8 = .ok (.areturn, 1) := dk_176 (dk_at dksX1_not_0 8 rfl rfl)
abbrev cX1_always : ByteArray := prog_1_method_1_code
def yX1_always : MethodName := ⟨RX1, "always", "()LHeirCases$Guard;"⟩
def dkwX1_always_0 : List UInt8 := [187, 0, 1, 89, 183, 0, 3, 176]
abbrev dktX1_always_0 : List UInt8 := dkwX1_always_0 ++ []
theorem dksX1_always_0 : cX1_always.data.toList.drop 0 = dktX1_always_0 := by decide +kernel
theorem dX1_always_0 : decode cX1_always 0 = .ok (.new 1, 3) := dk_187 0 1 (dk_at dksX1_always_0 0 rfl rfl)
theorem dX1_always_3 : decode cX1_always 3 = .ok (.dup, 1) := dk_89 (dk_at dksX1_always_0 3 rfl rfl)
theorem dX1_always_4 : decode cX1_always 4 = .ok (.invokespecial 3, 3) := dk_183 0 3 (dk_at dksX1_always_0 4 rfl rfl)
theorem dX1_always_7 : decode cX1_always 7 = .ok (.areturn, 1) := dk_176 (dk_at dksX1_always_0 7 rfl rfl)
abbrev cX1_replaceAll : ByteArray := prog_1_method_7_code
def yX1_replaceAll : MethodName := ⟨RX1, "replaceAll", "(LHeirCases$Will;)V"⟩
def dkwX1_replaceAll_1 : List UInt8 := [1, 83, 177]
abbrev dktX1_replaceAll_1 : List UInt8 := dkwX1_replaceAll_1 ++ []
def dkwX1_replaceAll_0 : List UInt8 := [42, 43, 181, 0, 82, 42, 180, 0, 24, 182, 0, 86, 42, 180, 0, 32, 3, 1, 83, 42, 180, 0, 32, 4]
abbrev dktX1_replaceAll_0 : List UInt8 := dkwX1_replaceAll_0 ++ dktX1_replaceAll_1
theorem dksX1_replaceAll_0 : cX1_replaceAll.data.toList.drop 0 = dktX1_replaceAll_0 := by decide +kernel
theorem dksX1_replaceAll_1 : cX1_replaceAll.data.toList.drop 24 = dktX1_replaceAll_1 := dk_seg dksX1_replaceAll_0 24 rfl rfl
theorem dX1_replaceAll_0 : decode cX1_replaceAll 0 = .ok (.aload_n 0, 1) := dk_42 (dk_at dksX1_replaceAll_0 0 rfl rfl)
theorem dX1_replaceAll_1 : decode cX1_replaceAll 1 = .ok (.aload_n 1, 1) := dk_43 (dk_at dksX1_replaceAll_0 1 rfl rfl)
theorem dX1_replaceAll_2 : decode cX1_replaceAll 2 = .ok (.putfield 82, 3) := dk_181 0 82 (dk_at dksX1_replaceAll_0 2 rfl rfl)
theorem dX1_replaceAll_5 : decode cX1_replaceAll 5 = .ok (.aload_n 0, 1) := dk_42 (dk_at dksX1_replaceAll_0 5 rfl rfl)
theorem dX1_replaceAll_6 : decode cX1_replaceAll 6 = .ok (.getfield 24, 3) := dk_180 0 24 (dk_at dksX1_replaceAll_0 6 rfl rfl)
theorem dX1_replaceAll_9 : decode cX1_replaceAll 9 = .ok (.invokevirtual 86, 3) := dk_182 0 86 (dk_at dksX1_replaceAll_0 9 rfl rfl)
theorem dX1_replaceAll_12 : decode cX1_replaceAll 12 = .ok (.aload_n 0, 1) := dk_42 (dk_at dksX1_replaceAll_0 12 rfl rfl)
theorem dX1_replaceAll_13 : decode cX1_replaceAll 13 = .ok (.getfield 32, 3) := dk_180 0 32 (dk_at dksX1_replaceAll_0 13 rfl rfl)
theorem dX1_replaceAll_16 : decode cX1_replaceAll 16 = .ok (.iconst 0, 1) := dk_3 (dk_at dksX1_replaceAll_0 16 rfl rfl)
theorem dX1_replaceAll_17 : decode cX1_replaceAll 17 = .ok (.aconst_null, 1) := dk_1 (dk_at dksX1_replaceAll_0 17 rfl rfl)
theorem dX1_replaceAll_18 : decode cX1_replaceAll 18 = .ok (.aastore, 1) := dk_83 (dk_at dksX1_replaceAll_0 18 rfl rfl)
theorem dX1_replaceAll_19 : decode cX1_replaceAll 19 = .ok (.aload_n 0, 1) := dk_42 (dk_at dksX1_replaceAll_0 19 rfl rfl)
theorem dX1_replaceAll_20 : decode cX1_replaceAll 20 = .ok (.getfield 32, 3) := dk_180 0 32 (dk_at dksX1_replaceAll_0 20 rfl rfl)
theorem dX1_replaceAll_23 : decode cX1_replaceAll 23 = .ok (.iconst 1, 1) := dk_4 (dk_at dksX1_replaceAll_0 23 rfl rfl)
theorem dX1_replaceAll_24 : decode cX1_replaceAll 24 = .ok (.aconst_null, 1) := dk_1 (dk_at dksX1_replaceAll_1 0 rfl rfl)
theorem dX1_replaceAll_25 : decode cX1_replaceAll 25 = .ok (.aastore, 1) := dk_83 (dk_at dksX1_replaceAll_1 1 rfl rfl)
theorem dX1_replaceAll_26 : decode cX1_replaceAll 26 = .ok (.return_, 1) := dk_177 (dk_at dksX1_replaceAll_1 2 rfl rfl)
abbrev cX1_append : ByteArray := prog_1_method_16_code
def yX1_append : MethodName := ⟨RX1, "append", "(IIIII)I"⟩
def dkwX1_append_2 : List UInt8 := [180, 0, 39, 182, 0, 143, 172]
abbrev dktX1_append_2 : List UInt8 := dkwX1_append_2 ++ []
def dkwX1_append_1 : List UInt8 := [27, 79, 89, 4, 28, 79, 89, 5, 29, 79, 89, 6, 21, 4, 79, 89, 7, 21, 5, 79, 182, 0, 144, 42]
abbrev dktX1_append_1 : List UInt8 := dkwX1_append_1 ++ dktX1_append_2
def dkwX1_append_0 : List UInt8 := [42, 180, 0, 39, 182, 0, 143, 16, 20, 96, 17, 2, 188, 164, 0, 5, 2, 172, 42, 8, 188, 10, 89, 3]
abbrev dktX1_append_0 : List UInt8 := dkwX1_append_0 ++ dktX1_append_1
theorem dksX1_append_0 : cX1_append.data.toList.drop 0 = dktX1_append_0 := by decide +kernel
theorem dksX1_append_1 : cX1_append.data.toList.drop 24 = dktX1_append_1 := dk_seg dksX1_append_0 24 rfl rfl
theorem dksX1_append_2 : cX1_append.data.toList.drop 48 = dktX1_append_2 := dk_seg dksX1_append_1 24 rfl rfl
theorem dX1_append_0 : decode cX1_append 0 = .ok (.aload_n 0, 1) := dk_42 (dk_at dksX1_append_0 0 rfl rfl)
theorem dX1_append_1 : decode cX1_append 1 = .ok (.getfield 39, 3) := dk_180 0 39 (dk_at dksX1_append_0 1 rfl rfl)
theorem dX1_append_4 : decode cX1_append 4 = .ok (.invokevirtual 143, 3) := dk_182 0 143 (dk_at dksX1_append_0 4 rfl rfl)
theorem dX1_append_7 : decode cX1_append 7 = .ok (.bipush 20, 2) := dk_16 20 (dk_at dksX1_append_0 7 rfl rfl)
theorem dX1_append_9 : decode cX1_append 9 = .ok (.iadd, 1) := dk_96 (dk_at dksX1_append_0 9 rfl rfl)
theorem dX1_append_10 : decode cX1_append 10 = .ok (.sipush 700, 3) := dk_17 2 188 (dk_at dksX1_append_0 10 rfl rfl)
theorem dX1_append_13 : decode cX1_append 13 = .ok (.if_icmp .le 5, 3) := dk_164 0 5 (dk_at dksX1_append_0 13 rfl rfl)
theorem dX1_append_16 : decode cX1_append 16 = .ok (.iconst (-1), 1) := dk_2 (dk_at dksX1_append_0 16 rfl rfl)
theorem dX1_append_17 : decode cX1_append 17 = .ok (.ireturn, 1) := dk_172 (dk_at dksX1_append_0 17 rfl rfl)
theorem dX1_append_18 : decode cX1_append 18 = .ok (.aload_n 0, 1) := dk_42 (dk_at dksX1_append_0 18 rfl rfl)
theorem dX1_append_19 : decode cX1_append 19 = .ok (.iconst 5, 1) := dk_8 (dk_at dksX1_append_0 19 rfl rfl)
theorem dX1_append_20 : decode cX1_append 20 = .ok (.newarray .int, 2) := dk_188_10 (dk_at dksX1_append_0 20 rfl rfl)
theorem dX1_append_22 : decode cX1_append 22 = .ok (.dup, 1) := dk_89 (dk_at dksX1_append_0 22 rfl rfl)
theorem dX1_append_23 : decode cX1_append 23 = .ok (.iconst 0, 1) := dk_3 (dk_at dksX1_append_0 23 rfl rfl)
theorem dX1_append_24 : decode cX1_append 24 = .ok (.iload_n 1, 1) := dk_27 (dk_at dksX1_append_1 0 rfl rfl)
theorem dX1_append_25 : decode cX1_append 25 = .ok (.iastore, 1) := dk_79 (dk_at dksX1_append_1 1 rfl rfl)
theorem dX1_append_26 : decode cX1_append 26 = .ok (.dup, 1) := dk_89 (dk_at dksX1_append_1 2 rfl rfl)
theorem dX1_append_27 : decode cX1_append 27 = .ok (.iconst 1, 1) := dk_4 (dk_at dksX1_append_1 3 rfl rfl)
theorem dX1_append_28 : decode cX1_append 28 = .ok (.iload_n 2, 1) := dk_28 (dk_at dksX1_append_1 4 rfl rfl)
theorem dX1_append_29 : decode cX1_append 29 = .ok (.iastore, 1) := dk_79 (dk_at dksX1_append_1 5 rfl rfl)
theorem dX1_append_30 : decode cX1_append 30 = .ok (.dup, 1) := dk_89 (dk_at dksX1_append_1 6 rfl rfl)
theorem dX1_append_31 : decode cX1_append 31 = .ok (.iconst 2, 1) := dk_5 (dk_at dksX1_append_1 7 rfl rfl)
theorem dX1_append_32 : decode cX1_append 32 = .ok (.iload_n 3, 1) := dk_29 (dk_at dksX1_append_1 8 rfl rfl)
theorem dX1_append_33 : decode cX1_append 33 = .ok (.iastore, 1) := dk_79 (dk_at dksX1_append_1 9 rfl rfl)
theorem dX1_append_34 : decode cX1_append 34 = .ok (.dup, 1) := dk_89 (dk_at dksX1_append_1 10 rfl rfl)
theorem dX1_append_35 : decode cX1_append 35 = .ok (.iconst 3, 1) := dk_6 (dk_at dksX1_append_1 11 rfl rfl)
theorem dX1_append_36 : decode cX1_append 36 = .ok (.iload 4, 2) := dk_21 4 (dk_at dksX1_append_1 12 rfl rfl)
theorem dX1_append_38 : decode cX1_append 38 = .ok (.iastore, 1) := dk_79 (dk_at dksX1_append_1 14 rfl rfl)
theorem dX1_append_39 : decode cX1_append 39 = .ok (.dup, 1) := dk_89 (dk_at dksX1_append_1 15 rfl rfl)
theorem dX1_append_40 : decode cX1_append 40 = .ok (.iconst 4, 1) := dk_7 (dk_at dksX1_append_1 16 rfl rfl)
theorem dX1_append_41 : decode cX1_append 41 = .ok (.iload 5, 2) := dk_21 5 (dk_at dksX1_append_1 17 rfl rfl)
theorem dX1_append_43 : decode cX1_append 43 = .ok (.iastore, 1) := dk_79 (dk_at dksX1_append_1 19 rfl rfl)
theorem dX1_append_44 : decode cX1_append 44 = .ok (.invokevirtual 144, 3) := dk_182 0 144 (dk_at dksX1_append_1 20 rfl rfl)
theorem dX1_append_47 : decode cX1_append 47 = .ok (.aload_n 0, 1) := dk_42 (dk_at dksX1_append_1 23 rfl rfl)
theorem dX1_append_48 : decode cX1_append 48 = .ok (.getfield 39, 3) := dk_180 0 39 (dk_at dksX1_append_2 0 rfl rfl)
theorem dX1_append_51 : decode cX1_append 51 = .ok (.invokevirtual 143, 3) := dk_182 0 143 (dk_at dksX1_append_2 3 rfl rfl)
theorem dX1_append_54 : decode cX1_append 54 = .ok (.ireturn, 1) := dk_172 (dk_at dksX1_append_2 6 rfl rfl)
abbrev cX1_appendWords : ByteArray := prog_1_method_17_code
def yX1_appendWords : MethodName := ⟨RX1, "appendWords", "([I)V"⟩
def dkwX1_appendWords_1 : List UInt8 := [17, 0, 255, 126, 146, 182, 0, 148, 87, 132, 3, 248, 167, 255, 231, 132, 2, 1, 167, 255, 216, 177]
abbrev dktX1_appendWords_1 : List UInt8 := dkwX1_appendWords_1 ++ []
def dkwX1_appendWords_0 : List UInt8 := [3, 61, 28, 43, 190, 162, 0, 40, 16, 24, 62, 29, 155, 0, 27, 42, 180, 0, 39, 43, 28, 46, 29, 124]
abbrev dktX1_appendWords_0 : List UInt8 := dkwX1_appendWords_0 ++ dktX1_appendWords_1
theorem dksX1_appendWords_0 : cX1_appendWords.data.toList.drop 0 = dktX1_appendWords_0 := by decide +kernel
theorem dksX1_appendWords_1 : cX1_appendWords.data.toList.drop 24 = dktX1_appendWords_1 := dk_seg dksX1_appendWords_0 24 rfl rfl
theorem dX1_appendWords_0 : decode cX1_appendWords 0 = .ok (.iconst 0, 1) := dk_3 (dk_at dksX1_appendWords_0 0 rfl rfl)
theorem dX1_appendWords_1 : decode cX1_appendWords 1 = .ok (.istore_n 2, 1) := dk_61 (dk_at dksX1_appendWords_0 1 rfl rfl)
theorem dX1_appendWords_2 : decode cX1_appendWords 2 = .ok (.iload_n 2, 1) := dk_28 (dk_at dksX1_appendWords_0 2 rfl rfl)
theorem dX1_appendWords_3 : decode cX1_appendWords 3 = .ok (.aload_n 1, 1) := dk_43 (dk_at dksX1_appendWords_0 3 rfl rfl)
theorem dX1_appendWords_4 : decode cX1_appendWords 4 = .ok (.arraylength, 1) := dk_190 (dk_at dksX1_appendWords_0 4 rfl rfl)
theorem dX1_appendWords_5 : decode cX1_appendWords 5 = .ok (.if_icmp .ge 40, 3) := dk_162 0 40 (dk_at dksX1_appendWords_0 5 rfl rfl)
theorem dX1_appendWords_8 : decode cX1_appendWords 8 = .ok (.bipush 24, 2) := dk_16 24 (dk_at dksX1_appendWords_0 8 rfl rfl)
theorem dX1_appendWords_10 : decode cX1_appendWords 10 = .ok (.istore_n 3, 1) := dk_62 (dk_at dksX1_appendWords_0 10 rfl rfl)
theorem dX1_appendWords_11 : decode cX1_appendWords 11 = .ok (.iload_n 3, 1) := dk_29 (dk_at dksX1_appendWords_0 11 rfl rfl)
theorem dX1_appendWords_12 : decode cX1_appendWords 12 = .ok (.ifCond .lt 27, 3) := dk_155 0 27 (dk_at dksX1_appendWords_0 12 rfl rfl)
theorem dX1_appendWords_15 : decode cX1_appendWords 15 = .ok (.aload_n 0, 1) := dk_42 (dk_at dksX1_appendWords_0 15 rfl rfl)
theorem dX1_appendWords_16 : decode cX1_appendWords 16 = .ok (.getfield 39, 3) := dk_180 0 39 (dk_at dksX1_appendWords_0 16 rfl rfl)
theorem dX1_appendWords_19 : decode cX1_appendWords 19 = .ok (.aload_n 1, 1) := dk_43 (dk_at dksX1_appendWords_0 19 rfl rfl)
theorem dX1_appendWords_20 : decode cX1_appendWords 20 = .ok (.iload_n 2, 1) := dk_28 (dk_at dksX1_appendWords_0 20 rfl rfl)
theorem dX1_appendWords_21 : decode cX1_appendWords 21 = .ok (.iaload, 1) := dk_46 (dk_at dksX1_appendWords_0 21 rfl rfl)
theorem dX1_appendWords_22 : decode cX1_appendWords 22 = .ok (.iload_n 3, 1) := dk_29 (dk_at dksX1_appendWords_0 22 rfl rfl)
theorem dX1_appendWords_23 : decode cX1_appendWords 23 = .ok (.iushr, 1) := dk_124 (dk_at dksX1_appendWords_0 23 rfl rfl)
theorem dX1_appendWords_24 : decode cX1_appendWords 24 = .ok (.sipush 255, 3) := dk_17 0 255 (dk_at dksX1_appendWords_1 0 rfl rfl)
theorem dX1_appendWords_27 : decode cX1_appendWords 27 = .ok (.iand, 1) := dk_126 (dk_at dksX1_appendWords_1 3 rfl rfl)
theorem dX1_appendWords_28 : decode cX1_appendWords 28 = .ok (.i2c, 1) := dk_146 (dk_at dksX1_appendWords_1 4 rfl rfl)
theorem dX1_appendWords_29 : decode cX1_appendWords 29 = .ok (.invokevirtual 148, 3) := dk_182 0 148 (dk_at dksX1_appendWords_1 5 rfl rfl)
theorem dX1_appendWords_32 : decode cX1_appendWords 32 = .ok (.pop, 1) := dk_87 (dk_at dksX1_appendWords_1 8 rfl rfl)
theorem dX1_appendWords_33 : decode cX1_appendWords 33 = .ok (.iinc 3 (-8), 3) := dk_132 3 248 (dk_at dksX1_appendWords_1 9 rfl rfl)
theorem dX1_appendWords_36 : decode cX1_appendWords 36 = .ok (.goto (-25), 3) := dk_167 255 231 (dk_at dksX1_appendWords_1 12 rfl rfl)
theorem dX1_appendWords_39 : decode cX1_appendWords 39 = .ok (.iinc 2 1, 3) := dk_132 2 1 (dk_at dksX1_appendWords_1 15 rfl rfl)
theorem dX1_appendWords_42 : decode cX1_appendWords 42 = .ok (.goto (-40), 3) := dk_167 255 216 (dk_at dksX1_appendWords_1 18 rfl rfl)
theorem dX1_appendWords_45 : decode cX1_appendWords 45 = .ok (.return_, 1) := dk_177 (dk_at dksX1_appendWords_1 21 rfl rfl)
abbrev cX1_isClosed : ByteArray := prog_1_method_38_code
def yX1_isClosed : MethodName := ⟨RX1, "isClosed", "()Z"⟩
def dkwX1_isClosed_0 : List UInt8 := [42, 180, 0, 82, 182, 1, 30, 154, 0, 7, 4, 167, 0, 4, 3, 172]
abbrev dktX1_isClosed_0 : List UInt8 := dkwX1_isClosed_0 ++ []
theorem dksX1_isClosed_0 : cX1_isClosed.data.toList.drop 0 = dktX1_isClosed_0 := by decide +kernel
theorem dX1_isClosed_0 : decode cX1_isClosed 0 = .ok (.aload_n 0, 1) := dk_42 (dk_at dksX1_isClosed_0 0 rfl rfl)
theorem dX1_isClosed_1 : decode cX1_isClosed 1 = .ok (.getfield 82, 3) := dk_180 0 82 (dk_at dksX1_isClosed_0 1 rfl rfl)
theorem dX1_isClosed_4 : decode cX1_isClosed 4 = .ok (.invokevirtual 286, 3) := dk_182 1 30 (dk_at dksX1_isClosed_0 4 rfl rfl)
theorem dX1_isClosed_7 : decode cX1_isClosed 7 = .ok (.ifCond .ne 7, 3) := dk_154 0 7 (dk_at dksX1_isClosed_0 7 rfl rfl)
theorem dX1_isClosed_10 : decode cX1_isClosed 10 = .ok (.iconst 1, 1) := dk_4 (dk_at dksX1_isClosed_0 10 rfl rfl)
theorem dX1_isClosed_11 : decode cX1_isClosed 11 = .ok (.goto 4, 3) := dk_167 0 4 (dk_at dksX1_isClosed_0 11 rfl rfl)
theorem dX1_isClosed_14 : decode cX1_isClosed 14 = .ok (.iconst 0, 1) := dk_3 (dk_at dksX1_isClosed_0 14 rfl rfl)
theorem dX1_isClosed_15 : decode cX1_isClosed 15 = .ok (.ireturn, 1) := dk_172 (dk_at dksX1_isClosed_0 15 rfl rfl)
abbrev cX1_needed : ByteArray := prog_1_method_42_code
def yX1_needed : MethodName := ⟨RX1, "needed", "()I"⟩
def dkwX1_needed_2 : List UInt8 := [164, 0, 9, 4, 29, 120, 167, 0, 4, 3, 128, 60, 132, 3, 1, 167, 255, 208, 27, 172]
abbrev dktX1_needed_2 : List UInt8 := dkwX1_needed_2 ++ []
def dkwX1_needed_1 : List UInt8 := [162, 0, 40, 29, 54, 4, 27, 42, 21, 4, 186, 1, 45, 0, 0, 182, 1, 48, 182, 1, 42, 28]
abbrev dktX1_needed_1 : List UInt8 := dkwX1_needed_1 ++ dktX1_needed_2
def dkwX1_needed_0 : List UInt8 := [3, 60, 42, 180, 0, 82, 182, 1, 42, 61, 3, 62, 29, 42, 180, 0, 82, 180, 0, 118, 182, 0, 122]
abbrev dktX1_needed_0 : List UInt8 := dkwX1_needed_0 ++ dktX1_needed_1
theorem dksX1_needed_0 : cX1_needed.data.toList.drop 0 = dktX1_needed_0 := by decide +kernel
theorem dksX1_needed_1 : cX1_needed.data.toList.drop 23 = dktX1_needed_1 := dk_seg dksX1_needed_0 23 rfl rfl
theorem dksX1_needed_2 : cX1_needed.data.toList.drop 45 = dktX1_needed_2 := dk_seg dksX1_needed_1 22 rfl rfl
theorem dX1_needed_0 : decode cX1_needed 0 = .ok (.iconst 0, 1) := dk_3 (dk_at dksX1_needed_0 0 rfl rfl)
theorem dX1_needed_1 : decode cX1_needed 1 = .ok (.istore_n 1, 1) := dk_60 (dk_at dksX1_needed_0 1 rfl rfl)
theorem dX1_needed_2 : decode cX1_needed 2 = .ok (.aload_n 0, 1) := dk_42 (dk_at dksX1_needed_0 2 rfl rfl)
theorem dX1_needed_3 : decode cX1_needed 3 = .ok (.getfield 82, 3) := dk_180 0 82 (dk_at dksX1_needed_0 3 rfl rfl)
theorem dX1_needed_6 : decode cX1_needed 6 = .ok (.invokevirtual 298, 3) := dk_182 1 42 (dk_at dksX1_needed_0 6 rfl rfl)
theorem dX1_needed_9 : decode cX1_needed 9 = .ok (.istore_n 2, 1) := dk_61 (dk_at dksX1_needed_0 9 rfl rfl)
theorem dX1_needed_10 : decode cX1_needed 10 = .ok (.iconst 0, 1) := dk_3 (dk_at dksX1_needed_0 10 rfl rfl)
theorem dX1_needed_11 : decode cX1_needed 11 = .ok (.istore_n 3, 1) := dk_62 (dk_at dksX1_needed_0 11 rfl rfl)
theorem dX1_needed_12 : decode cX1_needed 12 = .ok (.iload_n 3, 1) := dk_29 (dk_at dksX1_needed_0 12 rfl rfl)
theorem dX1_needed_13 : decode cX1_needed 13 = .ok (.aload_n 0, 1) := dk_42 (dk_at dksX1_needed_0 13 rfl rfl)
theorem dX1_needed_14 : decode cX1_needed 14 = .ok (.getfield 82, 3) := dk_180 0 82 (dk_at dksX1_needed_0 14 rfl rfl)
theorem dX1_needed_17 : decode cX1_needed 17 = .ok (.getfield 118, 3) := dk_180 0 118 (dk_at dksX1_needed_0 17 rfl rfl)
theorem dX1_needed_20 : decode cX1_needed 20 = .ok (.invokevirtual 122, 3) := dk_182 0 122 (dk_at dksX1_needed_0 20 rfl rfl)
theorem dX1_needed_23 : decode cX1_needed 23 = .ok (.if_icmp .ge 40, 3) := dk_162 0 40 (dk_at dksX1_needed_1 0 rfl rfl)
theorem dX1_needed_26 : decode cX1_needed 26 = .ok (.iload_n 3, 1) := dk_29 (dk_at dksX1_needed_1 3 rfl rfl)
theorem dX1_needed_27 : decode cX1_needed 27 = .ok (.istore 4, 2) := dk_54 4 (dk_at dksX1_needed_1 4 rfl rfl)
theorem dX1_needed_29 : decode cX1_needed 29 = .ok (.iload_n 1, 1) := dk_27 (dk_at dksX1_needed_1 6 rfl rfl)
theorem dX1_needed_30 : decode cX1_needed 30 = .ok (.aload_n 0, 1) := dk_42 (dk_at dksX1_needed_1 7 rfl rfl)
theorem dX1_needed_31 : decode cX1_needed 31 = .ok (.iload 4, 2) := dk_21 4 (dk_at dksX1_needed_1 8 rfl rfl)
theorem dX1_needed_33 : decode cX1_needed 33 = .ok (.invokedynamic 301, 5) := by decide +kernel
theorem dX1_needed_38 : decode cX1_needed 38 = .ok (.invokevirtual 304, 3) := dk_182 1 48 (dk_at dksX1_needed_1 15 rfl rfl)
theorem dX1_needed_41 : decode cX1_needed 41 = .ok (.invokevirtual 298, 3) := dk_182 1 42 (dk_at dksX1_needed_1 18 rfl rfl)
theorem dX1_needed_44 : decode cX1_needed 44 = .ok (.iload_n 2, 1) := dk_28 (dk_at dksX1_needed_1 21 rfl rfl)
theorem dX1_needed_45 : decode cX1_needed 45 = .ok (.if_icmp .le 9, 3) := dk_164 0 9 (dk_at dksX1_needed_2 0 rfl rfl)
theorem dX1_needed_48 : decode cX1_needed 48 = .ok (.iconst 1, 1) := dk_4 (dk_at dksX1_needed_2 3 rfl rfl)
theorem dX1_needed_49 : decode cX1_needed 49 = .ok (.iload_n 3, 1) := dk_29 (dk_at dksX1_needed_2 4 rfl rfl)
theorem dX1_needed_50 : decode cX1_needed 50 = .ok (.ishl, 1) := dk_120 (dk_at dksX1_needed_2 5 rfl rfl)
theorem dX1_needed_51 : decode cX1_needed 51 = .ok (.goto 4, 3) := dk_167 0 4 (dk_at dksX1_needed_2 6 rfl rfl)
theorem dX1_needed_54 : decode cX1_needed 54 = .ok (.iconst 0, 1) := dk_3 (dk_at dksX1_needed_2 9 rfl rfl)
theorem dX1_needed_55 : decode cX1_needed 55 = .ok (.ior, 1) := dk_128 (dk_at dksX1_needed_2 10 rfl rfl)
theorem dX1_needed_56 : decode cX1_needed 56 = .ok (.istore_n 1, 1) := dk_60 (dk_at dksX1_needed_2 11 rfl rfl)
theorem dX1_needed_57 : decode cX1_needed 57 = .ok (.iinc 3 1, 3) := dk_132 3 1 (dk_at dksX1_needed_2 12 rfl rfl)
theorem dX1_needed_60 : decode cX1_needed 60 = .ok (.goto (-48), 3) := dk_167 255 208 (dk_at dksX1_needed_2 15 rfl rfl)
theorem dX1_needed_63 : decode cX1_needed 63 = .ok (.iload_n 1, 1) := dk_27 (dk_at dksX1_needed_2 18 rfl rfl)
theorem dX1_needed_64 : decode cX1_needed 64 = .ok (.ireturn, 1) := dk_172 (dk_at dksX1_needed_2 19 rfl rfl)
abbrev cX1_lambda_needed_7 : ByteArray := prog_1_method_79_code
def yX1_lambda_needed_7 : MethodName := ⟨RX1, "lambda$needed$7", "(ILHeirCases$Will;)V"⟩
def dkwX1_lambda_needed_7_0 : List UInt8 := [43, 26, 182, 1, 136, 177]
abbrev dktX1_lambda_needed_7_0 : List UInt8 := dkwX1_lambda_needed_7_0 ++ []
theorem dksX1_lambda_needed_7_0 : cX1_lambda_needed_7.data.toList.drop 0 = dktX1_lambda_needed_7_0 := by decide +kernel
theorem dX1_lambda_needed_7_0 : decode cX1_lambda_needed_7 0 = .ok (.aload_n 1, 1) := dk_43 (dk_at dksX1_lambda_needed_7_0 0 rfl rfl)
theorem dX1_lambda_needed_7_1 : decode cX1_lambda_needed_7 1 = .ok (.iload_n 0, 1) := dk_26 (dk_at dksX1_lambda_needed_7_0 1 rfl rfl)
theorem dX1_lambda_needed_7_2 : decode cX1_lambda_needed_7 2 = .ok (.invokevirtual 392, 3) := dk_182 1 136 (dk_at dksX1_lambda_needed_7_0 2 rfl rfl)
theorem dX1_lambda_needed_7_5 : decode cX1_lambda_needed_7 5 = .ok (.return_, 1) := dk_177 (dk_at dksX1_lambda_needed_7_0 5 rfl rfl)
abbrev cX1_after : ByteArray := prog_1_method_41_code
def yX1_after : MethodName := ⟨RX1, "after", "(LHeirCases$Deed;)LHeirCases$Will;"⟩
def dkwX1_after_0 : List UInt8 := [42, 180, 0, 82, 182, 0, 100, 77, 43, 44, 185, 1, 37, 2, 0, 44, 176]
abbrev dktX1_after_0 : List UInt8 := dkwX1_after_0 ++ []
theorem dksX1_after_0 : cX1_after.data.toList.drop 0 = dktX1_after_0 := by decide +kernel
theorem dX1_after_0 : decode cX1_after 0 = .ok (.aload_n 0, 1) := dk_42 (dk_at dksX1_after_0 0 rfl rfl)
theorem dX1_after_1 : decode cX1_after 1 = .ok (.getfield 82, 3) := dk_180 0 82 (dk_at dksX1_after_0 1 rfl rfl)
theorem dX1_after_4 : decode cX1_after 4 = .ok (.invokevirtual 100, 3) := dk_182 0 100 (dk_at dksX1_after_0 4 rfl rfl)
theorem dX1_after_7 : decode cX1_after 7 = .ok (.astore_n 2, 1) := dk_77 (dk_at dksX1_after_0 7 rfl rfl)
theorem dX1_after_8 : decode cX1_after 8 = .ok (.aload_n 1, 1) := dk_43 (dk_at dksX1_after_0 8 rfl rfl)
theorem dX1_after_9 : decode cX1_after 9 = .ok (.aload_n 2, 1) := dk_44 (dk_at dksX1_after_0 9 rfl rfl)
theorem dX1_after_10 : decode cX1_after 10 = .ok (.invokeinterface 293 2, 5) := by decide +kernel
theorem dX1_after_15 : decode cX1_after 15 = .ok (.aload_n 2, 1) := dk_44 (dk_at dksX1_after_0 15 rfl rfl)
theorem dX1_after_16 : decode cX1_after 16 = .ok (.areturn, 1) := dk_176 (dk_at dksX1_after_0 16 rfl rfl)
abbrev cX1_idle : ByteArray := prog_1_method_43_code
def yX1_idle : MethodName := ⟨RX1, "idle", "()I"⟩
def dkwX1_idle_2 : List UInt8 := [160, 0, 7, 27, 167, 0, 9, 4, 21, 4, 120, 2, 130, 126, 60, 132, 3, 1, 167, 255, 216, 27, 172]
abbrev dktX1_idle_2 : List UInt8 := dkwX1_idle_2 ++ []
def dkwX1_idle_1 : List UInt8 := [62, 29, 28, 162, 0, 41, 42, 180, 0, 82, 29, 182, 0, 188, 180, 1, 9, 54, 4, 27, 21, 4, 2]
abbrev dktX1_idle_1 : List UInt8 := dkwX1_idle_1 ++ dktX1_idle_2
def dkwX1_idle_0 : List UInt8 := [4, 42, 180, 0, 82, 180, 0, 118, 182, 0, 122, 120, 4, 100, 60, 42, 180, 0, 82, 182, 0, 112, 61, 3]
abbrev dktX1_idle_0 : List UInt8 := dkwX1_idle_0 ++ dktX1_idle_1
theorem dksX1_idle_0 : cX1_idle.data.toList.drop 0 = dktX1_idle_0 := by decide +kernel
theorem dksX1_idle_1 : cX1_idle.data.toList.drop 24 = dktX1_idle_1 := dk_seg dksX1_idle_0 24 rfl rfl
theorem dksX1_idle_2 : cX1_idle.data.toList.drop 47 = dktX1_idle_2 := dk_seg dksX1_idle_1 23 rfl rfl
theorem dX1_idle_0 : decode cX1_idle 0 = .ok (.iconst 1, 1) := dk_4 (dk_at dksX1_idle_0 0 rfl rfl)
theorem dX1_idle_1 : decode cX1_idle 1 = .ok (.aload_n 0, 1) := dk_42 (dk_at dksX1_idle_0 1 rfl rfl)
theorem dX1_idle_2 : decode cX1_idle 2 = .ok (.getfield 82, 3) := dk_180 0 82 (dk_at dksX1_idle_0 2 rfl rfl)
theorem dX1_idle_5 : decode cX1_idle 5 = .ok (.getfield 118, 3) := dk_180 0 118 (dk_at dksX1_idle_0 5 rfl rfl)
theorem dX1_idle_8 : decode cX1_idle 8 = .ok (.invokevirtual 122, 3) := dk_182 0 122 (dk_at dksX1_idle_0 8 rfl rfl)
theorem dX1_idle_11 : decode cX1_idle 11 = .ok (.ishl, 1) := dk_120 (dk_at dksX1_idle_0 11 rfl rfl)
theorem dX1_idle_12 : decode cX1_idle 12 = .ok (.iconst 1, 1) := dk_4 (dk_at dksX1_idle_0 12 rfl rfl)
theorem dX1_idle_13 : decode cX1_idle 13 = .ok (.isub, 1) := dk_100 (dk_at dksX1_idle_0 13 rfl rfl)
theorem dX1_idle_14 : decode cX1_idle 14 = .ok (.istore_n 1, 1) := dk_60 (dk_at dksX1_idle_0 14 rfl rfl)
theorem dX1_idle_15 : decode cX1_idle 15 = .ok (.aload_n 0, 1) := dk_42 (dk_at dksX1_idle_0 15 rfl rfl)
theorem dX1_idle_16 : decode cX1_idle 16 = .ok (.getfield 82, 3) := dk_180 0 82 (dk_at dksX1_idle_0 16 rfl rfl)
theorem dX1_idle_19 : decode cX1_idle 19 = .ok (.invokevirtual 112, 3) := dk_182 0 112 (dk_at dksX1_idle_0 19 rfl rfl)
theorem dX1_idle_22 : decode cX1_idle 22 = .ok (.istore_n 2, 1) := dk_61 (dk_at dksX1_idle_0 22 rfl rfl)
theorem dX1_idle_23 : decode cX1_idle 23 = .ok (.iconst 0, 1) := dk_3 (dk_at dksX1_idle_0 23 rfl rfl)
theorem dX1_idle_24 : decode cX1_idle 24 = .ok (.istore_n 3, 1) := dk_62 (dk_at dksX1_idle_1 0 rfl rfl)
theorem dX1_idle_25 : decode cX1_idle 25 = .ok (.iload_n 3, 1) := dk_29 (dk_at dksX1_idle_1 1 rfl rfl)
theorem dX1_idle_26 : decode cX1_idle 26 = .ok (.iload_n 2, 1) := dk_28 (dk_at dksX1_idle_1 2 rfl rfl)
theorem dX1_idle_27 : decode cX1_idle 27 = .ok (.if_icmp .ge 41, 3) := dk_162 0 41 (dk_at dksX1_idle_1 3 rfl rfl)
theorem dX1_idle_30 : decode cX1_idle 30 = .ok (.aload_n 0, 1) := dk_42 (dk_at dksX1_idle_1 6 rfl rfl)
theorem dX1_idle_31 : decode cX1_idle 31 = .ok (.getfield 82, 3) := dk_180 0 82 (dk_at dksX1_idle_1 7 rfl rfl)
theorem dX1_idle_34 : decode cX1_idle 34 = .ok (.iload_n 3, 1) := dk_29 (dk_at dksX1_idle_1 10 rfl rfl)
theorem dX1_idle_35 : decode cX1_idle 35 = .ok (.invokevirtual 188, 3) := dk_182 0 188 (dk_at dksX1_idle_1 11 rfl rfl)
theorem dX1_idle_38 : decode cX1_idle 38 = .ok (.getfield 265, 3) := dk_180 1 9 (dk_at dksX1_idle_1 14 rfl rfl)
theorem dX1_idle_41 : decode cX1_idle 41 = .ok (.istore 4, 2) := dk_54 4 (dk_at dksX1_idle_1 17 rfl rfl)
theorem dX1_idle_43 : decode cX1_idle 43 = .ok (.iload_n 1, 1) := dk_27 (dk_at dksX1_idle_1 19 rfl rfl)
theorem dX1_idle_44 : decode cX1_idle 44 = .ok (.iload 4, 2) := dk_21 4 (dk_at dksX1_idle_1 20 rfl rfl)
theorem dX1_idle_46 : decode cX1_idle 46 = .ok (.iconst (-1), 1) := dk_2 (dk_at dksX1_idle_1 22 rfl rfl)
theorem dX1_idle_47 : decode cX1_idle 47 = .ok (.if_icmp .ne 7, 3) := dk_160 0 7 (dk_at dksX1_idle_2 0 rfl rfl)
theorem dX1_idle_50 : decode cX1_idle 50 = .ok (.iload_n 1, 1) := dk_27 (dk_at dksX1_idle_2 3 rfl rfl)
theorem dX1_idle_51 : decode cX1_idle 51 = .ok (.goto 9, 3) := dk_167 0 9 (dk_at dksX1_idle_2 4 rfl rfl)
theorem dX1_idle_54 : decode cX1_idle 54 = .ok (.iconst 1, 1) := dk_4 (dk_at dksX1_idle_2 7 rfl rfl)
theorem dX1_idle_55 : decode cX1_idle 55 = .ok (.iload 4, 2) := dk_21 4 (dk_at dksX1_idle_2 8 rfl rfl)
theorem dX1_idle_57 : decode cX1_idle 57 = .ok (.ishl, 1) := dk_120 (dk_at dksX1_idle_2 10 rfl rfl)
theorem dX1_idle_58 : decode cX1_idle 58 = .ok (.iconst (-1), 1) := dk_2 (dk_at dksX1_idle_2 11 rfl rfl)
theorem dX1_idle_59 : decode cX1_idle 59 = .ok (.ixor, 1) := dk_130 (dk_at dksX1_idle_2 12 rfl rfl)
theorem dX1_idle_60 : decode cX1_idle 60 = .ok (.iand, 1) := dk_126 (dk_at dksX1_idle_2 13 rfl rfl)
theorem dX1_idle_61 : decode cX1_idle 61 = .ok (.istore_n 1, 1) := dk_60 (dk_at dksX1_idle_2 14 rfl rfl)
theorem dX1_idle_62 : decode cX1_idle 62 = .ok (.iinc 3 1, 3) := dk_132 3 1 (dk_at dksX1_idle_2 15 rfl rfl)
theorem dX1_idle_65 : decode cX1_idle 65 = .ok (.goto (-40), 3) := dk_167 255 216 (dk_at dksX1_idle_2 18 rfl rfl)
theorem dX1_idle_68 : decode cX1_idle 68 = .ok (.iload_n 1, 1) := dk_27 (dk_at dksX1_idle_2 21 rfl rfl)
theorem dX1_idle_69 : decode cX1_idle 69 = .ok (.ireturn, 1) := dk_172 (dk_at dksX1_idle_2 22 rfl rfl)
abbrev cX1_patch : ByteArray := prog_1_method_47_code
def yX1_patch : MethodName := ⟨RX1, "patch", "()I"⟩
def dkwX1_patch_3 : List UInt8 := [61, 16, 10, 29, 104, 21, 4, 96, 60, 132, 4, 1, 167, 255, 194, 132, 3, 1, 167, 255, 173, 27, 172]
abbrev dktX1_patch_3 : List UInt8 := dkwX1_patch_3 ++ []
def dkwX1_patch_2 : List UInt8 := [58, 5, 42, 42, 25, 5, 186, 1, 61, 0, 0, 182, 0, 244, 54, 6, 21, 6, 28, 164, 0, 14, 21, 6]
abbrev dktX1_patch_2 : List UInt8 := dkwX1_patch_2 ++ dktX1_patch_3
def dkwX1_patch_1 : List UInt8 := [180, 0, 82, 180, 0, 139, 29, 46, 162, 0, 54, 187, 1, 56, 89, 29, 16, 61, 21, 4, 183, 1, 58]
abbrev dktX1_patch_1 : List UInt8 := dkwX1_patch_1 ++ dktX1_patch_2
def dkwX1_patch_0 : List UInt8 := [2, 60, 3, 61, 3, 62, 29, 42, 180, 0, 82, 180, 0, 139, 190, 162, 0, 77, 3, 54, 4, 21, 4, 42]
abbrev dktX1_patch_0 : List UInt8 := dkwX1_patch_0 ++ dktX1_patch_1
theorem dksX1_patch_0 : cX1_patch.data.toList.drop 0 = dktX1_patch_0 := by decide +kernel
theorem dksX1_patch_1 : cX1_patch.data.toList.drop 24 = dktX1_patch_1 := dk_seg dksX1_patch_0 24 rfl rfl
theorem dksX1_patch_2 : cX1_patch.data.toList.drop 47 = dktX1_patch_2 := dk_seg dksX1_patch_1 23 rfl rfl
theorem dksX1_patch_3 : cX1_patch.data.toList.drop 71 = dktX1_patch_3 := dk_seg dksX1_patch_2 24 rfl rfl
theorem dX1_patch_0 : decode cX1_patch 0 = .ok (.iconst (-1), 1) := dk_2 (dk_at dksX1_patch_0 0 rfl rfl)
theorem dX1_patch_1 : decode cX1_patch 1 = .ok (.istore_n 1, 1) := dk_60 (dk_at dksX1_patch_0 1 rfl rfl)
theorem dX1_patch_2 : decode cX1_patch 2 = .ok (.iconst 0, 1) := dk_3 (dk_at dksX1_patch_0 2 rfl rfl)
theorem dX1_patch_3 : decode cX1_patch 3 = .ok (.istore_n 2, 1) := dk_61 (dk_at dksX1_patch_0 3 rfl rfl)
theorem dX1_patch_4 : decode cX1_patch 4 = .ok (.iconst 0, 1) := dk_3 (dk_at dksX1_patch_0 4 rfl rfl)
theorem dX1_patch_5 : decode cX1_patch 5 = .ok (.istore_n 3, 1) := dk_62 (dk_at dksX1_patch_0 5 rfl rfl)
theorem dX1_patch_6 : decode cX1_patch 6 = .ok (.iload_n 3, 1) := dk_29 (dk_at dksX1_patch_0 6 rfl rfl)
theorem dX1_patch_7 : decode cX1_patch 7 = .ok (.aload_n 0, 1) := dk_42 (dk_at dksX1_patch_0 7 rfl rfl)
theorem dX1_patch_8 : decode cX1_patch 8 = .ok (.getfield 82, 3) := dk_180 0 82 (dk_at dksX1_patch_0 8 rfl rfl)
theorem dX1_patch_11 : decode cX1_patch 11 = .ok (.getfield 139, 3) := dk_180 0 139 (dk_at dksX1_patch_0 11 rfl rfl)
theorem dX1_patch_14 : decode cX1_patch 14 = .ok (.arraylength, 1) := dk_190 (dk_at dksX1_patch_0 14 rfl rfl)
theorem dX1_patch_15 : decode cX1_patch 15 = .ok (.if_icmp .ge 77, 3) := dk_162 0 77 (dk_at dksX1_patch_0 15 rfl rfl)
theorem dX1_patch_18 : decode cX1_patch 18 = .ok (.iconst 0, 1) := dk_3 (dk_at dksX1_patch_0 18 rfl rfl)
theorem dX1_patch_19 : decode cX1_patch 19 = .ok (.istore 4, 2) := dk_54 4 (dk_at dksX1_patch_0 19 rfl rfl)
theorem dX1_patch_21 : decode cX1_patch 21 = .ok (.iload 4, 2) := dk_21 4 (dk_at dksX1_patch_0 21 rfl rfl)
theorem dX1_patch_23 : decode cX1_patch 23 = .ok (.aload_n 0, 1) := dk_42 (dk_at dksX1_patch_0 23 rfl rfl)
theorem dX1_patch_24 : decode cX1_patch 24 = .ok (.getfield 82, 3) := dk_180 0 82 (dk_at dksX1_patch_1 0 rfl rfl)
theorem dX1_patch_27 : decode cX1_patch 27 = .ok (.getfield 139, 3) := dk_180 0 139 (dk_at dksX1_patch_1 3 rfl rfl)
theorem dX1_patch_30 : decode cX1_patch 30 = .ok (.iload_n 3, 1) := dk_29 (dk_at dksX1_patch_1 6 rfl rfl)
theorem dX1_patch_31 : decode cX1_patch 31 = .ok (.iaload, 1) := dk_46 (dk_at dksX1_patch_1 7 rfl rfl)
theorem dX1_patch_32 : decode cX1_patch 32 = .ok (.if_icmp .ge 54, 3) := dk_162 0 54 (dk_at dksX1_patch_1 8 rfl rfl)
theorem dX1_patch_35 : decode cX1_patch 35 = .ok (.new 312, 3) := dk_187 1 56 (dk_at dksX1_patch_1 11 rfl rfl)
theorem dX1_patch_38 : decode cX1_patch 38 = .ok (.dup, 1) := dk_89 (dk_at dksX1_patch_1 14 rfl rfl)
theorem dX1_patch_39 : decode cX1_patch 39 = .ok (.iload_n 3, 1) := dk_29 (dk_at dksX1_patch_1 15 rfl rfl)
theorem dX1_patch_40 : decode cX1_patch 40 = .ok (.bipush 61, 2) := dk_16 61 (dk_at dksX1_patch_1 16 rfl rfl)
theorem dX1_patch_42 : decode cX1_patch 42 = .ok (.iload 4, 2) := dk_21 4 (dk_at dksX1_patch_1 18 rfl rfl)
theorem dX1_patch_44 : decode cX1_patch 44 = .ok (.invokespecial 314, 3) := dk_183 1 58 (dk_at dksX1_patch_1 20 rfl rfl)
theorem dX1_patch_47 : decode cX1_patch 47 = .ok (.astore 5, 2) := dk_58 5 (dk_at dksX1_patch_2 0 rfl rfl)
theorem dX1_patch_49 : decode cX1_patch 49 = .ok (.aload_n 0, 1) := dk_42 (dk_at dksX1_patch_2 2 rfl rfl)
theorem dX1_patch_50 : decode cX1_patch 50 = .ok (.aload_n 0, 1) := dk_42 (dk_at dksX1_patch_2 3 rfl rfl)
theorem dX1_patch_51 : decode cX1_patch 51 = .ok (.aload 5, 2) := dk_25 5 (dk_at dksX1_patch_2 4 rfl rfl)
theorem dX1_patch_53 : decode cX1_patch 53 = .ok (.invokedynamic 317, 5) := by decide +kernel
theorem dX1_patch_58 : decode cX1_patch 58 = .ok (.invokevirtual 244, 3) := dk_182 0 244 (dk_at dksX1_patch_2 11 rfl rfl)
theorem dX1_patch_61 : decode cX1_patch 61 = .ok (.istore 6, 2) := dk_54 6 (dk_at dksX1_patch_2 14 rfl rfl)
theorem dX1_patch_63 : decode cX1_patch 63 = .ok (.iload 6, 2) := dk_21 6 (dk_at dksX1_patch_2 16 rfl rfl)
theorem dX1_patch_65 : decode cX1_patch 65 = .ok (.iload_n 2, 1) := dk_28 (dk_at dksX1_patch_2 18 rfl rfl)
theorem dX1_patch_66 : decode cX1_patch 66 = .ok (.if_icmp .le 14, 3) := dk_164 0 14 (dk_at dksX1_patch_2 19 rfl rfl)
theorem dX1_patch_69 : decode cX1_patch 69 = .ok (.iload 6, 2) := dk_21 6 (dk_at dksX1_patch_2 22 rfl rfl)
theorem dX1_patch_71 : decode cX1_patch 71 = .ok (.istore_n 2, 1) := dk_61 (dk_at dksX1_patch_3 0 rfl rfl)
theorem dX1_patch_72 : decode cX1_patch 72 = .ok (.bipush 10, 2) := dk_16 10 (dk_at dksX1_patch_3 1 rfl rfl)
theorem dX1_patch_74 : decode cX1_patch 74 = .ok (.iload_n 3, 1) := dk_29 (dk_at dksX1_patch_3 3 rfl rfl)
theorem dX1_patch_75 : decode cX1_patch 75 = .ok (.imul, 1) := dk_104 (dk_at dksX1_patch_3 4 rfl rfl)
theorem dX1_patch_76 : decode cX1_patch 76 = .ok (.iload 4, 2) := dk_21 4 (dk_at dksX1_patch_3 5 rfl rfl)
theorem dX1_patch_78 : decode cX1_patch 78 = .ok (.iadd, 1) := dk_96 (dk_at dksX1_patch_3 7 rfl rfl)
theorem dX1_patch_79 : decode cX1_patch 79 = .ok (.istore_n 1, 1) := dk_60 (dk_at dksX1_patch_3 8 rfl rfl)
theorem dX1_patch_80 : decode cX1_patch 80 = .ok (.iinc 4 1, 3) := dk_132 4 1 (dk_at dksX1_patch_3 9 rfl rfl)
theorem dX1_patch_83 : decode cX1_patch 83 = .ok (.goto (-62), 3) := dk_167 255 194 (dk_at dksX1_patch_3 12 rfl rfl)
theorem dX1_patch_86 : decode cX1_patch 86 = .ok (.iinc 3 1, 3) := dk_132 3 1 (dk_at dksX1_patch_3 15 rfl rfl)
theorem dX1_patch_89 : decode cX1_patch 89 = .ok (.goto (-83), 3) := dk_167 255 173 (dk_at dksX1_patch_3 18 rfl rfl)
theorem dX1_patch_92 : decode cX1_patch 92 = .ok (.iload_n 1, 1) := dk_27 (dk_at dksX1_patch_3 21 rfl rfl)
theorem dX1_patch_93 : decode cX1_patch 93 = .ok (.ireturn, 1) := dk_172 (dk_at dksX1_patch_3 22 rfl rfl)
abbrev cX1_lambda_patch_10 : ByteArray := prog_1_method_76_code
def yX1_lambda_patch_10 : MethodName := ⟨RX1, "lambda$patch$10", "(LHeirCases$Comparison;I)I"⟩
def dkwX1_lambda_patch_10_1 : List UInt8 := [153, 0, 7, 4, 167, 0, 4, 3, 172]
abbrev dktX1_lambda_patch_10_1 : List UInt8 := dkwX1_lambda_patch_10_1 ++ []
def dkwX1_lambda_patch_10_0 : List UInt8 := [42, 28, 182, 1, 175, 153, 0, 25, 43, 42, 180, 0, 82, 28, 182, 0, 188, 180, 0, 192, 182, 1, 178]
abbrev dktX1_lambda_patch_10_0 : List UInt8 := dkwX1_lambda_patch_10_0 ++ dktX1_lambda_patch_10_1
theorem dksX1_lambda_patch_10_0 : cX1_lambda_patch_10.data.toList.drop 0 = dktX1_lambda_patch_10_0 := by decide +kernel
theorem dksX1_lambda_patch_10_1 : cX1_lambda_patch_10.data.toList.drop 23 = dktX1_lambda_patch_10_1 := dk_seg dksX1_lambda_patch_10_0 23 rfl rfl
theorem dX1_lambda_patch_10_0 : decode cX1_lambda_patch_10 0 = .ok (.aload_n 0, 1) := dk_42 (dk_at dksX1_lambda_patch_10_0 0 rfl rfl)
theorem dX1_lambda_patch_10_1 : decode cX1_lambda_patch_10 1 = .ok (.iload_n 2, 1) := dk_28 (dk_at dksX1_lambda_patch_10_0 1 rfl rfl)
theorem dX1_lambda_patch_10_2 : decode cX1_lambda_patch_10 2 = .ok (.invokevirtual 431, 3) := dk_182 1 175 (dk_at dksX1_lambda_patch_10_0 2 rfl rfl)
theorem dX1_lambda_patch_10_5 : decode cX1_lambda_patch_10 5 = .ok (.ifCond .eq 25, 3) := dk_153 0 25 (dk_at dksX1_lambda_patch_10_0 5 rfl rfl)
theorem dX1_lambda_patch_10_8 : decode cX1_lambda_patch_10 8 = .ok (.aload_n 1, 1) := dk_43 (dk_at dksX1_lambda_patch_10_0 8 rfl rfl)
theorem dX1_lambda_patch_10_9 : decode cX1_lambda_patch_10 9 = .ok (.aload_n 0, 1) := dk_42 (dk_at dksX1_lambda_patch_10_0 9 rfl rfl)
theorem dX1_lambda_patch_10_10 : decode cX1_lambda_patch_10 10 = .ok (.getfield 82, 3) := dk_180 0 82 (dk_at dksX1_lambda_patch_10_0 10 rfl rfl)
theorem dX1_lambda_patch_10_13 : decode cX1_lambda_patch_10 13 = .ok (.iload_n 2, 1) := dk_28 (dk_at dksX1_lambda_patch_10_0 13 rfl rfl)
theorem dX1_lambda_patch_10_14 : decode cX1_lambda_patch_10 14 = .ok (.invokevirtual 188, 3) := dk_182 0 188 (dk_at dksX1_lambda_patch_10_0 14 rfl rfl)
theorem dX1_lambda_patch_10_17 : decode cX1_lambda_patch_10 17 = .ok (.getfield 192, 3) := dk_180 0 192 (dk_at dksX1_lambda_patch_10_0 17 rfl rfl)
theorem dX1_lambda_patch_10_20 : decode cX1_lambda_patch_10 20 = .ok (.invokevirtual 434, 3) := dk_182 1 178 (dk_at dksX1_lambda_patch_10_0 20 rfl rfl)
theorem dX1_lambda_patch_10_23 : decode cX1_lambda_patch_10 23 = .ok (.ifCond .eq 7, 3) := dk_153 0 7 (dk_at dksX1_lambda_patch_10_1 0 rfl rfl)
theorem dX1_lambda_patch_10_26 : decode cX1_lambda_patch_10 26 = .ok (.iconst 1, 1) := dk_4 (dk_at dksX1_lambda_patch_10_1 3 rfl rfl)
theorem dX1_lambda_patch_10_27 : decode cX1_lambda_patch_10 27 = .ok (.goto 4, 3) := dk_167 0 4 (dk_at dksX1_lambda_patch_10_1 4 rfl rfl)
theorem dX1_lambda_patch_10_30 : decode cX1_lambda_patch_10 30 = .ok (.iconst 0, 1) := dk_3 (dk_at dksX1_lambda_patch_10_1 7 rfl rfl)
theorem dX1_lambda_patch_10_31 : decode cX1_lambda_patch_10 31 = .ok (.ireturn, 1) := dk_172 (dk_at dksX1_lambda_patch_10_1 8 rfl rfl)
abbrev cX1_isGap : ByteArray := prog_1_method_46_code
def yX1_isGap : MethodName := ⟨RX1, "isGap", "(I)Z"⟩
def dkwX1_isGap_1 : List UInt8 := [167, 0, 4, 3, 172]
abbrev dktX1_isGap_1 : List UInt8 := dkwX1_isGap_1 ++ []
def dkwX1_isGap_0 : List UInt8 := [42, 180, 0, 82, 27, 182, 0, 188, 180, 0, 197, 61, 28, 4, 159, 0, 8, 28, 5, 160, 0, 7, 4]
abbrev dktX1_isGap_0 : List UInt8 := dkwX1_isGap_0 ++ dktX1_isGap_1
theorem dksX1_isGap_0 : cX1_isGap.data.toList.drop 0 = dktX1_isGap_0 := by decide +kernel
theorem dksX1_isGap_1 : cX1_isGap.data.toList.drop 23 = dktX1_isGap_1 := dk_seg dksX1_isGap_0 23 rfl rfl
theorem dX1_isGap_0 : decode cX1_isGap 0 = .ok (.aload_n 0, 1) := dk_42 (dk_at dksX1_isGap_0 0 rfl rfl)
theorem dX1_isGap_1 : decode cX1_isGap 1 = .ok (.getfield 82, 3) := dk_180 0 82 (dk_at dksX1_isGap_0 1 rfl rfl)
theorem dX1_isGap_4 : decode cX1_isGap 4 = .ok (.iload_n 1, 1) := dk_27 (dk_at dksX1_isGap_0 4 rfl rfl)
theorem dX1_isGap_5 : decode cX1_isGap 5 = .ok (.invokevirtual 188, 3) := dk_182 0 188 (dk_at dksX1_isGap_0 5 rfl rfl)
theorem dX1_isGap_8 : decode cX1_isGap 8 = .ok (.getfield 197, 3) := dk_180 0 197 (dk_at dksX1_isGap_0 8 rfl rfl)
theorem dX1_isGap_11 : decode cX1_isGap 11 = .ok (.istore_n 2, 1) := dk_61 (dk_at dksX1_isGap_0 11 rfl rfl)
theorem dX1_isGap_12 : decode cX1_isGap 12 = .ok (.iload_n 2, 1) := dk_28 (dk_at dksX1_isGap_0 12 rfl rfl)
theorem dX1_isGap_13 : decode cX1_isGap 13 = .ok (.iconst 1, 1) := dk_4 (dk_at dksX1_isGap_0 13 rfl rfl)
theorem dX1_isGap_14 : decode cX1_isGap 14 = .ok (.if_icmp .eq 8, 3) := dk_159 0 8 (dk_at dksX1_isGap_0 14 rfl rfl)
theorem dX1_isGap_17 : decode cX1_isGap 17 = .ok (.iload_n 2, 1) := dk_28 (dk_at dksX1_isGap_0 17 rfl rfl)
theorem dX1_isGap_18 : decode cX1_isGap 18 = .ok (.iconst 2, 1) := dk_5 (dk_at dksX1_isGap_0 18 rfl rfl)
theorem dX1_isGap_19 : decode cX1_isGap 19 = .ok (.if_icmp .ne 7, 3) := dk_160 0 7 (dk_at dksX1_isGap_0 19 rfl rfl)
theorem dX1_isGap_22 : decode cX1_isGap 22 = .ok (.iconst 1, 1) := dk_4 (dk_at dksX1_isGap_0 22 rfl rfl)
theorem dX1_isGap_23 : decode cX1_isGap 23 = .ok (.goto 4, 3) := dk_167 0 4 (dk_at dksX1_isGap_1 0 rfl rfl)
theorem dX1_isGap_26 : decode cX1_isGap 26 = .ok (.iconst 0, 1) := dk_3 (dk_at dksX1_isGap_1 3 rfl rfl)
theorem dX1_isGap_27 : decode cX1_isGap 27 = .ok (.ireturn, 1) := dk_172 (dk_at dksX1_isGap_1 4 rfl rfl)
abbrev cX1_sum : ByteArray := prog_1_method_26_code
def yX1_sum : MethodName := ⟨RX1, "sum", "(LHeirCases$OfCase;)I"⟩
def dkwX1_sum_1 : List UInt8 := [185, 0, 200, 2, 0, 96, 61, 132, 4, 1, 167, 255, 236, 28, 172]
abbrev dktX1_sum_1 : List UInt8 := dkwX1_sum_1 ++ []
def dkwX1_sum_0 : List UInt8 := [3, 61, 42, 180, 0, 82, 182, 0, 112, 62, 3, 54, 4, 21, 4, 29, 162, 0, 20, 28, 43, 21, 4]
abbrev dktX1_sum_0 : List UInt8 := dkwX1_sum_0 ++ dktX1_sum_1
theorem dksX1_sum_0 : cX1_sum.data.toList.drop 0 = dktX1_sum_0 := by decide +kernel
theorem dksX1_sum_1 : cX1_sum.data.toList.drop 23 = dktX1_sum_1 := dk_seg dksX1_sum_0 23 rfl rfl
theorem dX1_sum_0 : decode cX1_sum 0 = .ok (.iconst 0, 1) := dk_3 (dk_at dksX1_sum_0 0 rfl rfl)
theorem dX1_sum_1 : decode cX1_sum 1 = .ok (.istore_n 2, 1) := dk_61 (dk_at dksX1_sum_0 1 rfl rfl)
theorem dX1_sum_2 : decode cX1_sum 2 = .ok (.aload_n 0, 1) := dk_42 (dk_at dksX1_sum_0 2 rfl rfl)
theorem dX1_sum_3 : decode cX1_sum 3 = .ok (.getfield 82, 3) := dk_180 0 82 (dk_at dksX1_sum_0 3 rfl rfl)
theorem dX1_sum_6 : decode cX1_sum 6 = .ok (.invokevirtual 112, 3) := dk_182 0 112 (dk_at dksX1_sum_0 6 rfl rfl)
theorem dX1_sum_9 : decode cX1_sum 9 = .ok (.istore_n 3, 1) := dk_62 (dk_at dksX1_sum_0 9 rfl rfl)
theorem dX1_sum_10 : decode cX1_sum 10 = .ok (.iconst 0, 1) := dk_3 (dk_at dksX1_sum_0 10 rfl rfl)
theorem dX1_sum_11 : decode cX1_sum 11 = .ok (.istore 4, 2) := dk_54 4 (dk_at dksX1_sum_0 11 rfl rfl)
theorem dX1_sum_13 : decode cX1_sum 13 = .ok (.iload 4, 2) := dk_21 4 (dk_at dksX1_sum_0 13 rfl rfl)
theorem dX1_sum_15 : decode cX1_sum 15 = .ok (.iload_n 3, 1) := dk_29 (dk_at dksX1_sum_0 15 rfl rfl)
theorem dX1_sum_16 : decode cX1_sum 16 = .ok (.if_icmp .ge 20, 3) := dk_162 0 20 (dk_at dksX1_sum_0 16 rfl rfl)
theorem dX1_sum_19 : decode cX1_sum 19 = .ok (.iload_n 2, 1) := dk_28 (dk_at dksX1_sum_0 19 rfl rfl)
theorem dX1_sum_20 : decode cX1_sum 20 = .ok (.aload_n 1, 1) := dk_43 (dk_at dksX1_sum_0 20 rfl rfl)
theorem dX1_sum_21 : decode cX1_sum 21 = .ok (.iload 4, 2) := dk_21 4 (dk_at dksX1_sum_0 21 rfl rfl)
theorem dX1_sum_23 : decode cX1_sum 23 = .ok (.invokeinterface 200 2, 5) := by decide +kernel
theorem dX1_sum_28 : decode cX1_sum 28 = .ok (.iadd, 1) := dk_96 (dk_at dksX1_sum_1 5 rfl rfl)
theorem dX1_sum_29 : decode cX1_sum 29 = .ok (.istore_n 2, 1) := dk_61 (dk_at dksX1_sum_1 6 rfl rfl)
theorem dX1_sum_30 : decode cX1_sum 30 = .ok (.iinc 4 1, 3) := dk_132 4 1 (dk_at dksX1_sum_1 7 rfl rfl)
theorem dX1_sum_33 : decode cX1_sum 33 = .ok (.goto (-20), 3) := dk_167 255 236 (dk_at dksX1_sum_1 10 rfl rfl)
theorem dX1_sum_36 : decode cX1_sum 36 = .ok (.iload_n 2, 1) := dk_28 (dk_at dksX1_sum_1 13 rfl rfl)
theorem dX1_sum_37 : decode cX1_sum 37 = .ok (.ireturn, 1) := dk_172 (dk_at dksX1_sum_1 14 rfl rfl)
abbrev cX1_dearest : ByteArray := prog_1_method_52_code
def yX1_dearest : MethodName := ⟨RX1, "dearest", "()I"⟩
def dkwX1_dearest_2 : List UInt8 := [182, 1, 72, 27, 160, 0, 5, 29, 172, 132, 3, 1, 167, 255, 220, 2, 172]
abbrev dktX1_dearest_2 : List UInt8 := dkwX1_dearest_2 ++ []
def dkwX1_dearest_1 : List UInt8 := [162, 0, 37, 42, 180, 0, 82, 29, 182, 0, 188, 180, 0, 197, 154, 0, 17, 42, 180, 0, 82, 29]
abbrev dktX1_dearest_1 : List UInt8 := dkwX1_dearest_1 ++ dktX1_dearest_2
def dkwX1_dearest_0 : List UInt8 := [42, 42, 186, 1, 75, 0, 0, 4, 182, 0, 224, 60, 42, 180, 0, 82, 182, 0, 112, 61, 3, 62, 29, 28]
abbrev dktX1_dearest_0 : List UInt8 := dkwX1_dearest_0 ++ dktX1_dearest_1
theorem dksX1_dearest_0 : cX1_dearest.data.toList.drop 0 = dktX1_dearest_0 := by decide +kernel
theorem dksX1_dearest_1 : cX1_dearest.data.toList.drop 24 = dktX1_dearest_1 := dk_seg dksX1_dearest_0 24 rfl rfl
theorem dksX1_dearest_2 : cX1_dearest.data.toList.drop 46 = dktX1_dearest_2 := dk_seg dksX1_dearest_1 22 rfl rfl
theorem dX1_dearest_0 : decode cX1_dearest 0 = .ok (.aload_n 0, 1) := dk_42 (dk_at dksX1_dearest_0 0 rfl rfl)
theorem dX1_dearest_1 : decode cX1_dearest 1 = .ok (.aload_n 0, 1) := dk_42 (dk_at dksX1_dearest_0 1 rfl rfl)
theorem dX1_dearest_2 : decode cX1_dearest 2 = .ok (.invokedynamic 331, 5) := by decide +kernel
theorem dX1_dearest_7 : decode cX1_dearest 7 = .ok (.iconst 1, 1) := dk_4 (dk_at dksX1_dearest_0 7 rfl rfl)
theorem dX1_dearest_8 : decode cX1_dearest 8 = .ok (.invokevirtual 224, 3) := dk_182 0 224 (dk_at dksX1_dearest_0 8 rfl rfl)
theorem dX1_dearest_11 : decode cX1_dearest 11 = .ok (.istore_n 1, 1) := dk_60 (dk_at dksX1_dearest_0 11 rfl rfl)
theorem dX1_dearest_12 : decode cX1_dearest 12 = .ok (.aload_n 0, 1) := dk_42 (dk_at dksX1_dearest_0 12 rfl rfl)
theorem dX1_dearest_13 : decode cX1_dearest 13 = .ok (.getfield 82, 3) := dk_180 0 82 (dk_at dksX1_dearest_0 13 rfl rfl)
theorem dX1_dearest_16 : decode cX1_dearest 16 = .ok (.invokevirtual 112, 3) := dk_182 0 112 (dk_at dksX1_dearest_0 16 rfl rfl)
theorem dX1_dearest_19 : decode cX1_dearest 19 = .ok (.istore_n 2, 1) := dk_61 (dk_at dksX1_dearest_0 19 rfl rfl)
theorem dX1_dearest_20 : decode cX1_dearest 20 = .ok (.iconst 0, 1) := dk_3 (dk_at dksX1_dearest_0 20 rfl rfl)
theorem dX1_dearest_21 : decode cX1_dearest 21 = .ok (.istore_n 3, 1) := dk_62 (dk_at dksX1_dearest_0 21 rfl rfl)
theorem dX1_dearest_22 : decode cX1_dearest 22 = .ok (.iload_n 3, 1) := dk_29 (dk_at dksX1_dearest_0 22 rfl rfl)
theorem dX1_dearest_23 : decode cX1_dearest 23 = .ok (.iload_n 2, 1) := dk_28 (dk_at dksX1_dearest_0 23 rfl rfl)
theorem dX1_dearest_24 : decode cX1_dearest 24 = .ok (.if_icmp .ge 37, 3) := dk_162 0 37 (dk_at dksX1_dearest_1 0 rfl rfl)
theorem dX1_dearest_27 : decode cX1_dearest 27 = .ok (.aload_n 0, 1) := dk_42 (dk_at dksX1_dearest_1 3 rfl rfl)
theorem dX1_dearest_28 : decode cX1_dearest 28 = .ok (.getfield 82, 3) := dk_180 0 82 (dk_at dksX1_dearest_1 4 rfl rfl)
theorem dX1_dearest_31 : decode cX1_dearest 31 = .ok (.iload_n 3, 1) := dk_29 (dk_at dksX1_dearest_1 7 rfl rfl)
theorem dX1_dearest_32 : decode cX1_dearest 32 = .ok (.invokevirtual 188, 3) := dk_182 0 188 (dk_at dksX1_dearest_1 8 rfl rfl)
theorem dX1_dearest_35 : decode cX1_dearest 35 = .ok (.getfield 197, 3) := dk_180 0 197 (dk_at dksX1_dearest_1 11 rfl rfl)
theorem dX1_dearest_38 : decode cX1_dearest 38 = .ok (.ifCond .ne 17, 3) := dk_154 0 17 (dk_at dksX1_dearest_1 14 rfl rfl)
theorem dX1_dearest_41 : decode cX1_dearest 41 = .ok (.aload_n 0, 1) := dk_42 (dk_at dksX1_dearest_1 17 rfl rfl)
theorem dX1_dearest_42 : decode cX1_dearest 42 = .ok (.getfield 82, 3) := dk_180 0 82 (dk_at dksX1_dearest_1 18 rfl rfl)
theorem dX1_dearest_45 : decode cX1_dearest 45 = .ok (.iload_n 3, 1) := dk_29 (dk_at dksX1_dearest_1 21 rfl rfl)
theorem dX1_dearest_46 : decode cX1_dearest 46 = .ok (.invokevirtual 328, 3) := dk_182 1 72 (dk_at dksX1_dearest_2 0 rfl rfl)
theorem dX1_dearest_49 : decode cX1_dearest 49 = .ok (.iload_n 1, 1) := dk_27 (dk_at dksX1_dearest_2 3 rfl rfl)
theorem dX1_dearest_50 : decode cX1_dearest 50 = .ok (.if_icmp .ne 5, 3) := dk_160 0 5 (dk_at dksX1_dearest_2 4 rfl rfl)
theorem dX1_dearest_53 : decode cX1_dearest 53 = .ok (.iload_n 3, 1) := dk_29 (dk_at dksX1_dearest_2 7 rfl rfl)
theorem dX1_dearest_54 : decode cX1_dearest 54 = .ok (.ireturn, 1) := dk_172 (dk_at dksX1_dearest_2 8 rfl rfl)
theorem dX1_dearest_55 : decode cX1_dearest 55 = .ok (.iinc 3 1, 3) := dk_132 3 1 (dk_at dksX1_dearest_2 9 rfl rfl)
theorem dX1_dearest_58 : decode cX1_dearest 58 = .ok (.goto (-36), 3) := dk_167 255 220 (dk_at dksX1_dearest_2 12 rfl rfl)
theorem dX1_dearest_61 : decode cX1_dearest 61 = .ok (.iconst (-1), 1) := dk_2 (dk_at dksX1_dearest_2 15 rfl rfl)
theorem dX1_dearest_62 : decode cX1_dearest 62 = .ok (.ireturn, 1) := dk_172 (dk_at dksX1_dearest_2 16 rfl rfl)
abbrev cX1_lambda_dearest_11 : ByteArray := prog_1_method_75_code
def yX1_lambda_dearest_11 : MethodName := ⟨RX1, "lambda$dearest$11", "(I)I"⟩
def dkwX1_lambda_dearest_11_0 : List UInt8 := [42, 180, 0, 82, 27, 182, 1, 72, 172]
abbrev dktX1_lambda_dearest_11_0 : List UInt8 := dkwX1_lambda_dearest_11_0 ++ []
theorem dksX1_lambda_dearest_11_0 : cX1_lambda_dearest_11.data.toList.drop 0 = dktX1_lambda_dearest_11_0 := by decide +kernel
theorem dX1_lambda_dearest_11_0 : decode cX1_lambda_dearest_11 0 = .ok (.aload_n 0, 1) := dk_42 (dk_at dksX1_lambda_dearest_11_0 0 rfl rfl)
theorem dX1_lambda_dearest_11_1 : decode cX1_lambda_dearest_11 1 = .ok (.getfield 82, 3) := dk_180 0 82 (dk_at dksX1_lambda_dearest_11_0 1 rfl rfl)
theorem dX1_lambda_dearest_11_4 : decode cX1_lambda_dearest_11 4 = .ok (.iload_n 1, 1) := dk_27 (dk_at dksX1_lambda_dearest_11_0 4 rfl rfl)
theorem dX1_lambda_dearest_11_5 : decode cX1_lambda_dearest_11 5 = .ok (.invokevirtual 328, 3) := dk_182 1 72 (dk_at dksX1_lambda_dearest_11_0 5 rfl rfl)
theorem dX1_lambda_dearest_11_8 : decode cX1_lambda_dearest_11 8 = .ok (.ireturn, 1) := dk_172 (dk_at dksX1_lambda_dearest_11_0 8 rfl rfl)
abbrev cX1_overSettled : ByteArray := prog_1_method_24_code
def yX1_overSettled : MethodName := ⟨RX1, "overSettled", "(LHeirCases$OfCase;I)I"⟩
def dkwX1_overSettled_3 : List UInt8 := [132, 5, 1, 167, 255, 199, 29, 172]
abbrev dktX1_overSettled_3 : List UInt8 := dkwX1_overSettled_3 ++ []
def dkwX1_overSettled_2 : List UInt8 := [29, 2, 159, 0, 13, 28, 21, 6, 104, 28, 29, 104, 164, 0, 8, 21, 6, 167, 0, 4, 29, 62]
abbrev dktX1_overSettled_2 : List UInt8 := dkwX1_overSettled_2 ++ dktX1_overSettled_3
def dkwX1_overSettled_1 : List UInt8 := [180, 0, 82, 21, 5, 182, 0, 188, 180, 0, 197, 154, 0, 35, 43, 21, 5, 185, 0, 200, 2, 0, 54, 6]
abbrev dktX1_overSettled_1 : List UInt8 := dkwX1_overSettled_1 ++ dktX1_overSettled_2
def dkwX1_overSettled_0 : List UInt8 := [2, 62, 42, 180, 0, 82, 182, 0, 112, 54, 4, 3, 54, 5, 21, 5, 21, 4, 162, 0, 56, 42]
abbrev dktX1_overSettled_0 : List UInt8 := dkwX1_overSettled_0 ++ dktX1_overSettled_1
theorem dksX1_overSettled_0 : cX1_overSettled.data.toList.drop 0 = dktX1_overSettled_0 := by decide +kernel
theorem dksX1_overSettled_1 : cX1_overSettled.data.toList.drop 22 = dktX1_overSettled_1 := dk_seg dksX1_overSettled_0 22 rfl rfl
theorem dksX1_overSettled_2 : cX1_overSettled.data.toList.drop 46 = dktX1_overSettled_2 := dk_seg dksX1_overSettled_1 24 rfl rfl
theorem dksX1_overSettled_3 : cX1_overSettled.data.toList.drop 68 = dktX1_overSettled_3 := dk_seg dksX1_overSettled_2 22 rfl rfl
theorem dX1_overSettled_0 : decode cX1_overSettled 0 = .ok (.iconst (-1), 1) := dk_2 (dk_at dksX1_overSettled_0 0 rfl rfl)
theorem dX1_overSettled_1 : decode cX1_overSettled 1 = .ok (.istore_n 3, 1) := dk_62 (dk_at dksX1_overSettled_0 1 rfl rfl)
theorem dX1_overSettled_2 : decode cX1_overSettled 2 = .ok (.aload_n 0, 1) := dk_42 (dk_at dksX1_overSettled_0 2 rfl rfl)
theorem dX1_overSettled_3 : decode cX1_overSettled 3 = .ok (.getfield 82, 3) := dk_180 0 82 (dk_at dksX1_overSettled_0 3 rfl rfl)
theorem dX1_overSettled_6 : decode cX1_overSettled 6 = .ok (.invokevirtual 112, 3) := dk_182 0 112 (dk_at dksX1_overSettled_0 6 rfl rfl)
theorem dX1_overSettled_9 : decode cX1_overSettled 9 = .ok (.istore 4, 2) := dk_54 4 (dk_at dksX1_overSettled_0 9 rfl rfl)
theorem dX1_overSettled_11 : decode cX1_overSettled 11 = .ok (.iconst 0, 1) := dk_3 (dk_at dksX1_overSettled_0 11 rfl rfl)
theorem dX1_overSettled_12 : decode cX1_overSettled 12 = .ok (.istore 5, 2) := dk_54 5 (dk_at dksX1_overSettled_0 12 rfl rfl)
theorem dX1_overSettled_14 : decode cX1_overSettled 14 = .ok (.iload 5, 2) := dk_21 5 (dk_at dksX1_overSettled_0 14 rfl rfl)
theorem dX1_overSettled_16 : decode cX1_overSettled 16 = .ok (.iload 4, 2) := dk_21 4 (dk_at dksX1_overSettled_0 16 rfl rfl)
theorem dX1_overSettled_18 : decode cX1_overSettled 18 = .ok (.if_icmp .ge 56, 3) := dk_162 0 56 (dk_at dksX1_overSettled_0 18 rfl rfl)
theorem dX1_overSettled_21 : decode cX1_overSettled 21 = .ok (.aload_n 0, 1) := dk_42 (dk_at dksX1_overSettled_0 21 rfl rfl)
theorem dX1_overSettled_22 : decode cX1_overSettled 22 = .ok (.getfield 82, 3) := dk_180 0 82 (dk_at dksX1_overSettled_1 0 rfl rfl)
theorem dX1_overSettled_25 : decode cX1_overSettled 25 = .ok (.iload 5, 2) := dk_21 5 (dk_at dksX1_overSettled_1 3 rfl rfl)
theorem dX1_overSettled_27 : decode cX1_overSettled 27 = .ok (.invokevirtual 188, 3) := dk_182 0 188 (dk_at dksX1_overSettled_1 5 rfl rfl)
theorem dX1_overSettled_30 : decode cX1_overSettled 30 = .ok (.getfield 197, 3) := dk_180 0 197 (dk_at dksX1_overSettled_1 8 rfl rfl)
theorem dX1_overSettled_33 : decode cX1_overSettled 33 = .ok (.ifCond .ne 35, 3) := dk_154 0 35 (dk_at dksX1_overSettled_1 11 rfl rfl)
theorem dX1_overSettled_36 : decode cX1_overSettled 36 = .ok (.aload_n 1, 1) := dk_43 (dk_at dksX1_overSettled_1 14 rfl rfl)
theorem dX1_overSettled_37 : decode cX1_overSettled 37 = .ok (.iload 5, 2) := dk_21 5 (dk_at dksX1_overSettled_1 15 rfl rfl)
theorem dX1_overSettled_39 : decode cX1_overSettled 39 = .ok (.invokeinterface 200 2, 5) := by decide +kernel
theorem dX1_overSettled_44 : decode cX1_overSettled 44 = .ok (.istore 6, 2) := dk_54 6 (dk_at dksX1_overSettled_1 22 rfl rfl)
theorem dX1_overSettled_46 : decode cX1_overSettled 46 = .ok (.iload_n 3, 1) := dk_29 (dk_at dksX1_overSettled_2 0 rfl rfl)
theorem dX1_overSettled_47 : decode cX1_overSettled 47 = .ok (.iconst (-1), 1) := dk_2 (dk_at dksX1_overSettled_2 1 rfl rfl)
theorem dX1_overSettled_48 : decode cX1_overSettled 48 = .ok (.if_icmp .eq 13, 3) := dk_159 0 13 (dk_at dksX1_overSettled_2 2 rfl rfl)
theorem dX1_overSettled_51 : decode cX1_overSettled 51 = .ok (.iload_n 2, 1) := dk_28 (dk_at dksX1_overSettled_2 5 rfl rfl)
theorem dX1_overSettled_52 : decode cX1_overSettled 52 = .ok (.iload 6, 2) := dk_21 6 (dk_at dksX1_overSettled_2 6 rfl rfl)
theorem dX1_overSettled_54 : decode cX1_overSettled 54 = .ok (.imul, 1) := dk_104 (dk_at dksX1_overSettled_2 8 rfl rfl)
theorem dX1_overSettled_55 : decode cX1_overSettled 55 = .ok (.iload_n 2, 1) := dk_28 (dk_at dksX1_overSettled_2 9 rfl rfl)
theorem dX1_overSettled_56 : decode cX1_overSettled 56 = .ok (.iload_n 3, 1) := dk_29 (dk_at dksX1_overSettled_2 10 rfl rfl)
theorem dX1_overSettled_57 : decode cX1_overSettled 57 = .ok (.imul, 1) := dk_104 (dk_at dksX1_overSettled_2 11 rfl rfl)
theorem dX1_overSettled_58 : decode cX1_overSettled 58 = .ok (.if_icmp .le 8, 3) := dk_164 0 8 (dk_at dksX1_overSettled_2 12 rfl rfl)
theorem dX1_overSettled_61 : decode cX1_overSettled 61 = .ok (.iload 6, 2) := dk_21 6 (dk_at dksX1_overSettled_2 15 rfl rfl)
theorem dX1_overSettled_63 : decode cX1_overSettled 63 = .ok (.goto 4, 3) := dk_167 0 4 (dk_at dksX1_overSettled_2 17 rfl rfl)
theorem dX1_overSettled_66 : decode cX1_overSettled 66 = .ok (.iload_n 3, 1) := dk_29 (dk_at dksX1_overSettled_2 20 rfl rfl)
theorem dX1_overSettled_67 : decode cX1_overSettled 67 = .ok (.istore_n 3, 1) := dk_62 (dk_at dksX1_overSettled_2 21 rfl rfl)
theorem dX1_overSettled_68 : decode cX1_overSettled 68 = .ok (.iinc 5 1, 3) := dk_132 5 1 (dk_at dksX1_overSettled_3 0 rfl rfl)
theorem dX1_overSettled_71 : decode cX1_overSettled 71 = .ok (.goto (-57), 3) := dk_167 255 199 (dk_at dksX1_overSettled_3 3 rfl rfl)
theorem dX1_overSettled_74 : decode cX1_overSettled 74 = .ok (.iload_n 3, 1) := dk_29 (dk_at dksX1_overSettled_3 6 rfl rfl)
theorem dX1_overSettled_75 : decode cX1_overSettled 75 = .ok (.ireturn, 1) := dk_172 (dk_at dksX1_overSettled_3 7 rfl rfl)
abbrev cX1_gap : ByteArray := prog_1_method_54_code
def yX1_gap : MethodName := ⟨RX1, "gap", "()I"⟩
def dkwX1_gap_0 : List UInt8 := [42, 42, 186, 1, 78, 0, 0, 182, 0, 244, 172]
abbrev dktX1_gap_0 : List UInt8 := dkwX1_gap_0 ++ []
theorem dksX1_gap_0 : cX1_gap.data.toList.drop 0 = dktX1_gap_0 := by decide +kernel
theorem dX1_gap_0 : decode cX1_gap 0 = .ok (.aload_n 0, 1) := dk_42 (dk_at dksX1_gap_0 0 rfl rfl)
theorem dX1_gap_1 : decode cX1_gap 1 = .ok (.aload_n 0, 1) := dk_42 (dk_at dksX1_gap_0 1 rfl rfl)
theorem dX1_gap_2 : decode cX1_gap 2 = .ok (.invokedynamic 334, 5) := by decide +kernel
theorem dX1_gap_7 : decode cX1_gap 7 = .ok (.invokevirtual 244, 3) := dk_182 0 244 (dk_at dksX1_gap_0 7 rfl rfl)
theorem dX1_gap_10 : decode cX1_gap 10 = .ok (.ireturn, 1) := dk_172 (dk_at dksX1_gap_0 10 rfl rfl)
abbrev cX1_left : ByteArray := prog_1_method_53_code
def yX1_left : MethodName := ⟨RX1, "left", "(I)I"⟩
def dkwX1_left_2 : List UInt8 := [182, 0, 214, 100, 61, 132, 3, 1, 167, 255, 230, 28, 172]
abbrev dktX1_left_2 : List UInt8 := dkwX1_left_2 ++ []
def dkwX1_left_1 : List UInt8 := [3, 61, 3, 62, 29, 42, 180, 0, 82, 180, 0, 135, 162, 0, 21, 28, 42, 180, 0, 82, 27, 29]
abbrev dktX1_left_1 : List UInt8 := dkwX1_left_1 ++ dktX1_left_2
def dkwX1_left_0 : List UInt8 := [42, 180, 0, 82, 27, 182, 0, 188, 180, 0, 197, 154, 0, 13, 42, 180, 0, 82, 180, 0, 172, 167, 0, 4]
abbrev dktX1_left_0 : List UInt8 := dkwX1_left_0 ++ dktX1_left_1
theorem dksX1_left_0 : cX1_left.data.toList.drop 0 = dktX1_left_0 := by decide +kernel
theorem dksX1_left_1 : cX1_left.data.toList.drop 24 = dktX1_left_1 := dk_seg dksX1_left_0 24 rfl rfl
theorem dksX1_left_2 : cX1_left.data.toList.drop 46 = dktX1_left_2 := dk_seg dksX1_left_1 22 rfl rfl
theorem dX1_left_0 : decode cX1_left 0 = .ok (.aload_n 0, 1) := dk_42 (dk_at dksX1_left_0 0 rfl rfl)
theorem dX1_left_1 : decode cX1_left 1 = .ok (.getfield 82, 3) := dk_180 0 82 (dk_at dksX1_left_0 1 rfl rfl)
theorem dX1_left_4 : decode cX1_left 4 = .ok (.iload_n 1, 1) := dk_27 (dk_at dksX1_left_0 4 rfl rfl)
theorem dX1_left_5 : decode cX1_left 5 = .ok (.invokevirtual 188, 3) := dk_182 0 188 (dk_at dksX1_left_0 5 rfl rfl)
theorem dX1_left_8 : decode cX1_left 8 = .ok (.getfield 197, 3) := dk_180 0 197 (dk_at dksX1_left_0 8 rfl rfl)
theorem dX1_left_11 : decode cX1_left 11 = .ok (.ifCond .ne 13, 3) := dk_154 0 13 (dk_at dksX1_left_0 11 rfl rfl)
theorem dX1_left_14 : decode cX1_left 14 = .ok (.aload_n 0, 1) := dk_42 (dk_at dksX1_left_0 14 rfl rfl)
theorem dX1_left_15 : decode cX1_left 15 = .ok (.getfield 82, 3) := dk_180 0 82 (dk_at dksX1_left_0 15 rfl rfl)
theorem dX1_left_18 : decode cX1_left 18 = .ok (.getfield 172, 3) := dk_180 0 172 (dk_at dksX1_left_0 18 rfl rfl)
theorem dX1_left_21 : decode cX1_left 21 = .ok (.goto 4, 3) := dk_167 0 4 (dk_at dksX1_left_0 21 rfl rfl)
theorem dX1_left_24 : decode cX1_left 24 = .ok (.iconst 0, 1) := dk_3 (dk_at dksX1_left_1 0 rfl rfl)
theorem dX1_left_25 : decode cX1_left 25 = .ok (.istore_n 2, 1) := dk_61 (dk_at dksX1_left_1 1 rfl rfl)
theorem dX1_left_26 : decode cX1_left 26 = .ok (.iconst 0, 1) := dk_3 (dk_at dksX1_left_1 2 rfl rfl)
theorem dX1_left_27 : decode cX1_left 27 = .ok (.istore_n 3, 1) := dk_62 (dk_at dksX1_left_1 3 rfl rfl)
theorem dX1_left_28 : decode cX1_left 28 = .ok (.iload_n 3, 1) := dk_29 (dk_at dksX1_left_1 4 rfl rfl)
theorem dX1_left_29 : decode cX1_left 29 = .ok (.aload_n 0, 1) := dk_42 (dk_at dksX1_left_1 5 rfl rfl)
theorem dX1_left_30 : decode cX1_left 30 = .ok (.getfield 82, 3) := dk_180 0 82 (dk_at dksX1_left_1 6 rfl rfl)
theorem dX1_left_33 : decode cX1_left 33 = .ok (.getfield 135, 3) := dk_180 0 135 (dk_at dksX1_left_1 9 rfl rfl)
theorem dX1_left_36 : decode cX1_left 36 = .ok (.if_icmp .ge 21, 3) := dk_162 0 21 (dk_at dksX1_left_1 12 rfl rfl)
theorem dX1_left_39 : decode cX1_left 39 = .ok (.iload_n 2, 1) := dk_28 (dk_at dksX1_left_1 15 rfl rfl)
theorem dX1_left_40 : decode cX1_left 40 = .ok (.aload_n 0, 1) := dk_42 (dk_at dksX1_left_1 16 rfl rfl)
theorem dX1_left_41 : decode cX1_left 41 = .ok (.getfield 82, 3) := dk_180 0 82 (dk_at dksX1_left_1 17 rfl rfl)
theorem dX1_left_44 : decode cX1_left 44 = .ok (.iload_n 1, 1) := dk_27 (dk_at dksX1_left_1 20 rfl rfl)
theorem dX1_left_45 : decode cX1_left 45 = .ok (.iload_n 3, 1) := dk_29 (dk_at dksX1_left_1 21 rfl rfl)
theorem dX1_left_46 : decode cX1_left 46 = .ok (.invokevirtual 214, 3) := dk_182 0 214 (dk_at dksX1_left_2 0 rfl rfl)
theorem dX1_left_49 : decode cX1_left 49 = .ok (.isub, 1) := dk_100 (dk_at dksX1_left_2 3 rfl rfl)
theorem dX1_left_50 : decode cX1_left 50 = .ok (.istore_n 2, 1) := dk_61 (dk_at dksX1_left_2 4 rfl rfl)
theorem dX1_left_51 : decode cX1_left 51 = .ok (.iinc 3 1, 3) := dk_132 3 1 (dk_at dksX1_left_2 5 rfl rfl)
theorem dX1_left_54 : decode cX1_left 54 = .ok (.goto (-26), 3) := dk_167 255 230 (dk_at dksX1_left_2 8 rfl rfl)
theorem dX1_left_57 : decode cX1_left 57 = .ok (.iload_n 2, 1) := dk_28 (dk_at dksX1_left_2 11 rfl rfl)
theorem dX1_left_58 : decode cX1_left 58 = .ok (.ireturn, 1) := dk_172 (dk_at dksX1_left_2 12 rfl rfl)
abbrev cX1_settledShare : ByteArray := prog_1_method_55_code
def yX1_settledShare : MethodName := ⟨RX1, "settledShare", "()F"⟩
def dkwX1_settledShare_0 : List UInt8 := [42, 180, 0, 82, 3, 182, 0, 178, 134, 42, 180, 0, 82, 182, 0, 112, 134, 110, 174]
abbrev dktX1_settledShare_0 : List UInt8 := dkwX1_settledShare_0 ++ []
theorem dksX1_settledShare_0 : cX1_settledShare.data.toList.drop 0 = dktX1_settledShare_0 := by decide +kernel
theorem dX1_settledShare_0 : decode cX1_settledShare 0 = .ok (.aload_n 0, 1) := dk_42 (dk_at dksX1_settledShare_0 0 rfl rfl)
theorem dX1_settledShare_1 : decode cX1_settledShare 1 = .ok (.getfield 82, 3) := dk_180 0 82 (dk_at dksX1_settledShare_0 1 rfl rfl)
theorem dX1_settledShare_4 : decode cX1_settledShare 4 = .ok (.iconst 0, 1) := dk_3 (dk_at dksX1_settledShare_0 4 rfl rfl)
theorem dX1_settledShare_5 : decode cX1_settledShare 5 = .ok (.invokevirtual 178, 3) := dk_182 0 178 (dk_at dksX1_settledShare_0 5 rfl rfl)
theorem dX1_settledShare_8 : decode cX1_settledShare 8 = .ok (.i2f, 1) := dk_134 (dk_at dksX1_settledShare_0 8 rfl rfl)
theorem dX1_settledShare_9 : decode cX1_settledShare 9 = .ok (.aload_n 0, 1) := dk_42 (dk_at dksX1_settledShare_0 9 rfl rfl)
theorem dX1_settledShare_10 : decode cX1_settledShare 10 = .ok (.getfield 82, 3) := dk_180 0 82 (dk_at dksX1_settledShare_0 10 rfl rfl)
theorem dX1_settledShare_13 : decode cX1_settledShare 13 = .ok (.invokevirtual 112, 3) := dk_182 0 112 (dk_at dksX1_settledShare_0 13 rfl rfl)
theorem dX1_settledShare_16 : decode cX1_settledShare 16 = .ok (.i2f, 1) := dk_134 (dk_at dksX1_settledShare_0 16 rfl rfl)
theorem dX1_settledShare_17 : decode cX1_settledShare 17 = .ok (.fdiv, 1) := dk_110 (dk_at dksX1_settledShare_0 17 rfl rfl)
theorem dX1_settledShare_18 : decode cX1_settledShare 18 = .ok (.freturn, 1) := dk_174 (dk_at dksX1_settledShare_0 18 rfl rfl)
abbrev cX1_meanDuties : ByteArray := prog_1_method_56_code
def yX1_meanDuties : MethodName := ⟨RX1, "meanDuties", "()D"⟩
def dkwX1_meanDuties_1 : List UInt8 := [14, 167, 0, 8, 28, 135, 27, 135, 111, 175]
abbrev dktX1_meanDuties_1 : List UInt8 := dkwX1_meanDuties_1 ++ []
def dkwX1_meanDuties_0 : List UInt8 := [42, 180, 0, 82, 3, 182, 0, 178, 60, 42, 42, 186, 1, 79, 0, 0, 182, 0, 244, 61, 27, 154, 0, 7]
abbrev dktX1_meanDuties_0 : List UInt8 := dkwX1_meanDuties_0 ++ dktX1_meanDuties_1
theorem dksX1_meanDuties_0 : cX1_meanDuties.data.toList.drop 0 = dktX1_meanDuties_0 := by decide +kernel
theorem dksX1_meanDuties_1 : cX1_meanDuties.data.toList.drop 24 = dktX1_meanDuties_1 := dk_seg dksX1_meanDuties_0 24 rfl rfl
theorem dX1_meanDuties_0 : decode cX1_meanDuties 0 = .ok (.aload_n 0, 1) := dk_42 (dk_at dksX1_meanDuties_0 0 rfl rfl)
theorem dX1_meanDuties_1 : decode cX1_meanDuties 1 = .ok (.getfield 82, 3) := dk_180 0 82 (dk_at dksX1_meanDuties_0 1 rfl rfl)
theorem dX1_meanDuties_4 : decode cX1_meanDuties 4 = .ok (.iconst 0, 1) := dk_3 (dk_at dksX1_meanDuties_0 4 rfl rfl)
theorem dX1_meanDuties_5 : decode cX1_meanDuties 5 = .ok (.invokevirtual 178, 3) := dk_182 0 178 (dk_at dksX1_meanDuties_0 5 rfl rfl)
theorem dX1_meanDuties_8 : decode cX1_meanDuties 8 = .ok (.istore_n 1, 1) := dk_60 (dk_at dksX1_meanDuties_0 8 rfl rfl)
theorem dX1_meanDuties_9 : decode cX1_meanDuties 9 = .ok (.aload_n 0, 1) := dk_42 (dk_at dksX1_meanDuties_0 9 rfl rfl)
theorem dX1_meanDuties_10 : decode cX1_meanDuties 10 = .ok (.aload_n 0, 1) := dk_42 (dk_at dksX1_meanDuties_0 10 rfl rfl)
theorem dX1_meanDuties_11 : decode cX1_meanDuties 11 = .ok (.invokedynamic 335, 5) := by decide +kernel
theorem dX1_meanDuties_16 : decode cX1_meanDuties 16 = .ok (.invokevirtual 244, 3) := dk_182 0 244 (dk_at dksX1_meanDuties_0 16 rfl rfl)
theorem dX1_meanDuties_19 : decode cX1_meanDuties 19 = .ok (.istore_n 2, 1) := dk_61 (dk_at dksX1_meanDuties_0 19 rfl rfl)
theorem dX1_meanDuties_20 : decode cX1_meanDuties 20 = .ok (.iload_n 1, 1) := dk_27 (dk_at dksX1_meanDuties_0 20 rfl rfl)
theorem dX1_meanDuties_21 : decode cX1_meanDuties 21 = .ok (.ifCond .ne 7, 3) := dk_154 0 7 (dk_at dksX1_meanDuties_0 21 rfl rfl)
theorem dX1_meanDuties_24 : decode cX1_meanDuties 24 = .ok (.dconst 0, 1) := dk_14 (dk_at dksX1_meanDuties_1 0 rfl rfl)
theorem dX1_meanDuties_25 : decode cX1_meanDuties 25 = .ok (.goto 8, 3) := dk_167 0 8 (dk_at dksX1_meanDuties_1 1 rfl rfl)
theorem dX1_meanDuties_28 : decode cX1_meanDuties 28 = .ok (.iload_n 2, 1) := dk_28 (dk_at dksX1_meanDuties_1 4 rfl rfl)
theorem dX1_meanDuties_29 : decode cX1_meanDuties 29 = .ok (.i2d, 1) := dk_135 (dk_at dksX1_meanDuties_1 5 rfl rfl)
theorem dX1_meanDuties_30 : decode cX1_meanDuties 30 = .ok (.iload_n 1, 1) := dk_27 (dk_at dksX1_meanDuties_1 6 rfl rfl)
theorem dX1_meanDuties_31 : decode cX1_meanDuties 31 = .ok (.i2d, 1) := dk_135 (dk_at dksX1_meanDuties_1 7 rfl rfl)
theorem dX1_meanDuties_32 : decode cX1_meanDuties 32 = .ok (.ddiv, 1) := dk_111 (dk_at dksX1_meanDuties_1 8 rfl rfl)
theorem dX1_meanDuties_33 : decode cX1_meanDuties 33 = .ok (.dreturn, 1) := dk_175 (dk_at dksX1_meanDuties_1 9 rfl rfl)
abbrev cX1_lambda_meanDuties_12 : ByteArray := prog_1_method_74_code
def yX1_lambda_meanDuties_12 : MethodName := ⟨RX1, "lambda$meanDuties$12", "(I)I"⟩
def dkwX1_lambda_meanDuties_12_0 : List UInt8 := [42, 180, 0, 82, 27, 182, 1, 72, 172]
abbrev dktX1_lambda_meanDuties_12_0 : List UInt8 := dkwX1_lambda_meanDuties_12_0 ++ []
theorem dksX1_lambda_meanDuties_12_0 : cX1_lambda_meanDuties_12.data.toList.drop 0 = dktX1_lambda_meanDuties_12_0 := by decide +kernel
theorem dX1_lambda_meanDuties_12_0 : decode cX1_lambda_meanDuties_12 0 = .ok (.aload_n 0, 1) := dk_42 (dk_at dksX1_lambda_meanDuties_12_0 0 rfl rfl)
theorem dX1_lambda_meanDuties_12_1 : decode cX1_lambda_meanDuties_12 1 = .ok (.getfield 82, 3) := dk_180 0 82 (dk_at dksX1_lambda_meanDuties_12_0 1 rfl rfl)
theorem dX1_lambda_meanDuties_12_4 : decode cX1_lambda_meanDuties_12 4 = .ok (.iload_n 1, 1) := dk_27 (dk_at dksX1_lambda_meanDuties_12_0 4 rfl rfl)
theorem dX1_lambda_meanDuties_12_5 : decode cX1_lambda_meanDuties_12 5 = .ok (.invokevirtual 328, 3) := dk_182 1 72 (dk_at dksX1_lambda_meanDuties_12_0 5 rfl rfl)
theorem dX1_lambda_meanDuties_12_8 : decode cX1_lambda_meanDuties_12 8 = .ok (.ireturn, 1) := dk_172 (dk_at dksX1_lambda_meanDuties_12_0 8 rfl rfl)
abbrev cX1_writeVerdicts : ByteArray := prog_1_method_60_code
def yX1_writeVerdicts : MethodName := ⟨RX1, "writeVerdicts", "()I"⟩
def dkwX1_writeVerdicts_2 : List UInt8 := [132, 2, 1, 167, 255, 229, 42, 180, 0, 43, 182, 0, 143, 172]
abbrev dktX1_writeVerdicts_2 : List UInt8 := dkwX1_writeVerdicts_2 ++ []
def dkwX1_writeVerdicts_1 : List UInt8 := [162, 0, 28, 42, 180, 0, 43, 42, 180, 0, 82, 28, 182, 0, 188, 184, 1, 122, 182, 1, 87, 87]
abbrev dktX1_writeVerdicts_1 : List UInt8 := dkwX1_writeVerdicts_1 ++ dktX1_writeVerdicts_2
def dkwX1_writeVerdicts_0 : List UInt8 := [42, 187, 0, 36, 89, 183, 0, 38, 181, 0, 43, 42, 180, 0, 82, 182, 0, 112, 60, 3, 61, 28, 27]
abbrev dktX1_writeVerdicts_0 : List UInt8 := dkwX1_writeVerdicts_0 ++ dktX1_writeVerdicts_1
theorem dksX1_writeVerdicts_0 : cX1_writeVerdicts.data.toList.drop 0 = dktX1_writeVerdicts_0 := by decide +kernel
theorem dksX1_writeVerdicts_1 : cX1_writeVerdicts.data.toList.drop 23 = dktX1_writeVerdicts_1 := dk_seg dksX1_writeVerdicts_0 23 rfl rfl
theorem dksX1_writeVerdicts_2 : cX1_writeVerdicts.data.toList.drop 45 = dktX1_writeVerdicts_2 := dk_seg dksX1_writeVerdicts_1 22 rfl rfl
theorem dX1_writeVerdicts_0 : decode cX1_writeVerdicts 0 = .ok (.aload_n 0, 1) := dk_42 (dk_at dksX1_writeVerdicts_0 0 rfl rfl)
theorem dX1_writeVerdicts_1 : decode cX1_writeVerdicts 1 = .ok (.new 36, 3) := dk_187 0 36 (dk_at dksX1_writeVerdicts_0 1 rfl rfl)
theorem dX1_writeVerdicts_4 : decode cX1_writeVerdicts 4 = .ok (.dup, 1) := dk_89 (dk_at dksX1_writeVerdicts_0 4 rfl rfl)
theorem dX1_writeVerdicts_5 : decode cX1_writeVerdicts 5 = .ok (.invokespecial 38, 3) := dk_183 0 38 (dk_at dksX1_writeVerdicts_0 5 rfl rfl)
theorem dX1_writeVerdicts_8 : decode cX1_writeVerdicts 8 = .ok (.putfield 43, 3) := dk_181 0 43 (dk_at dksX1_writeVerdicts_0 8 rfl rfl)
theorem dX1_writeVerdicts_11 : decode cX1_writeVerdicts 11 = .ok (.aload_n 0, 1) := dk_42 (dk_at dksX1_writeVerdicts_0 11 rfl rfl)
theorem dX1_writeVerdicts_12 : decode cX1_writeVerdicts 12 = .ok (.getfield 82, 3) := dk_180 0 82 (dk_at dksX1_writeVerdicts_0 12 rfl rfl)
theorem dX1_writeVerdicts_15 : decode cX1_writeVerdicts 15 = .ok (.invokevirtual 112, 3) := dk_182 0 112 (dk_at dksX1_writeVerdicts_0 15 rfl rfl)
theorem dX1_writeVerdicts_18 : decode cX1_writeVerdicts 18 = .ok (.istore_n 1, 1) := dk_60 (dk_at dksX1_writeVerdicts_0 18 rfl rfl)
theorem dX1_writeVerdicts_19 : decode cX1_writeVerdicts 19 = .ok (.iconst 0, 1) := dk_3 (dk_at dksX1_writeVerdicts_0 19 rfl rfl)
theorem dX1_writeVerdicts_20 : decode cX1_writeVerdicts 20 = .ok (.istore_n 2, 1) := dk_61 (dk_at dksX1_writeVerdicts_0 20 rfl rfl)
theorem dX1_writeVerdicts_21 : decode cX1_writeVerdicts 21 = .ok (.iload_n 2, 1) := dk_28 (dk_at dksX1_writeVerdicts_0 21 rfl rfl)
theorem dX1_writeVerdicts_22 : decode cX1_writeVerdicts 22 = .ok (.iload_n 1, 1) := dk_27 (dk_at dksX1_writeVerdicts_0 22 rfl rfl)
theorem dX1_writeVerdicts_23 : decode cX1_writeVerdicts 23 = .ok (.if_icmp .ge 28, 3) := dk_162 0 28 (dk_at dksX1_writeVerdicts_1 0 rfl rfl)
theorem dX1_writeVerdicts_26 : decode cX1_writeVerdicts 26 = .ok (.aload_n 0, 1) := dk_42 (dk_at dksX1_writeVerdicts_1 3 rfl rfl)
theorem dX1_writeVerdicts_27 : decode cX1_writeVerdicts 27 = .ok (.getfield 43, 3) := dk_180 0 43 (dk_at dksX1_writeVerdicts_1 4 rfl rfl)
theorem dX1_writeVerdicts_30 : decode cX1_writeVerdicts 30 = .ok (.aload_n 0, 1) := dk_42 (dk_at dksX1_writeVerdicts_1 7 rfl rfl)
theorem dX1_writeVerdicts_31 : decode cX1_writeVerdicts 31 = .ok (.getfield 82, 3) := dk_180 0 82 (dk_at dksX1_writeVerdicts_1 8 rfl rfl)
theorem dX1_writeVerdicts_34 : decode cX1_writeVerdicts 34 = .ok (.iload_n 2, 1) := dk_28 (dk_at dksX1_writeVerdicts_1 11 rfl rfl)
theorem dX1_writeVerdicts_35 : decode cX1_writeVerdicts 35 = .ok (.invokevirtual 188, 3) := dk_182 0 188 (dk_at dksX1_writeVerdicts_1 12 rfl rfl)
theorem dX1_writeVerdicts_38 : decode cX1_writeVerdicts 38 = .ok (.invokestatic 378, 3) := dk_184 1 122 (dk_at dksX1_writeVerdicts_1 15 rfl rfl)
theorem dX1_writeVerdicts_41 : decode cX1_writeVerdicts 41 = .ok (.invokevirtual 343, 3) := dk_182 1 87 (dk_at dksX1_writeVerdicts_1 18 rfl rfl)
theorem dX1_writeVerdicts_44 : decode cX1_writeVerdicts 44 = .ok (.pop, 1) := dk_87 (dk_at dksX1_writeVerdicts_1 21 rfl rfl)
theorem dX1_writeVerdicts_45 : decode cX1_writeVerdicts 45 = .ok (.iinc 2 1, 3) := dk_132 2 1 (dk_at dksX1_writeVerdicts_2 0 rfl rfl)
theorem dX1_writeVerdicts_48 : decode cX1_writeVerdicts 48 = .ok (.goto (-27), 3) := dk_167 255 229 (dk_at dksX1_writeVerdicts_2 3 rfl rfl)
theorem dX1_writeVerdicts_51 : decode cX1_writeVerdicts 51 = .ok (.aload_n 0, 1) := dk_42 (dk_at dksX1_writeVerdicts_2 6 rfl rfl)
theorem dX1_writeVerdicts_52 : decode cX1_writeVerdicts 52 = .ok (.getfield 43, 3) := dk_180 0 43 (dk_at dksX1_writeVerdicts_2 7 rfl rfl)
theorem dX1_writeVerdicts_55 : decode cX1_writeVerdicts 55 = .ok (.invokevirtual 143, 3) := dk_182 0 143 (dk_at dksX1_writeVerdicts_2 10 rfl rfl)
theorem dX1_writeVerdicts_58 : decode cX1_writeVerdicts 58 = .ok (.ireturn, 1) := dk_172 (dk_at dksX1_writeVerdicts_2 13 rfl rfl)
abbrev cX1_signOf : ByteArray := prog_1_method_59_code
def yX1_signOf : MethodName := ⟨RX1, "signOf", "(LHeirCases$Finding;)Ljava/lang/String;"⟩
def dkwX1_signOf_2 : List UInt8 := [42, 180, 1, 9, 184, 1, 115, 167, 0, 12, 19, 1, 118, 167, 0, 6, 19, 1, 120, 176]
abbrev dktX1_signOf_2 : List UInt8 := dkwX1_signOf_2 ++ []
def dkwX1_signOf_1 : List UInt8 := [171, 0, 0, 0, 0, 0, 0, 44, 0, 0, 0, 2, 0, 0, 0, 0, 0, 0, 0, 28, 0, 0, 0, 3, 0, 0, 0, 38]
abbrev dktX1_signOf_1 : List UInt8 := dkwX1_signOf_1 ++ dktX1_signOf_2
def dkwX1_signOf_0 : List UInt8 := [42, 180, 0, 197]
abbrev dktX1_signOf_0 : List UInt8 := dkwX1_signOf_0 ++ dktX1_signOf_1
theorem dksX1_signOf_0 : cX1_signOf.data.toList.drop 0 = dktX1_signOf_0 := by decide +kernel
theorem dksX1_signOf_1 : cX1_signOf.data.toList.drop 4 = dktX1_signOf_1 := dk_seg dksX1_signOf_0 4 rfl rfl
theorem dksX1_signOf_2 : cX1_signOf.data.toList.drop 32 = dktX1_signOf_2 := dk_seg dksX1_signOf_1 28 rfl rfl
theorem dX1_signOf_0 : decode cX1_signOf 0 = .ok (.aload_n 0, 1) := dk_42 (dk_at dksX1_signOf_0 0 rfl rfl)
theorem dX1_signOf_1 : decode cX1_signOf 1 = .ok (.getfield 197, 3) := dk_180 0 197 (dk_at dksX1_signOf_0 1 rfl rfl)
theorem dX1_signOf_4 : decode cX1_signOf 4 = .ok (.lookupswitch 44 #[(0, 28), (3, 38)], 28) := by decide +kernel
theorem dX1_signOf_32 : decode cX1_signOf 32 = .ok (.aload_n 0, 1) := dk_42 (dk_at dksX1_signOf_2 0 rfl rfl)
theorem dX1_signOf_33 : decode cX1_signOf 33 = .ok (.getfield 265, 3) := dk_180 1 9 (dk_at dksX1_signOf_2 1 rfl rfl)
theorem dX1_signOf_36 : decode cX1_signOf 36 = .ok (.invokestatic 371, 3) := dk_184 1 115 (dk_at dksX1_signOf_2 4 rfl rfl)
theorem dX1_signOf_39 : decode cX1_signOf 39 = .ok (.goto 12, 3) := dk_167 0 12 (dk_at dksX1_signOf_2 7 rfl rfl)
theorem dX1_signOf_42 : decode cX1_signOf 42 = .ok (.ldc_w 374, 3) := dk_19 1 118 (dk_at dksX1_signOf_2 10 rfl rfl)
theorem dX1_signOf_45 : decode cX1_signOf 45 = .ok (.goto 6, 3) := dk_167 0 6 (dk_at dksX1_signOf_2 13 rfl rfl)
theorem dX1_signOf_48 : decode cX1_signOf 48 = .ok (.ldc_w 376, 3) := dk_19 1 120 (dk_at dksX1_signOf_2 16 rfl rfl)
theorem dX1_signOf_51 : decode cX1_signOf 51 = .ok (.areturn, 1) := dk_176 (dk_at dksX1_signOf_2 19 rfl rfl)
abbrev cX1_reportAt : ByteArray := prog_1_method_61_code
def yX1_reportAt : MethodName := ⟨RX1, "reportAt", "(I)C"⟩
def dkwX1_reportAt_1 : List UInt8 := [182, 1, 126, 172]
abbrev dktX1_reportAt_1 : List UInt8 := dkwX1_reportAt_1 ++ []
def dkwX1_reportAt_0 : List UInt8 := [27, 155, 0, 14, 27, 42, 180, 0, 43, 182, 0, 143, 161, 0, 7, 3, 167, 0, 11, 42, 180, 0, 43, 27]
abbrev dktX1_reportAt_0 : List UInt8 := dkwX1_reportAt_0 ++ dktX1_reportAt_1
theorem dksX1_reportAt_0 : cX1_reportAt.data.toList.drop 0 = dktX1_reportAt_0 := by decide +kernel
theorem dksX1_reportAt_1 : cX1_reportAt.data.toList.drop 24 = dktX1_reportAt_1 := dk_seg dksX1_reportAt_0 24 rfl rfl
theorem dX1_reportAt_0 : decode cX1_reportAt 0 = .ok (.iload_n 1, 1) := dk_27 (dk_at dksX1_reportAt_0 0 rfl rfl)
theorem dX1_reportAt_1 : decode cX1_reportAt 1 = .ok (.ifCond .lt 14, 3) := dk_155 0 14 (dk_at dksX1_reportAt_0 1 rfl rfl)
theorem dX1_reportAt_4 : decode cX1_reportAt 4 = .ok (.iload_n 1, 1) := dk_27 (dk_at dksX1_reportAt_0 4 rfl rfl)
theorem dX1_reportAt_5 : decode cX1_reportAt 5 = .ok (.aload_n 0, 1) := dk_42 (dk_at dksX1_reportAt_0 5 rfl rfl)
theorem dX1_reportAt_6 : decode cX1_reportAt 6 = .ok (.getfield 43, 3) := dk_180 0 43 (dk_at dksX1_reportAt_0 6 rfl rfl)
theorem dX1_reportAt_9 : decode cX1_reportAt 9 = .ok (.invokevirtual 143, 3) := dk_182 0 143 (dk_at dksX1_reportAt_0 9 rfl rfl)
theorem dX1_reportAt_12 : decode cX1_reportAt 12 = .ok (.if_icmp .lt 7, 3) := dk_161 0 7 (dk_at dksX1_reportAt_0 12 rfl rfl)
theorem dX1_reportAt_15 : decode cX1_reportAt 15 = .ok (.iconst 0, 1) := dk_3 (dk_at dksX1_reportAt_0 15 rfl rfl)
theorem dX1_reportAt_16 : decode cX1_reportAt 16 = .ok (.goto 11, 3) := dk_167 0 11 (dk_at dksX1_reportAt_0 16 rfl rfl)
theorem dX1_reportAt_19 : decode cX1_reportAt 19 = .ok (.aload_n 0, 1) := dk_42 (dk_at dksX1_reportAt_0 19 rfl rfl)
theorem dX1_reportAt_20 : decode cX1_reportAt 20 = .ok (.getfield 43, 3) := dk_180 0 43 (dk_at dksX1_reportAt_0 20 rfl rfl)
theorem dX1_reportAt_23 : decode cX1_reportAt 23 = .ok (.iload_n 1, 1) := dk_27 (dk_at dksX1_reportAt_0 23 rfl rfl)
theorem dX1_reportAt_24 : decode cX1_reportAt 24 = .ok (.invokevirtual 382, 3) := dk_182 1 126 (dk_at dksX1_reportAt_1 0 rfl rfl)
theorem dX1_reportAt_27 : decode cX1_reportAt 27 = .ok (.ireturn, 1) := dk_172 (dk_at dksX1_reportAt_1 3 rfl rfl)
abbrev cX1_undo : ByteArray := prog_1_method_70_code
def yX1_undo : MethodName := ⟨RX1, "undo", "()I"⟩
def dkwX1_undo_1 : List UInt8 := [181, 0, 82, 42, 180, 0, 24, 182, 0, 93, 172]
abbrev dktX1_undo_1 : List UInt8 := dkwX1_undo_1 ++ []
def dkwX1_undo_0 : List UInt8 := [42, 180, 0, 24, 182, 1, 149, 153, 0, 5, 2, 172, 42, 42, 180, 0, 24, 182, 1, 153, 192, 0, 30]
abbrev dktX1_undo_0 : List UInt8 := dkwX1_undo_0 ++ dktX1_undo_1
theorem dksX1_undo_0 : cX1_undo.data.toList.drop 0 = dktX1_undo_0 := by decide +kernel
theorem dksX1_undo_1 : cX1_undo.data.toList.drop 23 = dktX1_undo_1 := dk_seg dksX1_undo_0 23 rfl rfl
theorem dX1_undo_0 : decode cX1_undo 0 = .ok (.aload_n 0, 1) := dk_42 (dk_at dksX1_undo_0 0 rfl rfl)
theorem dX1_undo_1 : decode cX1_undo 1 = .ok (.getfield 24, 3) := dk_180 0 24 (dk_at dksX1_undo_0 1 rfl rfl)
theorem dX1_undo_4 : decode cX1_undo 4 = .ok (.invokevirtual 405, 3) := dk_182 1 149 (dk_at dksX1_undo_0 4 rfl rfl)
theorem dX1_undo_7 : decode cX1_undo 7 = .ok (.ifCond .eq 5, 3) := dk_153 0 5 (dk_at dksX1_undo_0 7 rfl rfl)
theorem dX1_undo_10 : decode cX1_undo 10 = .ok (.iconst (-1), 1) := dk_2 (dk_at dksX1_undo_0 10 rfl rfl)
theorem dX1_undo_11 : decode cX1_undo 11 = .ok (.ireturn, 1) := dk_172 (dk_at dksX1_undo_0 11 rfl rfl)
theorem dX1_undo_12 : decode cX1_undo 12 = .ok (.aload_n 0, 1) := dk_42 (dk_at dksX1_undo_0 12 rfl rfl)
theorem dX1_undo_13 : decode cX1_undo 13 = .ok (.aload_n 0, 1) := dk_42 (dk_at dksX1_undo_0 13 rfl rfl)
theorem dX1_undo_14 : decode cX1_undo 14 = .ok (.getfield 24, 3) := dk_180 0 24 (dk_at dksX1_undo_0 14 rfl rfl)
theorem dX1_undo_17 : decode cX1_undo 17 = .ok (.invokevirtual 409, 3) := dk_182 1 153 (dk_at dksX1_undo_0 17 rfl rfl)
theorem dX1_undo_20 : decode cX1_undo 20 = .ok (.checkcast 30, 3) := dk_192 0 30 (dk_at dksX1_undo_0 20 rfl rfl)
theorem dX1_undo_23 : decode cX1_undo 23 = .ok (.putfield 82, 3) := dk_181 0 82 (dk_at dksX1_undo_1 0 rfl rfl)
theorem dX1_undo_26 : decode cX1_undo 26 = .ok (.aload_n 0, 1) := dk_42 (dk_at dksX1_undo_1 3 rfl rfl)
theorem dX1_undo_27 : decode cX1_undo 27 = .ok (.getfield 24, 3) := dk_180 0 24 (dk_at dksX1_undo_1 4 rfl rfl)
theorem dX1_undo_30 : decode cX1_undo 30 = .ok (.invokevirtual 93, 3) := dk_182 0 93 (dk_at dksX1_undo_1 7 rfl rfl)
theorem dX1_undo_33 : decode cX1_undo 33 = .ok (.ireturn, 1) := dk_172 (dk_at dksX1_undo_1 10 rfl rfl)
abbrev cX1_checksum : ByteArray := prog_1_method_73_code
def yX1_checksum : MethodName := ⟨RX1, "checksum", "()J"⟩
def dkwX1_checksum_10 : List UInt8 := [167, 255, 219, 31, 173]
abbrev dktX1_checksum_10 : List UInt8 := dkwX1_checksum_10 ++ []
def dkwX1_checksum_9 : List UInt8 := [182, 1, 171, 133, 97, 64, 20, 1, 157, 31, 105, 42, 21, 4, 182, 1, 173, 133, 97, 64, 132, 4, 1]
abbrev dktX1_checksum_9 : List UInt8 := dkwX1_checksum_9 ++ dktX1_checksum_10
def dkwX1_checksum_8 : List UInt8 := [180, 0, 82, 182, 0, 112, 62, 3, 54, 4, 21, 4, 29, 162, 0, 37, 20, 1, 157, 31, 105, 42, 21, 4]
abbrev dktX1_checksum_8 : List UInt8 := dkwX1_checksum_8 ++ dktX1_checksum_9
def dkwX1_checksum_7 : List UInt8 := [21, 4, 4, 182, 1, 167, 133, 97, 64, 132, 4, 1, 167, 255, 209, 132, 3, 1, 167, 255, 156, 42]
abbrev dktX1_checksum_7 : List UInt8 := dkwX1_checksum_7 ++ dktX1_checksum_8
def dkwX1_checksum_6 : List UInt8 := [20, 1, 157, 31, 105, 42, 29, 21, 4, 3, 182, 1, 167, 133, 97, 64, 20, 1, 157, 31, 105, 42, 29]
abbrev dktX1_checksum_6 : List UInt8 := dkwX1_checksum_6 ++ dktX1_checksum_7
def dkwX1_checksum_5 : List UInt8 := [133, 97, 64, 132, 4, 1, 167, 255, 232, 3, 54, 4, 21, 4, 42, 180, 0, 82, 180, 0, 135, 162, 0, 41]
abbrev dktX1_checksum_5 : List UInt8 := dkwX1_checksum_5 ++ dktX1_checksum_6
def dkwX1_checksum_4 : List UInt8 := [162, 0, 92, 3, 54, 4, 21, 4, 8, 163, 0, 24, 20, 1, 157, 31, 105, 42, 29, 21, 4, 182, 1, 164]
abbrev dktX1_checksum_4 : List UInt8 := dkwX1_checksum_4 ++ dktX1_checksum_5
def dkwX1_checksum_3 : List UInt8 := [167, 255, 231, 132, 3, 1, 167, 255, 211, 3, 62, 29, 42, 180, 0, 82, 180, 0, 118, 182, 0, 122]
abbrev dktX1_checksum_3 : List UInt8 := dkwX1_checksum_3 ++ dktX1_checksum_4
def dkwX1_checksum_2 : List UInt8 := [16, 6, 163, 0, 24, 20, 1, 157, 31, 105, 42, 29, 21, 4, 182, 1, 161, 133, 97, 64, 132, 4, 1]
abbrev dktX1_checksum_2 : List UInt8 := dkwX1_checksum_2 ++ dktX1_checksum_3
def dkwX1_checksum_1 : List UInt8 := [132, 3, 1, 167, 255, 234, 3, 62, 29, 42, 180, 0, 82, 180, 0, 135, 162, 0, 40, 3, 54, 4, 21, 4]
abbrev dktX1_checksum_1 : List UInt8 := dkwX1_checksum_1 ++ dktX1_checksum_2
def dkwX1_checksum_0 : List UInt8 := [9, 64, 3, 62, 29, 16, 10, 163, 0, 22, 20, 1, 157, 31, 105, 42, 29, 182, 1, 159, 133, 97, 64]
abbrev dktX1_checksum_0 : List UInt8 := dkwX1_checksum_0 ++ dktX1_checksum_1
theorem dksX1_checksum_0 : cX1_checksum.data.toList.drop 0 = dktX1_checksum_0 := by decide +kernel
theorem dksX1_checksum_1 : cX1_checksum.data.toList.drop 23 = dktX1_checksum_1 := dk_seg dksX1_checksum_0 23 rfl rfl
theorem dksX1_checksum_2 : cX1_checksum.data.toList.drop 47 = dktX1_checksum_2 := dk_seg dksX1_checksum_1 24 rfl rfl
theorem dksX1_checksum_3 : cX1_checksum.data.toList.drop 70 = dktX1_checksum_3 := dk_seg dksX1_checksum_2 23 rfl rfl
theorem dksX1_checksum_4 : cX1_checksum.data.toList.drop 92 = dktX1_checksum_4 := dk_seg dksX1_checksum_3 22 rfl rfl
theorem dksX1_checksum_5 : cX1_checksum.data.toList.drop 116 = dktX1_checksum_5 := dk_seg dksX1_checksum_4 24 rfl rfl
theorem dksX1_checksum_6 : cX1_checksum.data.toList.drop 140 = dktX1_checksum_6 := dk_seg dksX1_checksum_5 24 rfl rfl
theorem dksX1_checksum_7 : cX1_checksum.data.toList.drop 163 = dktX1_checksum_7 := dk_seg dksX1_checksum_6 23 rfl rfl
theorem dksX1_checksum_8 : cX1_checksum.data.toList.drop 185 = dktX1_checksum_8 := dk_seg dksX1_checksum_7 22 rfl rfl
theorem dksX1_checksum_9 : cX1_checksum.data.toList.drop 209 = dktX1_checksum_9 := dk_seg dksX1_checksum_8 24 rfl rfl
theorem dksX1_checksum_10 : cX1_checksum.data.toList.drop 232 = dktX1_checksum_10 := dk_seg dksX1_checksum_9 23 rfl rfl
theorem dX1_checksum_0 : decode cX1_checksum 0 = .ok (.lconst 0, 1) := dk_9 (dk_at dksX1_checksum_0 0 rfl rfl)
theorem dX1_checksum_1 : decode cX1_checksum 1 = .ok (.lstore_n 1, 1) := dk_64 (dk_at dksX1_checksum_0 1 rfl rfl)
theorem dX1_checksum_2 : decode cX1_checksum 2 = .ok (.iconst 0, 1) := dk_3 (dk_at dksX1_checksum_0 2 rfl rfl)
theorem dX1_checksum_3 : decode cX1_checksum 3 = .ok (.istore_n 3, 1) := dk_62 (dk_at dksX1_checksum_0 3 rfl rfl)
theorem dX1_checksum_4 : decode cX1_checksum 4 = .ok (.iload_n 3, 1) := dk_29 (dk_at dksX1_checksum_0 4 rfl rfl)
theorem dX1_checksum_5 : decode cX1_checksum 5 = .ok (.bipush 10, 2) := dk_16 10 (dk_at dksX1_checksum_0 5 rfl rfl)
theorem dX1_checksum_7 : decode cX1_checksum 7 = .ok (.if_icmp .gt 22, 3) := dk_163 0 22 (dk_at dksX1_checksum_0 7 rfl rfl)
theorem dX1_checksum_10 : decode cX1_checksum 10 = .ok (.ldc2_w 413, 3) := dk_20 1 157 (dk_at dksX1_checksum_0 10 rfl rfl)
theorem dX1_checksum_13 : decode cX1_checksum 13 = .ok (.lload_n 1, 1) := dk_31 (dk_at dksX1_checksum_0 13 rfl rfl)
theorem dX1_checksum_14 : decode cX1_checksum 14 = .ok (.lmul, 1) := dk_105 (dk_at dksX1_checksum_0 14 rfl rfl)
theorem dX1_checksum_15 : decode cX1_checksum 15 = .ok (.aload_n 0, 1) := dk_42 (dk_at dksX1_checksum_0 15 rfl rfl)
theorem dX1_checksum_16 : decode cX1_checksum 16 = .ok (.iload_n 3, 1) := dk_29 (dk_at dksX1_checksum_0 16 rfl rfl)
theorem dX1_checksum_17 : decode cX1_checksum 17 = .ok (.invokevirtual 415, 3) := dk_182 1 159 (dk_at dksX1_checksum_0 17 rfl rfl)
theorem dX1_checksum_20 : decode cX1_checksum 20 = .ok (.i2l, 1) := dk_133 (dk_at dksX1_checksum_0 20 rfl rfl)
theorem dX1_checksum_21 : decode cX1_checksum 21 = .ok (.ladd, 1) := dk_97 (dk_at dksX1_checksum_0 21 rfl rfl)
theorem dX1_checksum_22 : decode cX1_checksum 22 = .ok (.lstore_n 1, 1) := dk_64 (dk_at dksX1_checksum_0 22 rfl rfl)
theorem dX1_checksum_23 : decode cX1_checksum 23 = .ok (.iinc 3 1, 3) := dk_132 3 1 (dk_at dksX1_checksum_1 0 rfl rfl)
theorem dX1_checksum_26 : decode cX1_checksum 26 = .ok (.goto (-22), 3) := dk_167 255 234 (dk_at dksX1_checksum_1 3 rfl rfl)
theorem dX1_checksum_29 : decode cX1_checksum 29 = .ok (.iconst 0, 1) := dk_3 (dk_at dksX1_checksum_1 6 rfl rfl)
theorem dX1_checksum_30 : decode cX1_checksum 30 = .ok (.istore_n 3, 1) := dk_62 (dk_at dksX1_checksum_1 7 rfl rfl)
theorem dX1_checksum_31 : decode cX1_checksum 31 = .ok (.iload_n 3, 1) := dk_29 (dk_at dksX1_checksum_1 8 rfl rfl)
theorem dX1_checksum_32 : decode cX1_checksum 32 = .ok (.aload_n 0, 1) := dk_42 (dk_at dksX1_checksum_1 9 rfl rfl)
theorem dX1_checksum_33 : decode cX1_checksum 33 = .ok (.getfield 82, 3) := dk_180 0 82 (dk_at dksX1_checksum_1 10 rfl rfl)
theorem dX1_checksum_36 : decode cX1_checksum 36 = .ok (.getfield 135, 3) := dk_180 0 135 (dk_at dksX1_checksum_1 13 rfl rfl)
theorem dX1_checksum_39 : decode cX1_checksum 39 = .ok (.if_icmp .ge 40, 3) := dk_162 0 40 (dk_at dksX1_checksum_1 16 rfl rfl)
theorem dX1_checksum_42 : decode cX1_checksum 42 = .ok (.iconst 0, 1) := dk_3 (dk_at dksX1_checksum_1 19 rfl rfl)
theorem dX1_checksum_43 : decode cX1_checksum 43 = .ok (.istore 4, 2) := dk_54 4 (dk_at dksX1_checksum_1 20 rfl rfl)
theorem dX1_checksum_45 : decode cX1_checksum 45 = .ok (.iload 4, 2) := dk_21 4 (dk_at dksX1_checksum_1 22 rfl rfl)
theorem dX1_checksum_47 : decode cX1_checksum 47 = .ok (.bipush 6, 2) := dk_16 6 (dk_at dksX1_checksum_2 0 rfl rfl)
theorem dX1_checksum_49 : decode cX1_checksum 49 = .ok (.if_icmp .gt 24, 3) := dk_163 0 24 (dk_at dksX1_checksum_2 2 rfl rfl)
theorem dX1_checksum_52 : decode cX1_checksum 52 = .ok (.ldc2_w 413, 3) := dk_20 1 157 (dk_at dksX1_checksum_2 5 rfl rfl)
theorem dX1_checksum_55 : decode cX1_checksum 55 = .ok (.lload_n 1, 1) := dk_31 (dk_at dksX1_checksum_2 8 rfl rfl)
theorem dX1_checksum_56 : decode cX1_checksum 56 = .ok (.lmul, 1) := dk_105 (dk_at dksX1_checksum_2 9 rfl rfl)
theorem dX1_checksum_57 : decode cX1_checksum 57 = .ok (.aload_n 0, 1) := dk_42 (dk_at dksX1_checksum_2 10 rfl rfl)
theorem dX1_checksum_58 : decode cX1_checksum 58 = .ok (.iload_n 3, 1) := dk_29 (dk_at dksX1_checksum_2 11 rfl rfl)
theorem dX1_checksum_59 : decode cX1_checksum 59 = .ok (.iload 4, 2) := dk_21 4 (dk_at dksX1_checksum_2 12 rfl rfl)
theorem dX1_checksum_61 : decode cX1_checksum 61 = .ok (.invokevirtual 417, 3) := dk_182 1 161 (dk_at dksX1_checksum_2 14 rfl rfl)
theorem dX1_checksum_64 : decode cX1_checksum 64 = .ok (.i2l, 1) := dk_133 (dk_at dksX1_checksum_2 17 rfl rfl)
theorem dX1_checksum_65 : decode cX1_checksum 65 = .ok (.ladd, 1) := dk_97 (dk_at dksX1_checksum_2 18 rfl rfl)
theorem dX1_checksum_66 : decode cX1_checksum 66 = .ok (.lstore_n 1, 1) := dk_64 (dk_at dksX1_checksum_2 19 rfl rfl)
theorem dX1_checksum_67 : decode cX1_checksum 67 = .ok (.iinc 4 1, 3) := dk_132 4 1 (dk_at dksX1_checksum_2 20 rfl rfl)
theorem dX1_checksum_70 : decode cX1_checksum 70 = .ok (.goto (-25), 3) := dk_167 255 231 (dk_at dksX1_checksum_3 0 rfl rfl)
theorem dX1_checksum_73 : decode cX1_checksum 73 = .ok (.iinc 3 1, 3) := dk_132 3 1 (dk_at dksX1_checksum_3 3 rfl rfl)
theorem dX1_checksum_76 : decode cX1_checksum 76 = .ok (.goto (-45), 3) := dk_167 255 211 (dk_at dksX1_checksum_3 6 rfl rfl)
theorem dX1_checksum_79 : decode cX1_checksum 79 = .ok (.iconst 0, 1) := dk_3 (dk_at dksX1_checksum_3 9 rfl rfl)
theorem dX1_checksum_80 : decode cX1_checksum 80 = .ok (.istore_n 3, 1) := dk_62 (dk_at dksX1_checksum_3 10 rfl rfl)
theorem dX1_checksum_81 : decode cX1_checksum 81 = .ok (.iload_n 3, 1) := dk_29 (dk_at dksX1_checksum_3 11 rfl rfl)
theorem dX1_checksum_82 : decode cX1_checksum 82 = .ok (.aload_n 0, 1) := dk_42 (dk_at dksX1_checksum_3 12 rfl rfl)
theorem dX1_checksum_83 : decode cX1_checksum 83 = .ok (.getfield 82, 3) := dk_180 0 82 (dk_at dksX1_checksum_3 13 rfl rfl)
theorem dX1_checksum_86 : decode cX1_checksum 86 = .ok (.getfield 118, 3) := dk_180 0 118 (dk_at dksX1_checksum_3 16 rfl rfl)
theorem dX1_checksum_89 : decode cX1_checksum 89 = .ok (.invokevirtual 122, 3) := dk_182 0 122 (dk_at dksX1_checksum_3 19 rfl rfl)
theorem dX1_checksum_92 : decode cX1_checksum 92 = .ok (.if_icmp .ge 92, 3) := dk_162 0 92 (dk_at dksX1_checksum_4 0 rfl rfl)
theorem dX1_checksum_95 : decode cX1_checksum 95 = .ok (.iconst 0, 1) := dk_3 (dk_at dksX1_checksum_4 3 rfl rfl)
theorem dX1_checksum_96 : decode cX1_checksum 96 = .ok (.istore 4, 2) := dk_54 4 (dk_at dksX1_checksum_4 4 rfl rfl)
theorem dX1_checksum_98 : decode cX1_checksum 98 = .ok (.iload 4, 2) := dk_21 4 (dk_at dksX1_checksum_4 6 rfl rfl)
theorem dX1_checksum_100 : decode cX1_checksum 100 = .ok (.iconst 5, 1) := dk_8 (dk_at dksX1_checksum_4 8 rfl rfl)
theorem dX1_checksum_101 : decode cX1_checksum 101 = .ok (.if_icmp .gt 24, 3) := dk_163 0 24 (dk_at dksX1_checksum_4 9 rfl rfl)
theorem dX1_checksum_104 : decode cX1_checksum 104 = .ok (.ldc2_w 413, 3) := dk_20 1 157 (dk_at dksX1_checksum_4 12 rfl rfl)
theorem dX1_checksum_107 : decode cX1_checksum 107 = .ok (.lload_n 1, 1) := dk_31 (dk_at dksX1_checksum_4 15 rfl rfl)
theorem dX1_checksum_108 : decode cX1_checksum 108 = .ok (.lmul, 1) := dk_105 (dk_at dksX1_checksum_4 16 rfl rfl)
theorem dX1_checksum_109 : decode cX1_checksum 109 = .ok (.aload_n 0, 1) := dk_42 (dk_at dksX1_checksum_4 17 rfl rfl)
theorem dX1_checksum_110 : decode cX1_checksum 110 = .ok (.iload_n 3, 1) := dk_29 (dk_at dksX1_checksum_4 18 rfl rfl)
theorem dX1_checksum_111 : decode cX1_checksum 111 = .ok (.iload 4, 2) := dk_21 4 (dk_at dksX1_checksum_4 19 rfl rfl)
theorem dX1_checksum_113 : decode cX1_checksum 113 = .ok (.invokevirtual 420, 3) := dk_182 1 164 (dk_at dksX1_checksum_4 21 rfl rfl)
theorem dX1_checksum_116 : decode cX1_checksum 116 = .ok (.i2l, 1) := dk_133 (dk_at dksX1_checksum_5 0 rfl rfl)
theorem dX1_checksum_117 : decode cX1_checksum 117 = .ok (.ladd, 1) := dk_97 (dk_at dksX1_checksum_5 1 rfl rfl)
theorem dX1_checksum_118 : decode cX1_checksum 118 = .ok (.lstore_n 1, 1) := dk_64 (dk_at dksX1_checksum_5 2 rfl rfl)
theorem dX1_checksum_119 : decode cX1_checksum 119 = .ok (.iinc 4 1, 3) := dk_132 4 1 (dk_at dksX1_checksum_5 3 rfl rfl)
theorem dX1_checksum_122 : decode cX1_checksum 122 = .ok (.goto (-24), 3) := dk_167 255 232 (dk_at dksX1_checksum_5 6 rfl rfl)
theorem dX1_checksum_125 : decode cX1_checksum 125 = .ok (.iconst 0, 1) := dk_3 (dk_at dksX1_checksum_5 9 rfl rfl)
theorem dX1_checksum_126 : decode cX1_checksum 126 = .ok (.istore 4, 2) := dk_54 4 (dk_at dksX1_checksum_5 10 rfl rfl)
theorem dX1_checksum_128 : decode cX1_checksum 128 = .ok (.iload 4, 2) := dk_21 4 (dk_at dksX1_checksum_5 12 rfl rfl)
theorem dX1_checksum_130 : decode cX1_checksum 130 = .ok (.aload_n 0, 1) := dk_42 (dk_at dksX1_checksum_5 14 rfl rfl)
theorem dX1_checksum_131 : decode cX1_checksum 131 = .ok (.getfield 82, 3) := dk_180 0 82 (dk_at dksX1_checksum_5 15 rfl rfl)
theorem dX1_checksum_134 : decode cX1_checksum 134 = .ok (.getfield 135, 3) := dk_180 0 135 (dk_at dksX1_checksum_5 18 rfl rfl)
theorem dX1_checksum_137 : decode cX1_checksum 137 = .ok (.if_icmp .ge 41, 3) := dk_162 0 41 (dk_at dksX1_checksum_5 21 rfl rfl)
theorem dX1_checksum_140 : decode cX1_checksum 140 = .ok (.ldc2_w 413, 3) := dk_20 1 157 (dk_at dksX1_checksum_6 0 rfl rfl)
theorem dX1_checksum_143 : decode cX1_checksum 143 = .ok (.lload_n 1, 1) := dk_31 (dk_at dksX1_checksum_6 3 rfl rfl)
theorem dX1_checksum_144 : decode cX1_checksum 144 = .ok (.lmul, 1) := dk_105 (dk_at dksX1_checksum_6 4 rfl rfl)
theorem dX1_checksum_145 : decode cX1_checksum 145 = .ok (.aload_n 0, 1) := dk_42 (dk_at dksX1_checksum_6 5 rfl rfl)
theorem dX1_checksum_146 : decode cX1_checksum 146 = .ok (.iload_n 3, 1) := dk_29 (dk_at dksX1_checksum_6 6 rfl rfl)
theorem dX1_checksum_147 : decode cX1_checksum 147 = .ok (.iload 4, 2) := dk_21 4 (dk_at dksX1_checksum_6 7 rfl rfl)
theorem dX1_checksum_149 : decode cX1_checksum 149 = .ok (.iconst 0, 1) := dk_3 (dk_at dksX1_checksum_6 9 rfl rfl)
theorem dX1_checksum_150 : decode cX1_checksum 150 = .ok (.invokevirtual 423, 3) := dk_182 1 167 (dk_at dksX1_checksum_6 10 rfl rfl)
theorem dX1_checksum_153 : decode cX1_checksum 153 = .ok (.i2l, 1) := dk_133 (dk_at dksX1_checksum_6 13 rfl rfl)
theorem dX1_checksum_154 : decode cX1_checksum 154 = .ok (.ladd, 1) := dk_97 (dk_at dksX1_checksum_6 14 rfl rfl)
theorem dX1_checksum_155 : decode cX1_checksum 155 = .ok (.lstore_n 1, 1) := dk_64 (dk_at dksX1_checksum_6 15 rfl rfl)
theorem dX1_checksum_156 : decode cX1_checksum 156 = .ok (.ldc2_w 413, 3) := dk_20 1 157 (dk_at dksX1_checksum_6 16 rfl rfl)
theorem dX1_checksum_159 : decode cX1_checksum 159 = .ok (.lload_n 1, 1) := dk_31 (dk_at dksX1_checksum_6 19 rfl rfl)
theorem dX1_checksum_160 : decode cX1_checksum 160 = .ok (.lmul, 1) := dk_105 (dk_at dksX1_checksum_6 20 rfl rfl)
theorem dX1_checksum_161 : decode cX1_checksum 161 = .ok (.aload_n 0, 1) := dk_42 (dk_at dksX1_checksum_6 21 rfl rfl)
theorem dX1_checksum_162 : decode cX1_checksum 162 = .ok (.iload_n 3, 1) := dk_29 (dk_at dksX1_checksum_6 22 rfl rfl)
theorem dX1_checksum_163 : decode cX1_checksum 163 = .ok (.iload 4, 2) := dk_21 4 (dk_at dksX1_checksum_7 0 rfl rfl)
theorem dX1_checksum_165 : decode cX1_checksum 165 = .ok (.iconst 1, 1) := dk_4 (dk_at dksX1_checksum_7 2 rfl rfl)
theorem dX1_checksum_166 : decode cX1_checksum 166 = .ok (.invokevirtual 423, 3) := dk_182 1 167 (dk_at dksX1_checksum_7 3 rfl rfl)
theorem dX1_checksum_169 : decode cX1_checksum 169 = .ok (.i2l, 1) := dk_133 (dk_at dksX1_checksum_7 6 rfl rfl)
theorem dX1_checksum_170 : decode cX1_checksum 170 = .ok (.ladd, 1) := dk_97 (dk_at dksX1_checksum_7 7 rfl rfl)
theorem dX1_checksum_171 : decode cX1_checksum 171 = .ok (.lstore_n 1, 1) := dk_64 (dk_at dksX1_checksum_7 8 rfl rfl)
theorem dX1_checksum_172 : decode cX1_checksum 172 = .ok (.iinc 4 1, 3) := dk_132 4 1 (dk_at dksX1_checksum_7 9 rfl rfl)
theorem dX1_checksum_175 : decode cX1_checksum 175 = .ok (.goto (-47), 3) := dk_167 255 209 (dk_at dksX1_checksum_7 12 rfl rfl)
theorem dX1_checksum_178 : decode cX1_checksum 178 = .ok (.iinc 3 1, 3) := dk_132 3 1 (dk_at dksX1_checksum_7 15 rfl rfl)
theorem dX1_checksum_181 : decode cX1_checksum 181 = .ok (.goto (-100), 3) := dk_167 255 156 (dk_at dksX1_checksum_7 18 rfl rfl)
theorem dX1_checksum_184 : decode cX1_checksum 184 = .ok (.aload_n 0, 1) := dk_42 (dk_at dksX1_checksum_7 21 rfl rfl)
theorem dX1_checksum_185 : decode cX1_checksum 185 = .ok (.getfield 82, 3) := dk_180 0 82 (dk_at dksX1_checksum_8 0 rfl rfl)
theorem dX1_checksum_188 : decode cX1_checksum 188 = .ok (.invokevirtual 112, 3) := dk_182 0 112 (dk_at dksX1_checksum_8 3 rfl rfl)
theorem dX1_checksum_191 : decode cX1_checksum 191 = .ok (.istore_n 3, 1) := dk_62 (dk_at dksX1_checksum_8 6 rfl rfl)
theorem dX1_checksum_192 : decode cX1_checksum 192 = .ok (.iconst 0, 1) := dk_3 (dk_at dksX1_checksum_8 7 rfl rfl)
theorem dX1_checksum_193 : decode cX1_checksum 193 = .ok (.istore 4, 2) := dk_54 4 (dk_at dksX1_checksum_8 8 rfl rfl)
theorem dX1_checksum_195 : decode cX1_checksum 195 = .ok (.iload 4, 2) := dk_21 4 (dk_at dksX1_checksum_8 10 rfl rfl)
theorem dX1_checksum_197 : decode cX1_checksum 197 = .ok (.iload_n 3, 1) := dk_29 (dk_at dksX1_checksum_8 12 rfl rfl)
theorem dX1_checksum_198 : decode cX1_checksum 198 = .ok (.if_icmp .ge 37, 3) := dk_162 0 37 (dk_at dksX1_checksum_8 13 rfl rfl)
theorem dX1_checksum_201 : decode cX1_checksum 201 = .ok (.ldc2_w 413, 3) := dk_20 1 157 (dk_at dksX1_checksum_8 16 rfl rfl)
theorem dX1_checksum_204 : decode cX1_checksum 204 = .ok (.lload_n 1, 1) := dk_31 (dk_at dksX1_checksum_8 19 rfl rfl)
theorem dX1_checksum_205 : decode cX1_checksum 205 = .ok (.lmul, 1) := dk_105 (dk_at dksX1_checksum_8 20 rfl rfl)
theorem dX1_checksum_206 : decode cX1_checksum 206 = .ok (.aload_n 0, 1) := dk_42 (dk_at dksX1_checksum_8 21 rfl rfl)
theorem dX1_checksum_207 : decode cX1_checksum 207 = .ok (.iload 4, 2) := dk_21 4 (dk_at dksX1_checksum_8 22 rfl rfl)
theorem dX1_checksum_209 : decode cX1_checksum 209 = .ok (.invokevirtual 427, 3) := dk_182 1 171 (dk_at dksX1_checksum_9 0 rfl rfl)
theorem dX1_checksum_212 : decode cX1_checksum 212 = .ok (.i2l, 1) := dk_133 (dk_at dksX1_checksum_9 3 rfl rfl)
theorem dX1_checksum_213 : decode cX1_checksum 213 = .ok (.ladd, 1) := dk_97 (dk_at dksX1_checksum_9 4 rfl rfl)
theorem dX1_checksum_214 : decode cX1_checksum 214 = .ok (.lstore_n 1, 1) := dk_64 (dk_at dksX1_checksum_9 5 rfl rfl)
theorem dX1_checksum_215 : decode cX1_checksum 215 = .ok (.ldc2_w 413, 3) := dk_20 1 157 (dk_at dksX1_checksum_9 6 rfl rfl)
theorem dX1_checksum_218 : decode cX1_checksum 218 = .ok (.lload_n 1, 1) := dk_31 (dk_at dksX1_checksum_9 9 rfl rfl)
theorem dX1_checksum_219 : decode cX1_checksum 219 = .ok (.lmul, 1) := dk_105 (dk_at dksX1_checksum_9 10 rfl rfl)
theorem dX1_checksum_220 : decode cX1_checksum 220 = .ok (.aload_n 0, 1) := dk_42 (dk_at dksX1_checksum_9 11 rfl rfl)
theorem dX1_checksum_221 : decode cX1_checksum 221 = .ok (.iload 4, 2) := dk_21 4 (dk_at dksX1_checksum_9 12 rfl rfl)
theorem dX1_checksum_223 : decode cX1_checksum 223 = .ok (.invokevirtual 429, 3) := dk_182 1 173 (dk_at dksX1_checksum_9 14 rfl rfl)
theorem dX1_checksum_226 : decode cX1_checksum 226 = .ok (.i2l, 1) := dk_133 (dk_at dksX1_checksum_9 17 rfl rfl)
theorem dX1_checksum_227 : decode cX1_checksum 227 = .ok (.ladd, 1) := dk_97 (dk_at dksX1_checksum_9 18 rfl rfl)
theorem dX1_checksum_228 : decode cX1_checksum 228 = .ok (.lstore_n 1, 1) := dk_64 (dk_at dksX1_checksum_9 19 rfl rfl)
theorem dX1_checksum_229 : decode cX1_checksum 229 = .ok (.iinc 4 1, 3) := dk_132 4 1 (dk_at dksX1_checksum_9 20 rfl rfl)
theorem dX1_checksum_232 : decode cX1_checksum 232 = .ok (.goto (-37), 3) := dk_167 255 219 (dk_at dksX1_checksum_10 0 rfl rfl)
theorem dX1_checksum_235 : decode cX1_checksum 235 = .ok (.lload_n 1, 1) := dk_31 (dk_at dksX1_checksum_10 3 rfl rfl)
theorem dX1_checksum_236 : decode cX1_checksum 236 = .ok (.lreturn, 1) := dk_173 (dk_at dksX1_checksum_10 4 rfl rfl)
abbrev cX1_size : ByteArray := prog_1_method_21_code
def yX1_size : MethodName := ⟨RX1, "size", "(I)I"⟩
def dkwX1_size_6 : List UInt8 := [182, 0, 93, 167, 0, 20, 42, 180, 0, 39, 182, 0, 143, 167, 0, 10, 42, 180, 0, 43, 182, 0, 143, 172]
abbrev dktX1_size_6 : List UInt8 := dkwX1_size_6 ++ []
def dkwX1_size_5 : List UInt8 := [180, 0, 175, 167, 0, 44, 42, 180, 0, 82, 27, 16, 7, 100, 182, 0, 178, 167, 0, 30, 42, 180, 0, 24]
abbrev dktX1_size_5 : List UInt8 := dkwX1_size_5 ++ dktX1_size_6
def dkwX1_size_4 : List UInt8 := [180, 0, 82, 180, 0, 169, 167, 0, 64, 42, 180, 0, 82, 180, 0, 172, 167, 0, 54, 42, 180, 0, 82]
abbrev dktX1_size_4 : List UInt8 := dkwX1_size_4 ++ dktX1_size_5
def dkwX1_size_3 : List UInt8 := [180, 0, 82, 180, 0, 118, 182, 0, 122, 167, 0, 84, 42, 180, 0, 82, 182, 0, 112, 167, 0, 74, 42]
abbrev dktX1_size_3 : List UInt8 := dkwX1_size_3 ++ dktX1_size_4
def dkwX1_size_2 : List UInt8 := [42, 180, 0, 82, 180, 0, 139, 190, 167, 0, 107, 42, 180, 0, 82, 180, 0, 135, 167, 0, 97, 42]
abbrev dktX1_size_2 : List UInt8 := dkwX1_size_2 ++ dktX1_size_3
def dkwX1_size_1 : List UInt8 := [170, 0, 0, 0, 0, 0, 0, 176, 0, 0, 0, 0, 0, 0, 0, 12, 0, 0, 0, 68, 0, 0, 0, 79, 0, 0, 0, 89, 0, 0, 0, 102, 0, 0, 0, 112, 0, 0, 0, 122, 0, 0, 0, 132, 0, 0, 0, 142, 0, 0, 0, 142, 0, 0, 0, 142, 0, 0, 0, 142, 0, 0, 0, 156, 0, 0, 0, 166]
abbrev dktX1_size_1 : List UInt8 := dkwX1_size_1 ++ dktX1_size_2
def dkwX1_size_0 : List UInt8 := [27, 3, 16, 13, 184, 0, 158, 27]
abbrev dktX1_size_0 : List UInt8 := dkwX1_size_0 ++ dktX1_size_1
theorem dksX1_size_0 : cX1_size.data.toList.drop 0 = dktX1_size_0 := by decide +kernel
theorem dksX1_size_1 : cX1_size.data.toList.drop 8 = dktX1_size_1 := dk_seg dksX1_size_0 8 rfl rfl
theorem dksX1_size_2 : cX1_size.data.toList.drop 76 = dktX1_size_2 := dk_seg dksX1_size_1 68 rfl rfl
theorem dksX1_size_3 : cX1_size.data.toList.drop 98 = dktX1_size_3 := dk_seg dksX1_size_2 22 rfl rfl
theorem dksX1_size_4 : cX1_size.data.toList.drop 121 = dktX1_size_4 := dk_seg dksX1_size_3 23 rfl rfl
theorem dksX1_size_5 : cX1_size.data.toList.drop 144 = dktX1_size_5 := dk_seg dksX1_size_4 23 rfl rfl
theorem dksX1_size_6 : cX1_size.data.toList.drop 168 = dktX1_size_6 := dk_seg dksX1_size_5 24 rfl rfl
theorem dX1_size_0 : decode cX1_size 0 = .ok (.iload_n 1, 1) := dk_27 (dk_at dksX1_size_0 0 rfl rfl)
theorem dX1_size_1 : decode cX1_size 1 = .ok (.iconst 0, 1) := dk_3 (dk_at dksX1_size_0 1 rfl rfl)
theorem dX1_size_2 : decode cX1_size 2 = .ok (.bipush 13, 2) := dk_16 13 (dk_at dksX1_size_0 2 rfl rfl)
theorem dX1_size_4 : decode cX1_size 4 = .ok (.invokestatic 158, 3) := dk_184 0 158 (dk_at dksX1_size_0 4 rfl rfl)
theorem dX1_size_7 : decode cX1_size 7 = .ok (.iload_n 1, 1) := dk_27 (dk_at dksX1_size_0 7 rfl rfl)
theorem dX1_size_8 : decode cX1_size 8 = .ok (.tableswitch 176 0 12 #[68, 79, 89, 102, 112, 122, 132, 142, 142, 142, 142, 156, 166], 68) := by decide +kernel
theorem dX1_size_76 : decode cX1_size 76 = .ok (.aload_n 0, 1) := dk_42 (dk_at dksX1_size_2 0 rfl rfl)
theorem dX1_size_77 : decode cX1_size 77 = .ok (.getfield 82, 3) := dk_180 0 82 (dk_at dksX1_size_2 1 rfl rfl)
theorem dX1_size_80 : decode cX1_size 80 = .ok (.getfield 139, 3) := dk_180 0 139 (dk_at dksX1_size_2 4 rfl rfl)
theorem dX1_size_83 : decode cX1_size 83 = .ok (.arraylength, 1) := dk_190 (dk_at dksX1_size_2 7 rfl rfl)
theorem dX1_size_84 : decode cX1_size 84 = .ok (.goto 107, 3) := dk_167 0 107 (dk_at dksX1_size_2 8 rfl rfl)
theorem dX1_size_87 : decode cX1_size 87 = .ok (.aload_n 0, 1) := dk_42 (dk_at dksX1_size_2 11 rfl rfl)
theorem dX1_size_88 : decode cX1_size 88 = .ok (.getfield 82, 3) := dk_180 0 82 (dk_at dksX1_size_2 12 rfl rfl)
theorem dX1_size_91 : decode cX1_size 91 = .ok (.getfield 135, 3) := dk_180 0 135 (dk_at dksX1_size_2 15 rfl rfl)
theorem dX1_size_94 : decode cX1_size 94 = .ok (.goto 97, 3) := dk_167 0 97 (dk_at dksX1_size_2 18 rfl rfl)
theorem dX1_size_97 : decode cX1_size 97 = .ok (.aload_n 0, 1) := dk_42 (dk_at dksX1_size_2 21 rfl rfl)
theorem dX1_size_98 : decode cX1_size 98 = .ok (.getfield 82, 3) := dk_180 0 82 (dk_at dksX1_size_3 0 rfl rfl)
theorem dX1_size_101 : decode cX1_size 101 = .ok (.getfield 118, 3) := dk_180 0 118 (dk_at dksX1_size_3 3 rfl rfl)
theorem dX1_size_104 : decode cX1_size 104 = .ok (.invokevirtual 122, 3) := dk_182 0 122 (dk_at dksX1_size_3 6 rfl rfl)
theorem dX1_size_107 : decode cX1_size 107 = .ok (.goto 84, 3) := dk_167 0 84 (dk_at dksX1_size_3 9 rfl rfl)
theorem dX1_size_110 : decode cX1_size 110 = .ok (.aload_n 0, 1) := dk_42 (dk_at dksX1_size_3 12 rfl rfl)
theorem dX1_size_111 : decode cX1_size 111 = .ok (.getfield 82, 3) := dk_180 0 82 (dk_at dksX1_size_3 13 rfl rfl)
theorem dX1_size_114 : decode cX1_size 114 = .ok (.invokevirtual 112, 3) := dk_182 0 112 (dk_at dksX1_size_3 16 rfl rfl)
theorem dX1_size_117 : decode cX1_size 117 = .ok (.goto 74, 3) := dk_167 0 74 (dk_at dksX1_size_3 19 rfl rfl)
theorem dX1_size_120 : decode cX1_size 120 = .ok (.aload_n 0, 1) := dk_42 (dk_at dksX1_size_3 22 rfl rfl)
theorem dX1_size_121 : decode cX1_size 121 = .ok (.getfield 82, 3) := dk_180 0 82 (dk_at dksX1_size_4 0 rfl rfl)
theorem dX1_size_124 : decode cX1_size 124 = .ok (.getfield 169, 3) := dk_180 0 169 (dk_at dksX1_size_4 3 rfl rfl)
theorem dX1_size_127 : decode cX1_size 127 = .ok (.goto 64, 3) := dk_167 0 64 (dk_at dksX1_size_4 6 rfl rfl)
theorem dX1_size_130 : decode cX1_size 130 = .ok (.aload_n 0, 1) := dk_42 (dk_at dksX1_size_4 9 rfl rfl)
theorem dX1_size_131 : decode cX1_size 131 = .ok (.getfield 82, 3) := dk_180 0 82 (dk_at dksX1_size_4 10 rfl rfl)
theorem dX1_size_134 : decode cX1_size 134 = .ok (.getfield 172, 3) := dk_180 0 172 (dk_at dksX1_size_4 13 rfl rfl)
theorem dX1_size_137 : decode cX1_size 137 = .ok (.goto 54, 3) := dk_167 0 54 (dk_at dksX1_size_4 16 rfl rfl)
theorem dX1_size_140 : decode cX1_size 140 = .ok (.aload_n 0, 1) := dk_42 (dk_at dksX1_size_4 19 rfl rfl)
theorem dX1_size_141 : decode cX1_size 141 = .ok (.getfield 82, 3) := dk_180 0 82 (dk_at dksX1_size_4 20 rfl rfl)
theorem dX1_size_144 : decode cX1_size 144 = .ok (.getfield 175, 3) := dk_180 0 175 (dk_at dksX1_size_5 0 rfl rfl)
theorem dX1_size_147 : decode cX1_size 147 = .ok (.goto 44, 3) := dk_167 0 44 (dk_at dksX1_size_5 3 rfl rfl)
theorem dX1_size_150 : decode cX1_size 150 = .ok (.aload_n 0, 1) := dk_42 (dk_at dksX1_size_5 6 rfl rfl)
theorem dX1_size_151 : decode cX1_size 151 = .ok (.getfield 82, 3) := dk_180 0 82 (dk_at dksX1_size_5 7 rfl rfl)
theorem dX1_size_154 : decode cX1_size 154 = .ok (.iload_n 1, 1) := dk_27 (dk_at dksX1_size_5 10 rfl rfl)
theorem dX1_size_155 : decode cX1_size 155 = .ok (.bipush 7, 2) := dk_16 7 (dk_at dksX1_size_5 11 rfl rfl)
theorem dX1_size_157 : decode cX1_size 157 = .ok (.isub, 1) := dk_100 (dk_at dksX1_size_5 13 rfl rfl)
theorem dX1_size_158 : decode cX1_size 158 = .ok (.invokevirtual 178, 3) := dk_182 0 178 (dk_at dksX1_size_5 14 rfl rfl)
theorem dX1_size_161 : decode cX1_size 161 = .ok (.goto 30, 3) := dk_167 0 30 (dk_at dksX1_size_5 17 rfl rfl)
theorem dX1_size_164 : decode cX1_size 164 = .ok (.aload_n 0, 1) := dk_42 (dk_at dksX1_size_5 20 rfl rfl)
theorem dX1_size_165 : decode cX1_size 165 = .ok (.getfield 24, 3) := dk_180 0 24 (dk_at dksX1_size_5 21 rfl rfl)
theorem dX1_size_168 : decode cX1_size 168 = .ok (.invokevirtual 93, 3) := dk_182 0 93 (dk_at dksX1_size_6 0 rfl rfl)
theorem dX1_size_171 : decode cX1_size 171 = .ok (.goto 20, 3) := dk_167 0 20 (dk_at dksX1_size_6 3 rfl rfl)
theorem dX1_size_174 : decode cX1_size 174 = .ok (.aload_n 0, 1) := dk_42 (dk_at dksX1_size_6 6 rfl rfl)
theorem dX1_size_175 : decode cX1_size 175 = .ok (.getfield 39, 3) := dk_180 0 39 (dk_at dksX1_size_6 7 rfl rfl)
theorem dX1_size_178 : decode cX1_size 178 = .ok (.invokevirtual 143, 3) := dk_182 0 143 (dk_at dksX1_size_6 10 rfl rfl)
theorem dX1_size_181 : decode cX1_size 181 = .ok (.goto 10, 3) := dk_167 0 10 (dk_at dksX1_size_6 13 rfl rfl)
theorem dX1_size_184 : decode cX1_size 184 = .ok (.aload_n 0, 1) := dk_42 (dk_at dksX1_size_6 16 rfl rfl)
theorem dX1_size_185 : decode cX1_size 185 = .ok (.getfield 43, 3) := dk_180 0 43 (dk_at dksX1_size_6 17 rfl rfl)
theorem dX1_size_188 : decode cX1_size 188 = .ok (.invokevirtual 143, 3) := dk_182 0 143 (dk_at dksX1_size_6 20 rfl rfl)
theorem dX1_size_191 : decode cX1_size 191 = .ok (.ireturn, 1) := dk_172 (dk_at dksX1_size_6 23 rfl rfl)
abbrev cX1_check : ByteArray := prog_1_method_10_code
def yX1_check : MethodName := ⟨RX1, "check", "(III)V"⟩
def dkwX1_check_0 : List UInt8 := [26, 27, 161, 0, 8, 26, 28, 164, 0, 11, 187, 0, 106, 89, 183, 0, 108, 191, 177]
abbrev dktX1_check_0 : List UInt8 := dkwX1_check_0 ++ []
theorem dksX1_check_0 : cX1_check.data.toList.drop 0 = dktX1_check_0 := by decide +kernel
theorem dX1_check_0 : decode cX1_check 0 = .ok (.iload_n 0, 1) := dk_26 (dk_at dksX1_check_0 0 rfl rfl)
theorem dX1_check_1 : decode cX1_check 1 = .ok (.iload_n 1, 1) := dk_27 (dk_at dksX1_check_0 1 rfl rfl)
theorem dX1_check_2 : decode cX1_check 2 = .ok (.if_icmp .lt 8, 3) := dk_161 0 8 (dk_at dksX1_check_0 2 rfl rfl)
theorem dX1_check_5 : decode cX1_check 5 = .ok (.iload_n 0, 1) := dk_26 (dk_at dksX1_check_0 5 rfl rfl)
theorem dX1_check_6 : decode cX1_check 6 = .ok (.iload_n 2, 1) := dk_28 (dk_at dksX1_check_0 6 rfl rfl)
theorem dX1_check_7 : decode cX1_check 7 = .ok (.if_icmp .le 11, 3) := dk_164 0 11 (dk_at dksX1_check_0 7 rfl rfl)
theorem dX1_check_10 : decode cX1_check 10 = .ok (.new 106, 3) := dk_187 0 106 (dk_at dksX1_check_0 10 rfl rfl)
theorem dX1_check_13 : decode cX1_check 13 = .ok (.dup, 1) := dk_89 (dk_at dksX1_check_0 13 rfl rfl)
theorem dX1_check_14 : decode cX1_check 14 = .ok (.invokespecial 108, 3) := dk_183 0 108 (dk_at dksX1_check_0 14 rfl rfl)
theorem dX1_check_17 : decode cX1_check 17 = .ok (.athrow, 1) := dk_191 (dk_at dksX1_check_0 17 rfl rfl)
theorem dX1_check_18 : decode cX1_check 18 = .ok (.return_, 1) := dk_177 (dk_at dksX1_check_0 18 rfl rfl)
abbrev cX1_heir : ByteArray := prog_1_method_25_code
def yX1_heir : MethodName := ⟨RX1, "heir", "(II)I"⟩
def dkwX1_heir_6 : List UInt8 := [27, 186, 0, 228, 0, 0, 4, 182, 0, 224, 172]
abbrev dktX1_heir_6 : List UInt8 := dkwX1_heir_6 ++ []
def dkwX1_heir_5 : List UInt8 := [27, 182, 0, 218, 167, 0, 30, 42, 42, 27, 186, 0, 221, 0, 0, 2, 182, 0, 224, 167, 0, 15, 42, 42]
abbrev dktX1_heir_5 : List UInt8 := dkwX1_heir_5 ++ dktX1_heir_6
def dkwX1_heir_4 : List UInt8 := [180, 0, 82, 180, 0, 175, 27, 182, 0, 214, 167, 0, 48, 42, 180, 0, 82, 42, 180, 0, 82, 180, 0, 175]
abbrev dktX1_heir_4 : List UInt8 := dkwX1_heir_4 ++ dktX1_heir_5
def dkwX1_heir_3 : List UInt8 := [42, 180, 0, 82, 180, 0, 169, 27, 160, 0, 7, 4, 167, 0, 70, 3, 167, 0, 66, 42, 180, 0, 82, 42]
abbrev dktX1_heir_3 : List UInt8 := dkwX1_heir_3 ++ dktX1_heir_4
def dkwX1_heir_2 : List UInt8 := [42, 180, 0, 82, 180, 0, 208, 27, 46, 167, 0, 97, 42, 180, 0, 82, 180, 0, 211, 27, 46, 167, 0, 85]
abbrev dktX1_heir_2 : List UInt8 := dkwX1_heir_2 ++ dktX1_heir_3
def dkwX1_heir_1 : List UInt8 := [170, 0, 0, 0, 0, 0, 133, 0, 0, 0, 0, 0, 0, 0, 5, 0, 0, 0, 39, 0, 0, 0, 51, 0, 0, 0, 63, 0, 0, 0, 82, 0, 0, 0, 100, 0, 0, 0, 118]
abbrev dktX1_heir_1 : List UInt8 := dkwX1_heir_1 ++ dktX1_heir_2
def dkwX1_heir_0 : List UInt8 := [42, 27, 182, 0, 205, 28, 3, 16, 6, 184, 0, 158, 28]
abbrev dktX1_heir_0 : List UInt8 := dkwX1_heir_0 ++ dktX1_heir_1
theorem dksX1_heir_0 : cX1_heir.data.toList.drop 0 = dktX1_heir_0 := by decide +kernel
theorem dksX1_heir_1 : cX1_heir.data.toList.drop 13 = dktX1_heir_1 := dk_seg dksX1_heir_0 13 rfl rfl
theorem dksX1_heir_2 : cX1_heir.data.toList.drop 52 = dktX1_heir_2 := dk_seg dksX1_heir_1 39 rfl rfl
theorem dksX1_heir_3 : cX1_heir.data.toList.drop 76 = dktX1_heir_3 := dk_seg dksX1_heir_2 24 rfl rfl
theorem dksX1_heir_4 : cX1_heir.data.toList.drop 100 = dktX1_heir_4 := dk_seg dksX1_heir_3 24 rfl rfl
theorem dksX1_heir_5 : cX1_heir.data.toList.drop 124 = dktX1_heir_5 := dk_seg dksX1_heir_4 24 rfl rfl
theorem dksX1_heir_6 : cX1_heir.data.toList.drop 148 = dktX1_heir_6 := dk_seg dksX1_heir_5 24 rfl rfl
theorem dX1_heir_0 : decode cX1_heir 0 = .ok (.aload_n 0, 1) := dk_42 (dk_at dksX1_heir_0 0 rfl rfl)
theorem dX1_heir_1 : decode cX1_heir 1 = .ok (.iload_n 1, 1) := dk_27 (dk_at dksX1_heir_0 1 rfl rfl)
theorem dX1_heir_2 : decode cX1_heir 2 = .ok (.invokevirtual 205, 3) := dk_182 0 205 (dk_at dksX1_heir_0 2 rfl rfl)
theorem dX1_heir_5 : decode cX1_heir 5 = .ok (.iload_n 2, 1) := dk_28 (dk_at dksX1_heir_0 5 rfl rfl)
theorem dX1_heir_6 : decode cX1_heir 6 = .ok (.iconst 0, 1) := dk_3 (dk_at dksX1_heir_0 6 rfl rfl)
theorem dX1_heir_7 : decode cX1_heir 7 = .ok (.bipush 6, 2) := dk_16 6 (dk_at dksX1_heir_0 7 rfl rfl)
theorem dX1_heir_9 : decode cX1_heir 9 = .ok (.invokestatic 158, 3) := dk_184 0 158 (dk_at dksX1_heir_0 9 rfl rfl)
theorem dX1_heir_12 : decode cX1_heir 12 = .ok (.iload_n 2, 1) := dk_28 (dk_at dksX1_heir_0 12 rfl rfl)
theorem dX1_heir_13 : decode cX1_heir 13 = .ok (.tableswitch 133 0 5 #[39, 51, 63, 82, 100, 118], 39) := by decide +kernel
theorem dX1_heir_52 : decode cX1_heir 52 = .ok (.aload_n 0, 1) := dk_42 (dk_at dksX1_heir_2 0 rfl rfl)
theorem dX1_heir_53 : decode cX1_heir 53 = .ok (.getfield 82, 3) := dk_180 0 82 (dk_at dksX1_heir_2 1 rfl rfl)
theorem dX1_heir_56 : decode cX1_heir 56 = .ok (.getfield 208, 3) := dk_180 0 208 (dk_at dksX1_heir_2 4 rfl rfl)
theorem dX1_heir_59 : decode cX1_heir 59 = .ok (.iload_n 1, 1) := dk_27 (dk_at dksX1_heir_2 7 rfl rfl)
theorem dX1_heir_60 : decode cX1_heir 60 = .ok (.iaload, 1) := dk_46 (dk_at dksX1_heir_2 8 rfl rfl)
theorem dX1_heir_61 : decode cX1_heir 61 = .ok (.goto 97, 3) := dk_167 0 97 (dk_at dksX1_heir_2 9 rfl rfl)
theorem dX1_heir_64 : decode cX1_heir 64 = .ok (.aload_n 0, 1) := dk_42 (dk_at dksX1_heir_2 12 rfl rfl)
theorem dX1_heir_65 : decode cX1_heir 65 = .ok (.getfield 82, 3) := dk_180 0 82 (dk_at dksX1_heir_2 13 rfl rfl)
theorem dX1_heir_68 : decode cX1_heir 68 = .ok (.getfield 211, 3) := dk_180 0 211 (dk_at dksX1_heir_2 16 rfl rfl)
theorem dX1_heir_71 : decode cX1_heir 71 = .ok (.iload_n 1, 1) := dk_27 (dk_at dksX1_heir_2 19 rfl rfl)
theorem dX1_heir_72 : decode cX1_heir 72 = .ok (.iaload, 1) := dk_46 (dk_at dksX1_heir_2 20 rfl rfl)
theorem dX1_heir_73 : decode cX1_heir 73 = .ok (.goto 85, 3) := dk_167 0 85 (dk_at dksX1_heir_2 21 rfl rfl)
theorem dX1_heir_76 : decode cX1_heir 76 = .ok (.aload_n 0, 1) := dk_42 (dk_at dksX1_heir_3 0 rfl rfl)
theorem dX1_heir_77 : decode cX1_heir 77 = .ok (.getfield 82, 3) := dk_180 0 82 (dk_at dksX1_heir_3 1 rfl rfl)
theorem dX1_heir_80 : decode cX1_heir 80 = .ok (.getfield 169, 3) := dk_180 0 169 (dk_at dksX1_heir_3 4 rfl rfl)
theorem dX1_heir_83 : decode cX1_heir 83 = .ok (.iload_n 1, 1) := dk_27 (dk_at dksX1_heir_3 7 rfl rfl)
theorem dX1_heir_84 : decode cX1_heir 84 = .ok (.if_icmp .ne 7, 3) := dk_160 0 7 (dk_at dksX1_heir_3 8 rfl rfl)
theorem dX1_heir_87 : decode cX1_heir 87 = .ok (.iconst 1, 1) := dk_4 (dk_at dksX1_heir_3 11 rfl rfl)
theorem dX1_heir_88 : decode cX1_heir 88 = .ok (.goto 70, 3) := dk_167 0 70 (dk_at dksX1_heir_3 12 rfl rfl)
theorem dX1_heir_91 : decode cX1_heir 91 = .ok (.iconst 0, 1) := dk_3 (dk_at dksX1_heir_3 15 rfl rfl)
theorem dX1_heir_92 : decode cX1_heir 92 = .ok (.goto 66, 3) := dk_167 0 66 (dk_at dksX1_heir_3 16 rfl rfl)
theorem dX1_heir_95 : decode cX1_heir 95 = .ok (.aload_n 0, 1) := dk_42 (dk_at dksX1_heir_3 19 rfl rfl)
theorem dX1_heir_96 : decode cX1_heir 96 = .ok (.getfield 82, 3) := dk_180 0 82 (dk_at dksX1_heir_3 20 rfl rfl)
theorem dX1_heir_99 : decode cX1_heir 99 = .ok (.aload_n 0, 1) := dk_42 (dk_at dksX1_heir_3 23 rfl rfl)
theorem dX1_heir_100 : decode cX1_heir 100 = .ok (.getfield 82, 3) := dk_180 0 82 (dk_at dksX1_heir_4 0 rfl rfl)
theorem dX1_heir_103 : decode cX1_heir 103 = .ok (.getfield 175, 3) := dk_180 0 175 (dk_at dksX1_heir_4 3 rfl rfl)
theorem dX1_heir_106 : decode cX1_heir 106 = .ok (.iload_n 1, 1) := dk_27 (dk_at dksX1_heir_4 6 rfl rfl)
theorem dX1_heir_107 : decode cX1_heir 107 = .ok (.invokevirtual 214, 3) := dk_182 0 214 (dk_at dksX1_heir_4 7 rfl rfl)
theorem dX1_heir_110 : decode cX1_heir 110 = .ok (.goto 48, 3) := dk_167 0 48 (dk_at dksX1_heir_4 10 rfl rfl)
theorem dX1_heir_113 : decode cX1_heir 113 = .ok (.aload_n 0, 1) := dk_42 (dk_at dksX1_heir_4 13 rfl rfl)
theorem dX1_heir_114 : decode cX1_heir 114 = .ok (.getfield 82, 3) := dk_180 0 82 (dk_at dksX1_heir_4 14 rfl rfl)
theorem dX1_heir_117 : decode cX1_heir 117 = .ok (.aload_n 0, 1) := dk_42 (dk_at dksX1_heir_4 17 rfl rfl)
theorem dX1_heir_118 : decode cX1_heir 118 = .ok (.getfield 82, 3) := dk_180 0 82 (dk_at dksX1_heir_4 18 rfl rfl)
theorem dX1_heir_121 : decode cX1_heir 121 = .ok (.getfield 175, 3) := dk_180 0 175 (dk_at dksX1_heir_4 21 rfl rfl)
theorem dX1_heir_124 : decode cX1_heir 124 = .ok (.iload_n 1, 1) := dk_27 (dk_at dksX1_heir_5 0 rfl rfl)
theorem dX1_heir_125 : decode cX1_heir 125 = .ok (.invokevirtual 218, 3) := dk_182 0 218 (dk_at dksX1_heir_5 1 rfl rfl)
theorem dX1_heir_128 : decode cX1_heir 128 = .ok (.goto 30, 3) := dk_167 0 30 (dk_at dksX1_heir_5 4 rfl rfl)
theorem dX1_heir_131 : decode cX1_heir 131 = .ok (.aload_n 0, 1) := dk_42 (dk_at dksX1_heir_5 7 rfl rfl)
theorem dX1_heir_132 : decode cX1_heir 132 = .ok (.aload_n 0, 1) := dk_42 (dk_at dksX1_heir_5 8 rfl rfl)
theorem dX1_heir_133 : decode cX1_heir 133 = .ok (.iload_n 1, 1) := dk_27 (dk_at dksX1_heir_5 9 rfl rfl)
theorem dX1_heir_134 : decode cX1_heir 134 = .ok (.invokedynamic 221, 5) := by decide +kernel
theorem dX1_heir_139 : decode cX1_heir 139 = .ok (.iconst (-1), 1) := dk_2 (dk_at dksX1_heir_5 15 rfl rfl)
theorem dX1_heir_140 : decode cX1_heir 140 = .ok (.invokevirtual 224, 3) := dk_182 0 224 (dk_at dksX1_heir_5 16 rfl rfl)
theorem dX1_heir_143 : decode cX1_heir 143 = .ok (.goto 15, 3) := dk_167 0 15 (dk_at dksX1_heir_5 19 rfl rfl)
theorem dX1_heir_146 : decode cX1_heir 146 = .ok (.aload_n 0, 1) := dk_42 (dk_at dksX1_heir_5 22 rfl rfl)
theorem dX1_heir_147 : decode cX1_heir 147 = .ok (.aload_n 0, 1) := dk_42 (dk_at dksX1_heir_5 23 rfl rfl)
theorem dX1_heir_148 : decode cX1_heir 148 = .ok (.iload_n 1, 1) := dk_27 (dk_at dksX1_heir_6 0 rfl rfl)
theorem dX1_heir_149 : decode cX1_heir 149 = .ok (.invokedynamic 228, 5) := by decide +kernel
theorem dX1_heir_154 : decode cX1_heir 154 = .ok (.iconst 1, 1) := dk_4 (dk_at dksX1_heir_6 6 rfl rfl)
theorem dX1_heir_155 : decode cX1_heir 155 = .ok (.invokevirtual 224, 3) := dk_182 0 224 (dk_at dksX1_heir_6 7 rfl rfl)
theorem dX1_heir_158 : decode cX1_heir 158 = .ok (.ireturn, 1) := dk_172 (dk_at dksX1_heir_6 10 rfl rfl)
abbrev cX1_checkHeir : ByteArray := prog_1_method_14_code
def yX1_checkHeir : MethodName := ⟨RX1, "checkHeir", "(I)V"⟩
def dkwX1_checkHeir_0 : List UInt8 := [27, 42, 180, 0, 82, 180, 0, 135, 184, 0, 125, 177]
abbrev dktX1_checkHeir_0 : List UInt8 := dkwX1_checkHeir_0 ++ []
theorem dksX1_checkHeir_0 : cX1_checkHeir.data.toList.drop 0 = dktX1_checkHeir_0 := by decide +kernel
theorem dX1_checkHeir_0 : decode cX1_checkHeir 0 = .ok (.iload_n 1, 1) := dk_27 (dk_at dksX1_checkHeir_0 0 rfl rfl)
theorem dX1_checkHeir_1 : decode cX1_checkHeir 1 = .ok (.aload_n 0, 1) := dk_42 (dk_at dksX1_checkHeir_0 1 rfl rfl)
theorem dX1_checkHeir_2 : decode cX1_checkHeir 2 = .ok (.getfield 82, 3) := dk_180 0 82 (dk_at dksX1_checkHeir_0 2 rfl rfl)
theorem dX1_checkHeir_5 : decode cX1_checkHeir 5 = .ok (.getfield 135, 3) := dk_180 0 135 (dk_at dksX1_checkHeir_0 5 rfl rfl)
theorem dX1_checkHeir_8 : decode cX1_checkHeir 8 = .ok (.invokestatic 125, 3) := dk_184 0 125 (dk_at dksX1_checkHeir_0 8 rfl rfl)
theorem dX1_checkHeir_11 : decode cX1_checkHeir 11 = .ok (.return_, 1) := dk_177 (dk_at dksX1_checkHeir_0 11 rfl rfl)
abbrev cX1_checkIndex : ByteArray := prog_1_method_11_code
def yX1_checkIndex : MethodName := ⟨RX1, "checkIndex", "(II)V"⟩
def dkwX1_checkIndex_0 : List UInt8 := [26, 155, 0, 8, 26, 27, 161, 0, 11, 187, 0, 109, 89, 183, 0, 111, 191, 177]
abbrev dktX1_checkIndex_0 : List UInt8 := dkwX1_checkIndex_0 ++ []
theorem dksX1_checkIndex_0 : cX1_checkIndex.data.toList.drop 0 = dktX1_checkIndex_0 := by decide +kernel
theorem dX1_checkIndex_0 : decode cX1_checkIndex 0 = .ok (.iload_n 0, 1) := dk_26 (dk_at dksX1_checkIndex_0 0 rfl rfl)
theorem dX1_checkIndex_1 : decode cX1_checkIndex 1 = .ok (.ifCond .lt 8, 3) := dk_155 0 8 (dk_at dksX1_checkIndex_0 1 rfl rfl)
theorem dX1_checkIndex_4 : decode cX1_checkIndex 4 = .ok (.iload_n 0, 1) := dk_26 (dk_at dksX1_checkIndex_0 4 rfl rfl)
theorem dX1_checkIndex_5 : decode cX1_checkIndex 5 = .ok (.iload_n 1, 1) := dk_27 (dk_at dksX1_checkIndex_0 5 rfl rfl)
theorem dX1_checkIndex_6 : decode cX1_checkIndex 6 = .ok (.if_icmp .lt 11, 3) := dk_161 0 11 (dk_at dksX1_checkIndex_0 6 rfl rfl)
theorem dX1_checkIndex_9 : decode cX1_checkIndex 9 = .ok (.new 109, 3) := dk_187 0 109 (dk_at dksX1_checkIndex_0 9 rfl rfl)
theorem dX1_checkIndex_12 : decode cX1_checkIndex 12 = .ok (.dup, 1) := dk_89 (dk_at dksX1_checkIndex_0 12 rfl rfl)
theorem dX1_checkIndex_13 : decode cX1_checkIndex 13 = .ok (.invokespecial 111, 3) := dk_183 0 111 (dk_at dksX1_checkIndex_0 13 rfl rfl)
theorem dX1_checkIndex_16 : decode cX1_checkIndex 16 = .ok (.athrow, 1) := dk_191 (dk_at dksX1_checkIndex_0 16 rfl rfl)
theorem dX1_checkIndex_17 : decode cX1_checkIndex 17 = .ok (.return_, 1) := dk_177 (dk_at dksX1_checkIndex_0 17 rfl rfl)
abbrev cX1_lambda_heir_0 : ByteArray := prog_1_method_86_code
def yX1_lambda_heir_0 : MethodName := ⟨RX1, "lambda$heir$0", "(II)I"⟩
def dkwX1_lambda_heir_0_0 : List UInt8 := [42, 180, 0, 82, 28, 27, 182, 0, 214, 172]
abbrev dktX1_lambda_heir_0_0 : List UInt8 := dkwX1_lambda_heir_0_0 ++ []
theorem dksX1_lambda_heir_0_0 : cX1_lambda_heir_0.data.toList.drop 0 = dktX1_lambda_heir_0_0 := by decide +kernel
theorem dX1_lambda_heir_0_0 : decode cX1_lambda_heir_0 0 = .ok (.aload_n 0, 1) := dk_42 (dk_at dksX1_lambda_heir_0_0 0 rfl rfl)
theorem dX1_lambda_heir_0_1 : decode cX1_lambda_heir_0 1 = .ok (.getfield 82, 3) := dk_180 0 82 (dk_at dksX1_lambda_heir_0_0 1 rfl rfl)
theorem dX1_lambda_heir_0_4 : decode cX1_lambda_heir_0 4 = .ok (.iload_n 2, 1) := dk_28 (dk_at dksX1_lambda_heir_0_0 4 rfl rfl)
theorem dX1_lambda_heir_0_5 : decode cX1_lambda_heir_0 5 = .ok (.iload_n 1, 1) := dk_27 (dk_at dksX1_lambda_heir_0_0 5 rfl rfl)
theorem dX1_lambda_heir_0_6 : decode cX1_lambda_heir_0 6 = .ok (.invokevirtual 214, 3) := dk_182 0 214 (dk_at dksX1_lambda_heir_0_0 6 rfl rfl)
theorem dX1_lambda_heir_0_9 : decode cX1_lambda_heir_0 9 = .ok (.ireturn, 1) := dk_172 (dk_at dksX1_lambda_heir_0_0 9 rfl rfl)
abbrev cX1_lambda_heir_1 : ByteArray := prog_1_method_85_code
def yX1_lambda_heir_1 : MethodName := ⟨RX1, "lambda$heir$1", "(II)I"⟩
def dkwX1_lambda_heir_1_0 : List UInt8 := [42, 180, 0, 82, 28, 27, 182, 0, 214, 172]
abbrev dktX1_lambda_heir_1_0 : List UInt8 := dkwX1_lambda_heir_1_0 ++ []
theorem dksX1_lambda_heir_1_0 : cX1_lambda_heir_1.data.toList.drop 0 = dktX1_lambda_heir_1_0 := by decide +kernel
theorem dX1_lambda_heir_1_0 : decode cX1_lambda_heir_1 0 = .ok (.aload_n 0, 1) := dk_42 (dk_at dksX1_lambda_heir_1_0 0 rfl rfl)
theorem dX1_lambda_heir_1_1 : decode cX1_lambda_heir_1 1 = .ok (.getfield 82, 3) := dk_180 0 82 (dk_at dksX1_lambda_heir_1_0 1 rfl rfl)
theorem dX1_lambda_heir_1_4 : decode cX1_lambda_heir_1 4 = .ok (.iload_n 2, 1) := dk_28 (dk_at dksX1_lambda_heir_1_0 4 rfl rfl)
theorem dX1_lambda_heir_1_5 : decode cX1_lambda_heir_1 5 = .ok (.iload_n 1, 1) := dk_27 (dk_at dksX1_lambda_heir_1_0 5 rfl rfl)
theorem dX1_lambda_heir_1_6 : decode cX1_lambda_heir_1 6 = .ok (.invokevirtual 214, 3) := dk_182 0 214 (dk_at dksX1_lambda_heir_1_0 6 rfl rfl)
theorem dX1_lambda_heir_1_9 : decode cX1_lambda_heir_1 9 = .ok (.ireturn, 1) := dk_172 (dk_at dksX1_lambda_heir_1_0 9 rfl rfl)
abbrev cX1_rule : ByteArray := prog_1_method_29_code
def yX1_rule : MethodName := ⟨RX1, "rule", "(II)I"⟩
def dkwX1_rule_4 : List UInt8 := [167, 0, 15, 45, 180, 0, 253, 167, 0, 8, 42, 27, 182, 1, 0, 172]
abbrev dktX1_rule_4 : List UInt8 := dkwX1_rule_4 ++ []
def dkwX1_rule_3 : List UInt8 := [182, 0, 244, 167, 0, 36, 42, 42, 27, 186, 0, 249, 0, 0, 182, 0, 244, 167, 0, 22, 45, 180, 0, 250]
abbrev dktX1_rule_3 : List UInt8 := dkwX1_rule_3 ++ dktX1_rule_4
def dkwX1_rule_2 : List UInt8 := [42, 42, 27, 186, 0, 243, 0, 0, 182, 0, 244, 167, 0, 50, 42, 42, 27, 186, 0, 248, 0, 0]
abbrev dktX1_rule_2 : List UInt8 := dkwX1_rule_2 ++ dktX1_rule_3
def dkwX1_rule_1 : List UInt8 := [170, 0, 0, 0, 0, 0, 91, 0, 0, 0, 0, 0, 0, 0, 4, 0, 0, 0, 35, 0, 0, 0, 49, 0, 0, 0, 63, 0, 0, 0, 77, 0, 0, 0, 84]
abbrev dktX1_rule_1 : List UInt8 := dkwX1_rule_1 ++ dktX1_rule_2
def dkwX1_rule_0 : List UInt8 := [42, 27, 182, 0, 239, 78, 28, 3, 8, 184, 0, 158, 28]
abbrev dktX1_rule_0 : List UInt8 := dkwX1_rule_0 ++ dktX1_rule_1
theorem dksX1_rule_0 : cX1_rule.data.toList.drop 0 = dktX1_rule_0 := by decide +kernel
theorem dksX1_rule_1 : cX1_rule.data.toList.drop 13 = dktX1_rule_1 := dk_seg dksX1_rule_0 13 rfl rfl
theorem dksX1_rule_2 : cX1_rule.data.toList.drop 48 = dktX1_rule_2 := dk_seg dksX1_rule_1 35 rfl rfl
theorem dksX1_rule_3 : cX1_rule.data.toList.drop 70 = dktX1_rule_3 := dk_seg dksX1_rule_2 22 rfl rfl
theorem dksX1_rule_4 : cX1_rule.data.toList.drop 94 = dktX1_rule_4 := dk_seg dksX1_rule_3 24 rfl rfl
theorem dX1_rule_0 : decode cX1_rule 0 = .ok (.aload_n 0, 1) := dk_42 (dk_at dksX1_rule_0 0 rfl rfl)
theorem dX1_rule_1 : decode cX1_rule 1 = .ok (.iload_n 1, 1) := dk_27 (dk_at dksX1_rule_0 1 rfl rfl)
theorem dX1_rule_2 : decode cX1_rule 2 = .ok (.invokevirtual 239, 3) := dk_182 0 239 (dk_at dksX1_rule_0 2 rfl rfl)
theorem dX1_rule_5 : decode cX1_rule 5 = .ok (.astore_n 3, 1) := dk_78 (dk_at dksX1_rule_0 5 rfl rfl)
theorem dX1_rule_6 : decode cX1_rule 6 = .ok (.iload_n 2, 1) := dk_28 (dk_at dksX1_rule_0 6 rfl rfl)
theorem dX1_rule_7 : decode cX1_rule 7 = .ok (.iconst 0, 1) := dk_3 (dk_at dksX1_rule_0 7 rfl rfl)
theorem dX1_rule_8 : decode cX1_rule 8 = .ok (.iconst 5, 1) := dk_8 (dk_at dksX1_rule_0 8 rfl rfl)
theorem dX1_rule_9 : decode cX1_rule 9 = .ok (.invokestatic 158, 3) := dk_184 0 158 (dk_at dksX1_rule_0 9 rfl rfl)
theorem dX1_rule_12 : decode cX1_rule 12 = .ok (.iload_n 2, 1) := dk_28 (dk_at dksX1_rule_0 12 rfl rfl)
theorem dX1_rule_13 : decode cX1_rule 13 = .ok (.tableswitch 91 0 4 #[35, 49, 63, 77, 84], 35) := by decide +kernel
theorem dX1_rule_48 : decode cX1_rule 48 = .ok (.aload_n 0, 1) := dk_42 (dk_at dksX1_rule_2 0 rfl rfl)
theorem dX1_rule_49 : decode cX1_rule 49 = .ok (.aload_n 0, 1) := dk_42 (dk_at dksX1_rule_2 1 rfl rfl)
theorem dX1_rule_50 : decode cX1_rule 50 = .ok (.iload_n 1, 1) := dk_27 (dk_at dksX1_rule_2 2 rfl rfl)
theorem dX1_rule_51 : decode cX1_rule 51 = .ok (.invokedynamic 243, 5) := by decide +kernel
theorem dX1_rule_56 : decode cX1_rule 56 = .ok (.invokevirtual 244, 3) := dk_182 0 244 (dk_at dksX1_rule_2 8 rfl rfl)
theorem dX1_rule_59 : decode cX1_rule 59 = .ok (.goto 50, 3) := dk_167 0 50 (dk_at dksX1_rule_2 11 rfl rfl)
theorem dX1_rule_62 : decode cX1_rule 62 = .ok (.aload_n 0, 1) := dk_42 (dk_at dksX1_rule_2 14 rfl rfl)
theorem dX1_rule_63 : decode cX1_rule 63 = .ok (.aload_n 0, 1) := dk_42 (dk_at dksX1_rule_2 15 rfl rfl)
theorem dX1_rule_64 : decode cX1_rule 64 = .ok (.iload_n 1, 1) := dk_27 (dk_at dksX1_rule_2 16 rfl rfl)
theorem dX1_rule_65 : decode cX1_rule 65 = .ok (.invokedynamic 248, 5) := by decide +kernel
theorem dX1_rule_70 : decode cX1_rule 70 = .ok (.invokevirtual 244, 3) := dk_182 0 244 (dk_at dksX1_rule_3 0 rfl rfl)
theorem dX1_rule_73 : decode cX1_rule 73 = .ok (.goto 36, 3) := dk_167 0 36 (dk_at dksX1_rule_3 3 rfl rfl)
theorem dX1_rule_76 : decode cX1_rule 76 = .ok (.aload_n 0, 1) := dk_42 (dk_at dksX1_rule_3 6 rfl rfl)
theorem dX1_rule_77 : decode cX1_rule 77 = .ok (.aload_n 0, 1) := dk_42 (dk_at dksX1_rule_3 7 rfl rfl)
theorem dX1_rule_78 : decode cX1_rule 78 = .ok (.iload_n 1, 1) := dk_27 (dk_at dksX1_rule_3 8 rfl rfl)
theorem dX1_rule_79 : decode cX1_rule 79 = .ok (.invokedynamic 249, 5) := by decide +kernel
theorem dX1_rule_84 : decode cX1_rule 84 = .ok (.invokevirtual 244, 3) := dk_182 0 244 (dk_at dksX1_rule_3 14 rfl rfl)
theorem dX1_rule_87 : decode cX1_rule 87 = .ok (.goto 22, 3) := dk_167 0 22 (dk_at dksX1_rule_3 17 rfl rfl)
theorem dX1_rule_90 : decode cX1_rule 90 = .ok (.aload_n 3, 1) := dk_45 (dk_at dksX1_rule_3 20 rfl rfl)
theorem dX1_rule_91 : decode cX1_rule 91 = .ok (.getfield 250, 3) := dk_180 0 250 (dk_at dksX1_rule_3 21 rfl rfl)
theorem dX1_rule_94 : decode cX1_rule 94 = .ok (.goto 15, 3) := dk_167 0 15 (dk_at dksX1_rule_4 0 rfl rfl)
theorem dX1_rule_97 : decode cX1_rule 97 = .ok (.aload_n 3, 1) := dk_45 (dk_at dksX1_rule_4 3 rfl rfl)
theorem dX1_rule_98 : decode cX1_rule 98 = .ok (.getfield 253, 3) := dk_180 0 253 (dk_at dksX1_rule_4 4 rfl rfl)
theorem dX1_rule_101 : decode cX1_rule 101 = .ok (.goto 8, 3) := dk_167 0 8 (dk_at dksX1_rule_4 7 rfl rfl)
theorem dX1_rule_104 : decode cX1_rule 104 = .ok (.aload_n 0, 1) := dk_42 (dk_at dksX1_rule_4 10 rfl rfl)
theorem dX1_rule_105 : decode cX1_rule 105 = .ok (.iload_n 1, 1) := dk_27 (dk_at dksX1_rule_4 11 rfl rfl)
theorem dX1_rule_106 : decode cX1_rule 106 = .ok (.invokevirtual 256, 3) := dk_182 1 0 (dk_at dksX1_rule_4 12 rfl rfl)
theorem dX1_rule_109 : decode cX1_rule 109 = .ok (.ireturn, 1) := dk_172 (dk_at dksX1_rule_4 15 rfl rfl)
abbrev cX1_ruleAt : ByteArray := prog_1_method_13_code
def yX1_ruleAt : MethodName := ⟨RX1, "ruleAt", "(I)LHeirCases$Rule;"⟩
def dkwX1_ruleAt_1 : List UInt8 := [182, 0, 129, 192, 0, 133, 176]
abbrev dktX1_ruleAt_1 : List UInt8 := dkwX1_ruleAt_1 ++ []
def dkwX1_ruleAt_0 : List UInt8 := [27, 42, 180, 0, 82, 180, 0, 118, 182, 0, 122, 184, 0, 125, 42, 180, 0, 82, 180, 0, 118, 27]
abbrev dktX1_ruleAt_0 : List UInt8 := dkwX1_ruleAt_0 ++ dktX1_ruleAt_1
theorem dksX1_ruleAt_0 : cX1_ruleAt.data.toList.drop 0 = dktX1_ruleAt_0 := by decide +kernel
theorem dksX1_ruleAt_1 : cX1_ruleAt.data.toList.drop 22 = dktX1_ruleAt_1 := dk_seg dksX1_ruleAt_0 22 rfl rfl
theorem dX1_ruleAt_0 : decode cX1_ruleAt 0 = .ok (.iload_n 1, 1) := dk_27 (dk_at dksX1_ruleAt_0 0 rfl rfl)
theorem dX1_ruleAt_1 : decode cX1_ruleAt 1 = .ok (.aload_n 0, 1) := dk_42 (dk_at dksX1_ruleAt_0 1 rfl rfl)
theorem dX1_ruleAt_2 : decode cX1_ruleAt 2 = .ok (.getfield 82, 3) := dk_180 0 82 (dk_at dksX1_ruleAt_0 2 rfl rfl)
theorem dX1_ruleAt_5 : decode cX1_ruleAt 5 = .ok (.getfield 118, 3) := dk_180 0 118 (dk_at dksX1_ruleAt_0 5 rfl rfl)
theorem dX1_ruleAt_8 : decode cX1_ruleAt 8 = .ok (.invokevirtual 122, 3) := dk_182 0 122 (dk_at dksX1_ruleAt_0 8 rfl rfl)
theorem dX1_ruleAt_11 : decode cX1_ruleAt 11 = .ok (.invokestatic 125, 3) := dk_184 0 125 (dk_at dksX1_ruleAt_0 11 rfl rfl)
theorem dX1_ruleAt_14 : decode cX1_ruleAt 14 = .ok (.aload_n 0, 1) := dk_42 (dk_at dksX1_ruleAt_0 14 rfl rfl)
theorem dX1_ruleAt_15 : decode cX1_ruleAt 15 = .ok (.getfield 82, 3) := dk_180 0 82 (dk_at dksX1_ruleAt_0 15 rfl rfl)
theorem dX1_ruleAt_18 : decode cX1_ruleAt 18 = .ok (.getfield 118, 3) := dk_180 0 118 (dk_at dksX1_ruleAt_0 18 rfl rfl)
theorem dX1_ruleAt_21 : decode cX1_ruleAt 21 = .ok (.iload_n 1, 1) := dk_27 (dk_at dksX1_ruleAt_0 21 rfl rfl)
theorem dX1_ruleAt_22 : decode cX1_ruleAt 22 = .ok (.invokevirtual 129, 3) := dk_182 0 129 (dk_at dksX1_ruleAt_1 0 rfl rfl)
theorem dX1_ruleAt_25 : decode cX1_ruleAt 25 = .ok (.checkcast 133, 3) := dk_192 0 133 (dk_at dksX1_ruleAt_1 3 rfl rfl)
theorem dX1_ruleAt_28 : decode cX1_ruleAt 28 = .ok (.areturn, 1) := dk_176 (dk_at dksX1_ruleAt_1 6 rfl rfl)
abbrev cX1_lambda_rule_2 : ByteArray := prog_1_method_84_code
def yX1_lambda_rule_2 : MethodName := ⟨RX1, "lambda$rule$2", "(II)I"⟩
def dkwX1_lambda_rule_2_0 : List UInt8 := [42, 180, 0, 82, 28, 182, 0, 188, 180, 0, 233, 27, 122, 4, 126, 172]
abbrev dktX1_lambda_rule_2_0 : List UInt8 := dkwX1_lambda_rule_2_0 ++ []
theorem dksX1_lambda_rule_2_0 : cX1_lambda_rule_2.data.toList.drop 0 = dktX1_lambda_rule_2_0 := by decide +kernel
theorem dX1_lambda_rule_2_0 : decode cX1_lambda_rule_2 0 = .ok (.aload_n 0, 1) := dk_42 (dk_at dksX1_lambda_rule_2_0 0 rfl rfl)
theorem dX1_lambda_rule_2_1 : decode cX1_lambda_rule_2 1 = .ok (.getfield 82, 3) := dk_180 0 82 (dk_at dksX1_lambda_rule_2_0 1 rfl rfl)
theorem dX1_lambda_rule_2_4 : decode cX1_lambda_rule_2 4 = .ok (.iload_n 2, 1) := dk_28 (dk_at dksX1_lambda_rule_2_0 4 rfl rfl)
theorem dX1_lambda_rule_2_5 : decode cX1_lambda_rule_2 5 = .ok (.invokevirtual 188, 3) := dk_182 0 188 (dk_at dksX1_lambda_rule_2_0 5 rfl rfl)
theorem dX1_lambda_rule_2_8 : decode cX1_lambda_rule_2 8 = .ok (.getfield 233, 3) := dk_180 0 233 (dk_at dksX1_lambda_rule_2_0 8 rfl rfl)
theorem dX1_lambda_rule_2_11 : decode cX1_lambda_rule_2 11 = .ok (.iload_n 1, 1) := dk_27 (dk_at dksX1_lambda_rule_2_0 11 rfl rfl)
theorem dX1_lambda_rule_2_12 : decode cX1_lambda_rule_2 12 = .ok (.ishr, 1) := dk_122 (dk_at dksX1_lambda_rule_2_0 12 rfl rfl)
theorem dX1_lambda_rule_2_13 : decode cX1_lambda_rule_2 13 = .ok (.iconst 1, 1) := dk_4 (dk_at dksX1_lambda_rule_2_0 13 rfl rfl)
theorem dX1_lambda_rule_2_14 : decode cX1_lambda_rule_2 14 = .ok (.iand, 1) := dk_126 (dk_at dksX1_lambda_rule_2_0 14 rfl rfl)
theorem dX1_lambda_rule_2_15 : decode cX1_lambda_rule_2 15 = .ok (.ireturn, 1) := dk_172 (dk_at dksX1_lambda_rule_2_0 15 rfl rfl)
abbrev cX1_lambda_rule_3 : ByteArray := prog_1_method_83_code
def yX1_lambda_rule_3 : MethodName := ⟨RX1, "lambda$rule$3", "(II)I"⟩
def dkwX1_lambda_rule_3_0 : List UInt8 := [42, 180, 0, 82, 28, 182, 0, 188, 180, 1, 9, 27, 160, 0, 7, 4, 167, 0, 4, 3, 172]
abbrev dktX1_lambda_rule_3_0 : List UInt8 := dkwX1_lambda_rule_3_0 ++ []
theorem dksX1_lambda_rule_3_0 : cX1_lambda_rule_3.data.toList.drop 0 = dktX1_lambda_rule_3_0 := by decide +kernel
theorem dX1_lambda_rule_3_0 : decode cX1_lambda_rule_3 0 = .ok (.aload_n 0, 1) := dk_42 (dk_at dksX1_lambda_rule_3_0 0 rfl rfl)
theorem dX1_lambda_rule_3_1 : decode cX1_lambda_rule_3 1 = .ok (.getfield 82, 3) := dk_180 0 82 (dk_at dksX1_lambda_rule_3_0 1 rfl rfl)
theorem dX1_lambda_rule_3_4 : decode cX1_lambda_rule_3 4 = .ok (.iload_n 2, 1) := dk_28 (dk_at dksX1_lambda_rule_3_0 4 rfl rfl)
theorem dX1_lambda_rule_3_5 : decode cX1_lambda_rule_3 5 = .ok (.invokevirtual 188, 3) := dk_182 0 188 (dk_at dksX1_lambda_rule_3_0 5 rfl rfl)
theorem dX1_lambda_rule_3_8 : decode cX1_lambda_rule_3 8 = .ok (.getfield 265, 3) := dk_180 1 9 (dk_at dksX1_lambda_rule_3_0 8 rfl rfl)
theorem dX1_lambda_rule_3_11 : decode cX1_lambda_rule_3 11 = .ok (.iload_n 1, 1) := dk_27 (dk_at dksX1_lambda_rule_3_0 11 rfl rfl)
theorem dX1_lambda_rule_3_12 : decode cX1_lambda_rule_3 12 = .ok (.if_icmp .ne 7, 3) := dk_160 0 7 (dk_at dksX1_lambda_rule_3_0 12 rfl rfl)
theorem dX1_lambda_rule_3_15 : decode cX1_lambda_rule_3 15 = .ok (.iconst 1, 1) := dk_4 (dk_at dksX1_lambda_rule_3_0 15 rfl rfl)
theorem dX1_lambda_rule_3_16 : decode cX1_lambda_rule_3 16 = .ok (.goto 4, 3) := dk_167 0 4 (dk_at dksX1_lambda_rule_3_0 16 rfl rfl)
theorem dX1_lambda_rule_3_19 : decode cX1_lambda_rule_3 19 = .ok (.iconst 0, 1) := dk_3 (dk_at dksX1_lambda_rule_3_0 19 rfl rfl)
theorem dX1_lambda_rule_3_20 : decode cX1_lambda_rule_3 20 = .ok (.ireturn, 1) := dk_172 (dk_at dksX1_lambda_rule_3_0 20 rfl rfl)
abbrev cX1_lambda_rule_4 : ByteArray := prog_1_method_82_code
def yX1_lambda_rule_4 : MethodName := ⟨RX1, "lambda$rule$4", "(II)I"⟩
def dkwX1_lambda_rule_4_0 : List UInt8 := [42, 180, 0, 82, 28, 182, 0, 188, 27, 184, 1, 12, 172]
abbrev dktX1_lambda_rule_4_0 : List UInt8 := dkwX1_lambda_rule_4_0 ++ []
theorem dksX1_lambda_rule_4_0 : cX1_lambda_rule_4.data.toList.drop 0 = dktX1_lambda_rule_4_0 := by decide +kernel
theorem dX1_lambda_rule_4_0 : decode cX1_lambda_rule_4 0 = .ok (.aload_n 0, 1) := dk_42 (dk_at dksX1_lambda_rule_4_0 0 rfl rfl)
theorem dX1_lambda_rule_4_1 : decode cX1_lambda_rule_4 1 = .ok (.getfield 82, 3) := dk_180 0 82 (dk_at dksX1_lambda_rule_4_0 1 rfl rfl)
theorem dX1_lambda_rule_4_4 : decode cX1_lambda_rule_4 4 = .ok (.iload_n 2, 1) := dk_28 (dk_at dksX1_lambda_rule_4_0 4 rfl rfl)
theorem dX1_lambda_rule_4_5 : decode cX1_lambda_rule_4 5 = .ok (.invokevirtual 188, 3) := dk_182 0 188 (dk_at dksX1_lambda_rule_4_0 5 rfl rfl)
theorem dX1_lambda_rule_4_8 : decode cX1_lambda_rule_4 8 = .ok (.iload_n 1, 1) := dk_27 (dk_at dksX1_lambda_rule_4_0 8 rfl rfl)
theorem dX1_lambda_rule_4_9 : decode cX1_lambda_rule_4 9 = .ok (.invokestatic 268, 3) := dk_184 1 12 (dk_at dksX1_lambda_rule_4_0 9 rfl rfl)
theorem dX1_lambda_rule_4_12 : decode cX1_lambda_rule_4 12 = .ok (.ireturn, 1) := dk_172 (dk_at dksX1_lambda_rule_4_0 12 rfl rfl)
abbrev cX1_beatenIn : ByteArray := prog_1_method_28_code
def yX1_beatenIn : MethodName := ⟨RX1, "beatenIn", "(LHeirCases$Finding;I)I"⟩
def dkwX1_beatenIn_0 : List UInt8 := [42, 180, 0, 233, 42, 180, 0, 236, 2, 130, 126, 27, 122, 4, 126, 172]
abbrev dktX1_beatenIn_0 : List UInt8 := dkwX1_beatenIn_0 ++ []
theorem dksX1_beatenIn_0 : cX1_beatenIn.data.toList.drop 0 = dktX1_beatenIn_0 := by decide +kernel
theorem dX1_beatenIn_0 : decode cX1_beatenIn 0 = .ok (.aload_n 0, 1) := dk_42 (dk_at dksX1_beatenIn_0 0 rfl rfl)
theorem dX1_beatenIn_1 : decode cX1_beatenIn 1 = .ok (.getfield 233, 3) := dk_180 0 233 (dk_at dksX1_beatenIn_0 1 rfl rfl)
theorem dX1_beatenIn_4 : decode cX1_beatenIn 4 = .ok (.aload_n 0, 1) := dk_42 (dk_at dksX1_beatenIn_0 4 rfl rfl)
theorem dX1_beatenIn_5 : decode cX1_beatenIn 5 = .ok (.getfield 236, 3) := dk_180 0 236 (dk_at dksX1_beatenIn_0 5 rfl rfl)
theorem dX1_beatenIn_8 : decode cX1_beatenIn 8 = .ok (.iconst (-1), 1) := dk_2 (dk_at dksX1_beatenIn_0 8 rfl rfl)
theorem dX1_beatenIn_9 : decode cX1_beatenIn 9 = .ok (.ixor, 1) := dk_130 (dk_at dksX1_beatenIn_0 9 rfl rfl)
theorem dX1_beatenIn_10 : decode cX1_beatenIn 10 = .ok (.iand, 1) := dk_126 (dk_at dksX1_beatenIn_0 10 rfl rfl)
theorem dX1_beatenIn_11 : decode cX1_beatenIn 11 = .ok (.iload_n 1, 1) := dk_27 (dk_at dksX1_beatenIn_0 11 rfl rfl)
theorem dX1_beatenIn_12 : decode cX1_beatenIn 12 = .ok (.ishr, 1) := dk_122 (dk_at dksX1_beatenIn_0 12 rfl rfl)
theorem dX1_beatenIn_13 : decode cX1_beatenIn 13 = .ok (.iconst 1, 1) := dk_4 (dk_at dksX1_beatenIn_0 13 rfl rfl)
theorem dX1_beatenIn_14 : decode cX1_beatenIn 14 = .ok (.iand, 1) := dk_126 (dk_at dksX1_beatenIn_0 14 rfl rfl)
theorem dX1_beatenIn_15 : decode cX1_beatenIn 15 = .ok (.ireturn, 1) := dk_172 (dk_at dksX1_beatenIn_0 15 rfl rfl)
abbrev cX1_beaters : ByteArray := prog_1_method_27_code
def yX1_beaters : MethodName := ⟨RX1, "beaters", "(I)I"⟩
def dkwX1_beaters_2 : List UInt8 := [128, 61, 132, 3, 1, 167, 255, 208, 28, 172]
abbrev dktX1_beaters_2 : List UInt8 := dkwX1_beaters_2 ++ []
def dkwX1_beaters_1 : List UInt8 := [180, 0, 118, 29, 182, 0, 129, 192, 0, 133, 27, 182, 0, 229, 153, 0, 9, 4, 29, 120, 167, 0, 4, 3]
abbrev dktX1_beaters_1 : List UInt8 := dkwX1_beaters_1 ++ dktX1_beaters_2
def dkwX1_beaters_0 : List UInt8 := [3, 61, 3, 62, 29, 42, 180, 0, 82, 180, 0, 118, 182, 0, 122, 162, 0, 40, 28, 42, 180, 0, 82]
abbrev dktX1_beaters_0 : List UInt8 := dkwX1_beaters_0 ++ dktX1_beaters_1
theorem dksX1_beaters_0 : cX1_beaters.data.toList.drop 0 = dktX1_beaters_0 := by decide +kernel
theorem dksX1_beaters_1 : cX1_beaters.data.toList.drop 23 = dktX1_beaters_1 := dk_seg dksX1_beaters_0 23 rfl rfl
theorem dksX1_beaters_2 : cX1_beaters.data.toList.drop 47 = dktX1_beaters_2 := dk_seg dksX1_beaters_1 24 rfl rfl
theorem dX1_beaters_0 : decode cX1_beaters 0 = .ok (.iconst 0, 1) := dk_3 (dk_at dksX1_beaters_0 0 rfl rfl)
theorem dX1_beaters_1 : decode cX1_beaters 1 = .ok (.istore_n 2, 1) := dk_61 (dk_at dksX1_beaters_0 1 rfl rfl)
theorem dX1_beaters_2 : decode cX1_beaters 2 = .ok (.iconst 0, 1) := dk_3 (dk_at dksX1_beaters_0 2 rfl rfl)
theorem dX1_beaters_3 : decode cX1_beaters 3 = .ok (.istore_n 3, 1) := dk_62 (dk_at dksX1_beaters_0 3 rfl rfl)
theorem dX1_beaters_4 : decode cX1_beaters 4 = .ok (.iload_n 3, 1) := dk_29 (dk_at dksX1_beaters_0 4 rfl rfl)
theorem dX1_beaters_5 : decode cX1_beaters 5 = .ok (.aload_n 0, 1) := dk_42 (dk_at dksX1_beaters_0 5 rfl rfl)
theorem dX1_beaters_6 : decode cX1_beaters 6 = .ok (.getfield 82, 3) := dk_180 0 82 (dk_at dksX1_beaters_0 6 rfl rfl)
theorem dX1_beaters_9 : decode cX1_beaters 9 = .ok (.getfield 118, 3) := dk_180 0 118 (dk_at dksX1_beaters_0 9 rfl rfl)
theorem dX1_beaters_12 : decode cX1_beaters 12 = .ok (.invokevirtual 122, 3) := dk_182 0 122 (dk_at dksX1_beaters_0 12 rfl rfl)
theorem dX1_beaters_15 : decode cX1_beaters 15 = .ok (.if_icmp .ge 40, 3) := dk_162 0 40 (dk_at dksX1_beaters_0 15 rfl rfl)
theorem dX1_beaters_18 : decode cX1_beaters 18 = .ok (.iload_n 2, 1) := dk_28 (dk_at dksX1_beaters_0 18 rfl rfl)
theorem dX1_beaters_19 : decode cX1_beaters 19 = .ok (.aload_n 0, 1) := dk_42 (dk_at dksX1_beaters_0 19 rfl rfl)
theorem dX1_beaters_20 : decode cX1_beaters 20 = .ok (.getfield 82, 3) := dk_180 0 82 (dk_at dksX1_beaters_0 20 rfl rfl)
theorem dX1_beaters_23 : decode cX1_beaters 23 = .ok (.getfield 118, 3) := dk_180 0 118 (dk_at dksX1_beaters_1 0 rfl rfl)
theorem dX1_beaters_26 : decode cX1_beaters 26 = .ok (.iload_n 3, 1) := dk_29 (dk_at dksX1_beaters_1 3 rfl rfl)
theorem dX1_beaters_27 : decode cX1_beaters 27 = .ok (.invokevirtual 129, 3) := dk_182 0 129 (dk_at dksX1_beaters_1 4 rfl rfl)
theorem dX1_beaters_30 : decode cX1_beaters 30 = .ok (.checkcast 133, 3) := dk_192 0 133 (dk_at dksX1_beaters_1 7 rfl rfl)
theorem dX1_beaters_33 : decode cX1_beaters 33 = .ok (.iload_n 1, 1) := dk_27 (dk_at dksX1_beaters_1 10 rfl rfl)
theorem dX1_beaters_34 : decode cX1_beaters 34 = .ok (.invokevirtual 229, 3) := dk_182 0 229 (dk_at dksX1_beaters_1 11 rfl rfl)
theorem dX1_beaters_37 : decode cX1_beaters 37 = .ok (.ifCond .eq 9, 3) := dk_153 0 9 (dk_at dksX1_beaters_1 14 rfl rfl)
theorem dX1_beaters_40 : decode cX1_beaters 40 = .ok (.iconst 1, 1) := dk_4 (dk_at dksX1_beaters_1 17 rfl rfl)
theorem dX1_beaters_41 : decode cX1_beaters 41 = .ok (.iload_n 3, 1) := dk_29 (dk_at dksX1_beaters_1 18 rfl rfl)
theorem dX1_beaters_42 : decode cX1_beaters 42 = .ok (.ishl, 1) := dk_120 (dk_at dksX1_beaters_1 19 rfl rfl)
theorem dX1_beaters_43 : decode cX1_beaters 43 = .ok (.goto 4, 3) := dk_167 0 4 (dk_at dksX1_beaters_1 20 rfl rfl)
theorem dX1_beaters_46 : decode cX1_beaters 46 = .ok (.iconst 0, 1) := dk_3 (dk_at dksX1_beaters_1 23 rfl rfl)
theorem dX1_beaters_47 : decode cX1_beaters 47 = .ok (.ior, 1) := dk_128 (dk_at dksX1_beaters_2 0 rfl rfl)
theorem dX1_beaters_48 : decode cX1_beaters 48 = .ok (.istore_n 2, 1) := dk_61 (dk_at dksX1_beaters_2 1 rfl rfl)
theorem dX1_beaters_49 : decode cX1_beaters 49 = .ok (.iinc 3 1, 3) := dk_132 3 1 (dk_at dksX1_beaters_2 2 rfl rfl)
theorem dX1_beaters_52 : decode cX1_beaters 52 = .ok (.goto (-48), 3) := dk_167 255 208 (dk_at dksX1_beaters_2 5 rfl rfl)
theorem dX1_beaters_55 : decode cX1_beaters 55 = .ok (.iload_n 2, 1) := dk_28 (dk_at dksX1_beaters_2 8 rfl rfl)
theorem dX1_beaters_56 : decode cX1_beaters 56 = .ok (.ireturn, 1) := dk_172 (dk_at dksX1_beaters_2 9 rfl rfl)
abbrev cX1_share : ByteArray := prog_1_method_30_code
def yX1_share : MethodName := ⟨RX1, "share", "(IIZ)I"⟩
def dkwX1_share_1 : List UInt8 := [167, 0, 9, 25, 4, 28, 182, 1, 6, 172]
abbrev dktX1_share_1 : List UInt8 := dkwX1_share_1 ++ []
def dkwX1_share_0 : List UInt8 := [42, 27, 182, 0, 239, 58, 4, 42, 28, 182, 0, 205, 29, 153, 0, 12, 25, 4, 28, 182, 1, 3]
abbrev dktX1_share_0 : List UInt8 := dkwX1_share_0 ++ dktX1_share_1
theorem dksX1_share_0 : cX1_share.data.toList.drop 0 = dktX1_share_0 := by decide +kernel
theorem dksX1_share_1 : cX1_share.data.toList.drop 22 = dktX1_share_1 := dk_seg dksX1_share_0 22 rfl rfl
theorem dX1_share_0 : decode cX1_share 0 = .ok (.aload_n 0, 1) := dk_42 (dk_at dksX1_share_0 0 rfl rfl)
theorem dX1_share_1 : decode cX1_share 1 = .ok (.iload_n 1, 1) := dk_27 (dk_at dksX1_share_0 1 rfl rfl)
theorem dX1_share_2 : decode cX1_share 2 = .ok (.invokevirtual 239, 3) := dk_182 0 239 (dk_at dksX1_share_0 2 rfl rfl)
theorem dX1_share_5 : decode cX1_share 5 = .ok (.astore 4, 2) := dk_58 4 (dk_at dksX1_share_0 5 rfl rfl)
theorem dX1_share_7 : decode cX1_share 7 = .ok (.aload_n 0, 1) := dk_42 (dk_at dksX1_share_0 7 rfl rfl)
theorem dX1_share_8 : decode cX1_share 8 = .ok (.iload_n 2, 1) := dk_28 (dk_at dksX1_share_0 8 rfl rfl)
theorem dX1_share_9 : decode cX1_share 9 = .ok (.invokevirtual 205, 3) := dk_182 0 205 (dk_at dksX1_share_0 9 rfl rfl)
theorem dX1_share_12 : decode cX1_share 12 = .ok (.iload_n 3, 1) := dk_29 (dk_at dksX1_share_0 12 rfl rfl)
theorem dX1_share_13 : decode cX1_share 13 = .ok (.ifCond .eq 12, 3) := dk_153 0 12 (dk_at dksX1_share_0 13 rfl rfl)
theorem dX1_share_16 : decode cX1_share 16 = .ok (.aload 4, 2) := dk_25 4 (dk_at dksX1_share_0 16 rfl rfl)
theorem dX1_share_18 : decode cX1_share 18 = .ok (.iload_n 2, 1) := dk_28 (dk_at dksX1_share_0 18 rfl rfl)
theorem dX1_share_19 : decode cX1_share 19 = .ok (.invokevirtual 259, 3) := dk_182 1 3 (dk_at dksX1_share_0 19 rfl rfl)
theorem dX1_share_22 : decode cX1_share 22 = .ok (.goto 9, 3) := dk_167 0 9 (dk_at dksX1_share_1 0 rfl rfl)
theorem dX1_share_25 : decode cX1_share 25 = .ok (.aload 4, 2) := dk_25 4 (dk_at dksX1_share_1 3 rfl rfl)
theorem dX1_share_27 : decode cX1_share 27 = .ok (.iload_n 2, 1) := dk_28 (dk_at dksX1_share_1 5 rfl rfl)
theorem dX1_share_28 : decode cX1_share 28 = .ok (.invokevirtual 262, 3) := dk_182 1 6 (dk_at dksX1_share_1 6 rfl rfl)
theorem dX1_share_31 : decode cX1_share 31 = .ok (.ireturn, 1) := dk_172 (dk_at dksX1_share_1 9 rfl rfl)
abbrev cX1_divisor : ByteArray := prog_1_method_3_code
def yX1_divisor : MethodName := ⟨RX1, "divisor", "(II)I"⟩
def dkwX1_divisor_0 : List UInt8 := [26, 61, 27, 62, 29, 153, 0, 16, 28, 29, 112, 54, 4, 29, 61, 21, 4, 62, 167, 255, 242, 28, 172]
abbrev dktX1_divisor_0 : List UInt8 := dkwX1_divisor_0 ++ []
theorem dksX1_divisor_0 : cX1_divisor.data.toList.drop 0 = dktX1_divisor_0 := by decide +kernel
theorem dX1_divisor_0 : decode cX1_divisor 0 = .ok (.iload_n 0, 1) := dk_26 (dk_at dksX1_divisor_0 0 rfl rfl)
theorem dX1_divisor_1 : decode cX1_divisor 1 = .ok (.istore_n 2, 1) := dk_61 (dk_at dksX1_divisor_0 1 rfl rfl)
theorem dX1_divisor_2 : decode cX1_divisor 2 = .ok (.iload_n 1, 1) := dk_27 (dk_at dksX1_divisor_0 2 rfl rfl)
theorem dX1_divisor_3 : decode cX1_divisor 3 = .ok (.istore_n 3, 1) := dk_62 (dk_at dksX1_divisor_0 3 rfl rfl)
theorem dX1_divisor_4 : decode cX1_divisor 4 = .ok (.iload_n 3, 1) := dk_29 (dk_at dksX1_divisor_0 4 rfl rfl)
theorem dX1_divisor_5 : decode cX1_divisor 5 = .ok (.ifCond .eq 16, 3) := dk_153 0 16 (dk_at dksX1_divisor_0 5 rfl rfl)
theorem dX1_divisor_8 : decode cX1_divisor 8 = .ok (.iload_n 2, 1) := dk_28 (dk_at dksX1_divisor_0 8 rfl rfl)
theorem dX1_divisor_9 : decode cX1_divisor 9 = .ok (.iload_n 3, 1) := dk_29 (dk_at dksX1_divisor_0 9 rfl rfl)
theorem dX1_divisor_10 : decode cX1_divisor 10 = .ok (.irem, 1) := dk_112 (dk_at dksX1_divisor_0 10 rfl rfl)
theorem dX1_divisor_11 : decode cX1_divisor 11 = .ok (.istore 4, 2) := dk_54 4 (dk_at dksX1_divisor_0 11 rfl rfl)
theorem dX1_divisor_13 : decode cX1_divisor 13 = .ok (.iload_n 3, 1) := dk_29 (dk_at dksX1_divisor_0 13 rfl rfl)
theorem dX1_divisor_14 : decode cX1_divisor 14 = .ok (.istore_n 2, 1) := dk_61 (dk_at dksX1_divisor_0 14 rfl rfl)
theorem dX1_divisor_15 : decode cX1_divisor 15 = .ok (.iload 4, 2) := dk_21 4 (dk_at dksX1_divisor_0 15 rfl rfl)
theorem dX1_divisor_17 : decode cX1_divisor 17 = .ok (.istore_n 3, 1) := dk_62 (dk_at dksX1_divisor_0 17 rfl rfl)
theorem dX1_divisor_18 : decode cX1_divisor 18 = .ok (.goto (-14), 3) := dk_167 255 242 (dk_at dksX1_divisor_0 18 rfl rfl)
theorem dX1_divisor_21 : decode cX1_divisor 21 = .ok (.iload_n 2, 1) := dk_28 (dk_at dksX1_divisor_0 21 rfl rfl)
theorem dX1_divisor_22 : decode cX1_divisor 22 = .ok (.ireturn, 1) := dk_172 (dk_at dksX1_divisor_0 22 rfl rfl)
abbrev cX1_verdict : ByteArray := prog_1_method_33_code
def yX1_verdict : MethodName := ⟨RX1, "verdict", "(I)I"⟩
def dkwX1_verdict_0 : List UInt8 := [42, 27, 182, 0, 185, 42, 180, 0, 82, 27, 182, 0, 188, 180, 0, 197, 172]
abbrev dktX1_verdict_0 : List UInt8 := dkwX1_verdict_0 ++ []
theorem dksX1_verdict_0 : cX1_verdict.data.toList.drop 0 = dktX1_verdict_0 := by decide +kernel
theorem dX1_verdict_0 : decode cX1_verdict 0 = .ok (.aload_n 0, 1) := dk_42 (dk_at dksX1_verdict_0 0 rfl rfl)
theorem dX1_verdict_1 : decode cX1_verdict 1 = .ok (.iload_n 1, 1) := dk_27 (dk_at dksX1_verdict_0 1 rfl rfl)
theorem dX1_verdict_2 : decode cX1_verdict 2 = .ok (.invokevirtual 185, 3) := dk_182 0 185 (dk_at dksX1_verdict_0 2 rfl rfl)
theorem dX1_verdict_5 : decode cX1_verdict 5 = .ok (.aload_n 0, 1) := dk_42 (dk_at dksX1_verdict_0 5 rfl rfl)
theorem dX1_verdict_6 : decode cX1_verdict 6 = .ok (.getfield 82, 3) := dk_180 0 82 (dk_at dksX1_verdict_0 6 rfl rfl)
theorem dX1_verdict_9 : decode cX1_verdict 9 = .ok (.iload_n 1, 1) := dk_27 (dk_at dksX1_verdict_0 9 rfl rfl)
theorem dX1_verdict_10 : decode cX1_verdict 10 = .ok (.invokevirtual 188, 3) := dk_182 0 188 (dk_at dksX1_verdict_0 10 rfl rfl)
theorem dX1_verdict_13 : decode cX1_verdict 13 = .ok (.getfield 197, 3) := dk_180 0 197 (dk_at dksX1_verdict_0 13 rfl rfl)
theorem dX1_verdict_16 : decode cX1_verdict 16 = .ok (.ireturn, 1) := dk_172 (dk_at dksX1_verdict_0 16 rfl rfl)
abbrev cX1_checkCase : ByteArray := prog_1_method_12_code
def yX1_checkCase : MethodName := ⟨RX1, "checkCase", "(I)V"⟩
def dkwX1_checkCase_0 : List UInt8 := [27, 155, 0, 14, 27, 42, 180, 0, 82, 182, 0, 112, 161, 0, 11, 187, 0, 115, 89, 183, 0, 117, 191, 177]
abbrev dktX1_checkCase_0 : List UInt8 := dkwX1_checkCase_0 ++ []
theorem dksX1_checkCase_0 : cX1_checkCase.data.toList.drop 0 = dktX1_checkCase_0 := by decide +kernel
theorem dX1_checkCase_0 : decode cX1_checkCase 0 = .ok (.iload_n 1, 1) := dk_27 (dk_at dksX1_checkCase_0 0 rfl rfl)
theorem dX1_checkCase_1 : decode cX1_checkCase 1 = .ok (.ifCond .lt 14, 3) := dk_155 0 14 (dk_at dksX1_checkCase_0 1 rfl rfl)
theorem dX1_checkCase_4 : decode cX1_checkCase 4 = .ok (.iload_n 1, 1) := dk_27 (dk_at dksX1_checkCase_0 4 rfl rfl)
theorem dX1_checkCase_5 : decode cX1_checkCase 5 = .ok (.aload_n 0, 1) := dk_42 (dk_at dksX1_checkCase_0 5 rfl rfl)
theorem dX1_checkCase_6 : decode cX1_checkCase 6 = .ok (.getfield 82, 3) := dk_180 0 82 (dk_at dksX1_checkCase_0 6 rfl rfl)
theorem dX1_checkCase_9 : decode cX1_checkCase 9 = .ok (.invokevirtual 112, 3) := dk_182 0 112 (dk_at dksX1_checkCase_0 9 rfl rfl)
theorem dX1_checkCase_12 : decode cX1_checkCase 12 = .ok (.if_icmp .lt 11, 3) := dk_161 0 11 (dk_at dksX1_checkCase_0 12 rfl rfl)
theorem dX1_checkCase_15 : decode cX1_checkCase 15 = .ok (.new 115, 3) := dk_187 0 115 (dk_at dksX1_checkCase_0 15 rfl rfl)
theorem dX1_checkCase_18 : decode cX1_checkCase 18 = .ok (.dup, 1) := dk_89 (dk_at dksX1_checkCase_0 18 rfl rfl)
theorem dX1_checkCase_19 : decode cX1_checkCase 19 = .ok (.invokespecial 117, 3) := dk_183 0 117 (dk_at dksX1_checkCase_0 19 rfl rfl)
theorem dX1_checkCase_22 : decode cX1_checkCase 22 = .ok (.athrow, 1) := dk_191 (dk_at dksX1_checkCase_0 22 rfl rfl)
theorem dX1_checkCase_23 : decode cX1_checkCase 23 = .ok (.return_, 1) := dk_177 (dk_at dksX1_checkCase_0 23 rfl rfl)
abbrev cX1_settledBy : ByteArray := prog_1_method_34_code
def yX1_settledBy : MethodName := ⟨RX1, "settledBy", "(I)I"⟩
def dkwX1_settledBy_0 : List UInt8 := [42, 27, 182, 0, 185, 42, 180, 0, 82, 27, 182, 0, 188, 180, 1, 9, 172]
abbrev dktX1_settledBy_0 : List UInt8 := dkwX1_settledBy_0 ++ []
theorem dksX1_settledBy_0 : cX1_settledBy.data.toList.drop 0 = dktX1_settledBy_0 := by decide +kernel
theorem dX1_settledBy_0 : decode cX1_settledBy 0 = .ok (.aload_n 0, 1) := dk_42 (dk_at dksX1_settledBy_0 0 rfl rfl)
theorem dX1_settledBy_1 : decode cX1_settledBy 1 = .ok (.iload_n 1, 1) := dk_27 (dk_at dksX1_settledBy_0 1 rfl rfl)
theorem dX1_settledBy_2 : decode cX1_settledBy 2 = .ok (.invokevirtual 185, 3) := dk_182 0 185 (dk_at dksX1_settledBy_0 2 rfl rfl)
theorem dX1_settledBy_5 : decode cX1_settledBy 5 = .ok (.aload_n 0, 1) := dk_42 (dk_at dksX1_settledBy_0 5 rfl rfl)
theorem dX1_settledBy_6 : decode cX1_settledBy 6 = .ok (.getfield 82, 3) := dk_180 0 82 (dk_at dksX1_settledBy_0 6 rfl rfl)
theorem dX1_settledBy_9 : decode cX1_settledBy 9 = .ok (.iload_n 1, 1) := dk_27 (dk_at dksX1_settledBy_0 9 rfl rfl)
theorem dX1_settledBy_10 : decode cX1_settledBy 10 = .ok (.invokevirtual 188, 3) := dk_182 0 188 (dk_at dksX1_settledBy_0 10 rfl rfl)
theorem dX1_settledBy_13 : decode cX1_settledBy 13 = .ok (.getfield 265, 3) := dk_180 1 9 (dk_at dksX1_settledBy_0 13 rfl rfl)
theorem dX1_settledBy_16 : decode cX1_settledBy 16 = .ok (.ireturn, 1) := dk_172 (dk_at dksX1_settledBy_0 16 rfl rfl)
abbrev cX1_parse : ByteArray := prog_1_method_19_code
def yX1_parse : MethodName := ⟨RX1, "parse", "(I)I"⟩
def dkwX1_parse_3 : List UInt8 := [42, 180, 0, 39, 3, 182, 0, 162, 25, 4, 191]
abbrev dktX1_parse_3 : List UInt8 := dkwX1_parse_3 ++ []
def dkwX1_parse_2 : List UInt8 := [3, 182, 0, 162, 28, 172, 77, 44, 184, 0, 165, 62, 42, 180, 0, 39, 3, 182, 0, 162, 29, 172, 58, 4]
abbrev dktX1_parse_2 : List UInt8 := dkwX1_parse_2 ++ dktX1_parse_3
def dkwX1_parse_1 : List UInt8 := [183, 0, 62, 182, 0, 65, 182, 0, 69, 42, 180, 0, 82, 180, 0, 118, 182, 0, 122, 61, 42, 180, 0, 39]
abbrev dktX1_parse_1 : List UInt8 := dkwX1_parse_1 ++ dktX1_parse_2
def dkwX1_parse_0 : List UInt8 := [27, 3, 42, 180, 0, 39, 182, 0, 143, 184, 0, 158, 42, 187, 0, 54, 89, 42, 180, 0, 39, 27]
abbrev dktX1_parse_0 : List UInt8 := dkwX1_parse_0 ++ dktX1_parse_1
theorem dksX1_parse_0 : cX1_parse.data.toList.drop 0 = dktX1_parse_0 := by decide +kernel
theorem dksX1_parse_1 : cX1_parse.data.toList.drop 22 = dktX1_parse_1 := dk_seg dksX1_parse_0 22 rfl rfl
theorem dksX1_parse_2 : cX1_parse.data.toList.drop 46 = dktX1_parse_2 := dk_seg dksX1_parse_1 24 rfl rfl
theorem dksX1_parse_3 : cX1_parse.data.toList.drop 70 = dktX1_parse_3 := dk_seg dksX1_parse_2 24 rfl rfl
theorem dX1_parse_0 : decode cX1_parse 0 = .ok (.iload_n 1, 1) := dk_27 (dk_at dksX1_parse_0 0 rfl rfl)
theorem dX1_parse_1 : decode cX1_parse 1 = .ok (.iconst 0, 1) := dk_3 (dk_at dksX1_parse_0 1 rfl rfl)
theorem dX1_parse_2 : decode cX1_parse 2 = .ok (.aload_n 0, 1) := dk_42 (dk_at dksX1_parse_0 2 rfl rfl)
theorem dX1_parse_3 : decode cX1_parse 3 = .ok (.getfield 39, 3) := dk_180 0 39 (dk_at dksX1_parse_0 3 rfl rfl)
theorem dX1_parse_6 : decode cX1_parse 6 = .ok (.invokevirtual 143, 3) := dk_182 0 143 (dk_at dksX1_parse_0 6 rfl rfl)
theorem dX1_parse_9 : decode cX1_parse 9 = .ok (.invokestatic 158, 3) := dk_184 0 158 (dk_at dksX1_parse_0 9 rfl rfl)
theorem dX1_parse_12 : decode cX1_parse 12 = .ok (.aload_n 0, 1) := dk_42 (dk_at dksX1_parse_0 12 rfl rfl)
theorem dX1_parse_13 : decode cX1_parse 13 = .ok (.new 54, 3) := dk_187 0 54 (dk_at dksX1_parse_0 13 rfl rfl)
theorem dX1_parse_16 : decode cX1_parse 16 = .ok (.dup, 1) := dk_89 (dk_at dksX1_parse_0 16 rfl rfl)
theorem dX1_parse_17 : decode cX1_parse 17 = .ok (.aload_n 0, 1) := dk_42 (dk_at dksX1_parse_0 17 rfl rfl)
theorem dX1_parse_18 : decode cX1_parse 18 = .ok (.getfield 39, 3) := dk_180 0 39 (dk_at dksX1_parse_0 18 rfl rfl)
theorem dX1_parse_21 : decode cX1_parse 21 = .ok (.iload_n 1, 1) := dk_27 (dk_at dksX1_parse_0 21 rfl rfl)
theorem dX1_parse_22 : decode cX1_parse 22 = .ok (.invokespecial 62, 3) := dk_183 0 62 (dk_at dksX1_parse_1 0 rfl rfl)
theorem dX1_parse_25 : decode cX1_parse 25 = .ok (.invokevirtual 65, 3) := dk_182 0 65 (dk_at dksX1_parse_1 3 rfl rfl)
theorem dX1_parse_28 : decode cX1_parse 28 = .ok (.invokevirtual 69, 3) := dk_182 0 69 (dk_at dksX1_parse_1 6 rfl rfl)
theorem dX1_parse_31 : decode cX1_parse 31 = .ok (.aload_n 0, 1) := dk_42 (dk_at dksX1_parse_1 9 rfl rfl)
theorem dX1_parse_32 : decode cX1_parse 32 = .ok (.getfield 82, 3) := dk_180 0 82 (dk_at dksX1_parse_1 10 rfl rfl)
theorem dX1_parse_35 : decode cX1_parse 35 = .ok (.getfield 118, 3) := dk_180 0 118 (dk_at dksX1_parse_1 13 rfl rfl)
theorem dX1_parse_38 : decode cX1_parse 38 = .ok (.invokevirtual 122, 3) := dk_182 0 122 (dk_at dksX1_parse_1 16 rfl rfl)
theorem dX1_parse_41 : decode cX1_parse 41 = .ok (.istore_n 2, 1) := dk_61 (dk_at dksX1_parse_1 19 rfl rfl)
theorem dX1_parse_42 : decode cX1_parse 42 = .ok (.aload_n 0, 1) := dk_42 (dk_at dksX1_parse_1 20 rfl rfl)
theorem dX1_parse_43 : decode cX1_parse 43 = .ok (.getfield 39, 3) := dk_180 0 39 (dk_at dksX1_parse_1 21 rfl rfl)
theorem dX1_parse_46 : decode cX1_parse 46 = .ok (.iconst 0, 1) := dk_3 (dk_at dksX1_parse_2 0 rfl rfl)
theorem dX1_parse_47 : decode cX1_parse 47 = .ok (.invokevirtual 162, 3) := dk_182 0 162 (dk_at dksX1_parse_2 1 rfl rfl)
theorem dX1_parse_50 : decode cX1_parse 50 = .ok (.iload_n 2, 1) := dk_28 (dk_at dksX1_parse_2 4 rfl rfl)
theorem dX1_parse_51 : decode cX1_parse 51 = .ok (.ireturn, 1) := dk_172 (dk_at dksX1_parse_2 5 rfl rfl)
theorem dX1_parse_52 : decode cX1_parse 52 = .ok (.astore_n 2, 1) := dk_77 (dk_at dksX1_parse_2 6 rfl rfl)
theorem dX1_parse_53 : decode cX1_parse 53 = .ok (.aload_n 2, 1) := dk_44 (dk_at dksX1_parse_2 7 rfl rfl)
theorem dX1_parse_54 : decode cX1_parse 54 = .ok (.invokestatic 165, 3) := dk_184 0 165 (dk_at dksX1_parse_2 8 rfl rfl)
theorem dX1_parse_57 : decode cX1_parse 57 = .ok (.istore_n 3, 1) := dk_62 (dk_at dksX1_parse_2 11 rfl rfl)
theorem dX1_parse_58 : decode cX1_parse 58 = .ok (.aload_n 0, 1) := dk_42 (dk_at dksX1_parse_2 12 rfl rfl)
theorem dX1_parse_59 : decode cX1_parse 59 = .ok (.getfield 39, 3) := dk_180 0 39 (dk_at dksX1_parse_2 13 rfl rfl)
theorem dX1_parse_62 : decode cX1_parse 62 = .ok (.iconst 0, 1) := dk_3 (dk_at dksX1_parse_2 16 rfl rfl)
theorem dX1_parse_63 : decode cX1_parse 63 = .ok (.invokevirtual 162, 3) := dk_182 0 162 (dk_at dksX1_parse_2 17 rfl rfl)
theorem dX1_parse_66 : decode cX1_parse 66 = .ok (.iload_n 3, 1) := dk_29 (dk_at dksX1_parse_2 20 rfl rfl)
theorem dX1_parse_67 : decode cX1_parse 67 = .ok (.ireturn, 1) := dk_172 (dk_at dksX1_parse_2 21 rfl rfl)
theorem dX1_parse_68 : decode cX1_parse 68 = .ok (.astore 4, 2) := dk_58 4 (dk_at dksX1_parse_2 22 rfl rfl)
theorem dX1_parse_70 : decode cX1_parse 70 = .ok (.aload_n 0, 1) := dk_42 (dk_at dksX1_parse_3 0 rfl rfl)
theorem dX1_parse_71 : decode cX1_parse 71 = .ok (.getfield 39, 3) := dk_180 0 39 (dk_at dksX1_parse_3 1 rfl rfl)
theorem dX1_parse_74 : decode cX1_parse 74 = .ok (.iconst 0, 1) := dk_3 (dk_at dksX1_parse_3 4 rfl rfl)
theorem dX1_parse_75 : decode cX1_parse 75 = .ok (.invokevirtual 162, 3) := dk_182 0 162 (dk_at dksX1_parse_3 5 rfl rfl)
theorem dX1_parse_78 : decode cX1_parse 78 = .ok (.aload 4, 2) := dk_25 4 (dk_at dksX1_parse_3 8 rfl rfl)
theorem dX1_parse_80 : decode cX1_parse 80 = .ok (.athrow, 1) := dk_191 (dk_at dksX1_parse_3 10 rfl rfl)
abbrev cX1_answer : ByteArray := prog_1_method_18_code
def yX1_answer : MethodName := ⟨RX1, "answer", "(LHeirCases$Fault;)I"⟩
def dkwX1_answer_0 : List UInt8 := [16, 254, 16, 8, 42, 180, 0, 152, 104, 42, 180, 0, 155, 96, 100, 172]
abbrev dktX1_answer_0 : List UInt8 := dkwX1_answer_0 ++ []
theorem dksX1_answer_0 : cX1_answer.data.toList.drop 0 = dktX1_answer_0 := by decide +kernel
theorem dX1_answer_0 : decode cX1_answer 0 = .ok (.bipush (-2), 2) := dk_16 254 (dk_at dksX1_answer_0 0 rfl rfl)
theorem dX1_answer_2 : decode cX1_answer 2 = .ok (.bipush 8, 2) := dk_16 8 (dk_at dksX1_answer_0 2 rfl rfl)
theorem dX1_answer_4 : decode cX1_answer 4 = .ok (.aload_n 0, 1) := dk_42 (dk_at dksX1_answer_0 4 rfl rfl)
theorem dX1_answer_5 : decode cX1_answer 5 = .ok (.getfield 152, 3) := dk_180 0 152 (dk_at dksX1_answer_0 5 rfl rfl)
theorem dX1_answer_8 : decode cX1_answer 8 = .ok (.imul, 1) := dk_104 (dk_at dksX1_answer_0 8 rfl rfl)
theorem dX1_answer_9 : decode cX1_answer 9 = .ok (.aload_n 0, 1) := dk_42 (dk_at dksX1_answer_0 9 rfl rfl)
theorem dX1_answer_10 : decode cX1_answer 10 = .ok (.getfield 155, 3) := dk_180 0 155 (dk_at dksX1_answer_0 10 rfl rfl)
theorem dX1_answer_13 : decode cX1_answer 13 = .ok (.iadd, 1) := dk_96 (dk_at dksX1_answer_0 13 rfl rfl)
theorem dX1_answer_14 : decode cX1_answer 14 = .ok (.isub, 1) := dk_100 (dk_at dksX1_answer_0 14 rfl rfl)
theorem dX1_answer_15 : decode cX1_answer 15 = .ok (.ireturn, 1) := dk_172 (dk_at dksX1_answer_0 15 rfl rfl)
abbrev cX1_load : ByteArray := prog_1_method_20_code
def yX1_load : MethodName := ⟨RX1, "load", "(I)I"⟩
def dkwX1_load_0 : List UInt8 := [27, 3, 5, 184, 0, 158, 42, 27, 182, 0, 46, 42, 180, 0, 82, 180, 0, 118, 182, 0, 122, 172]
abbrev dktX1_load_0 : List UInt8 := dkwX1_load_0 ++ []
theorem dksX1_load_0 : cX1_load.data.toList.drop 0 = dktX1_load_0 := by decide +kernel
theorem dX1_load_0 : decode cX1_load 0 = .ok (.iload_n 1, 1) := dk_27 (dk_at dksX1_load_0 0 rfl rfl)
theorem dX1_load_1 : decode cX1_load 1 = .ok (.iconst 0, 1) := dk_3 (dk_at dksX1_load_0 1 rfl rfl)
theorem dX1_load_2 : decode cX1_load 2 = .ok (.iconst 2, 1) := dk_5 (dk_at dksX1_load_0 2 rfl rfl)
theorem dX1_load_3 : decode cX1_load 3 = .ok (.invokestatic 158, 3) := dk_184 0 158 (dk_at dksX1_load_0 3 rfl rfl)
theorem dX1_load_6 : decode cX1_load 6 = .ok (.aload_n 0, 1) := dk_42 (dk_at dksX1_load_0 6 rfl rfl)
theorem dX1_load_7 : decode cX1_load 7 = .ok (.iload_n 1, 1) := dk_27 (dk_at dksX1_load_0 7 rfl rfl)
theorem dX1_load_8 : decode cX1_load 8 = .ok (.invokevirtual 46, 3) := dk_182 0 46 (dk_at dksX1_load_0 8 rfl rfl)
theorem dX1_load_11 : decode cX1_load 11 = .ok (.aload_n 0, 1) := dk_42 (dk_at dksX1_load_0 11 rfl rfl)
theorem dX1_load_12 : decode cX1_load 12 = .ok (.getfield 82, 3) := dk_180 0 82 (dk_at dksX1_load_0 12 rfl rfl)
theorem dX1_load_15 : decode cX1_load 15 = .ok (.getfield 118, 3) := dk_180 0 118 (dk_at dksX1_load_0 15 rfl rfl)
theorem dX1_load_18 : decode cX1_load 18 = .ok (.invokevirtual 122, 3) := dk_182 0 122 (dk_at dksX1_load_0 18 rfl rfl)
theorem dX1_load_21 : decode cX1_load 21 = .ok (.ireturn, 1) := dk_172 (dk_at dksX1_load_0 21 rfl rfl)
abbrev cX1_values : ByteArray := prog_1_method_22_code
def yX1_values : MethodName := ⟨RX1, "values", "(I)I"⟩
def dkwX1_values_0 : List UInt8 := [42, 27, 182, 0, 182, 42, 180, 0, 82, 180, 0, 139, 27, 46, 172]
abbrev dktX1_values_0 : List UInt8 := dkwX1_values_0 ++ []
theorem dksX1_values_0 : cX1_values.data.toList.drop 0 = dktX1_values_0 := by decide +kernel
theorem dX1_values_0 : decode cX1_values 0 = .ok (.aload_n 0, 1) := dk_42 (dk_at dksX1_values_0 0 rfl rfl)
theorem dX1_values_1 : decode cX1_values 1 = .ok (.iload_n 1, 1) := dk_27 (dk_at dksX1_values_0 1 rfl rfl)
theorem dX1_values_2 : decode cX1_values 2 = .ok (.invokevirtual 182, 3) := dk_182 0 182 (dk_at dksX1_values_0 2 rfl rfl)
theorem dX1_values_5 : decode cX1_values 5 = .ok (.aload_n 0, 1) := dk_42 (dk_at dksX1_values_0 5 rfl rfl)
theorem dX1_values_6 : decode cX1_values 6 = .ok (.getfield 82, 3) := dk_180 0 82 (dk_at dksX1_values_0 6 rfl rfl)
theorem dX1_values_9 : decode cX1_values 9 = .ok (.getfield 139, 3) := dk_180 0 139 (dk_at dksX1_values_0 9 rfl rfl)
theorem dX1_values_12 : decode cX1_values 12 = .ok (.iload_n 1, 1) := dk_27 (dk_at dksX1_values_0 12 rfl rfl)
theorem dX1_values_13 : decode cX1_values 13 = .ok (.iaload, 1) := dk_46 (dk_at dksX1_values_0 13 rfl rfl)
theorem dX1_values_14 : decode cX1_values 14 = .ok (.ireturn, 1) := dk_172 (dk_at dksX1_values_0 14 rfl rfl)
abbrev cX1_checkFact : ByteArray := prog_1_method_15_code
def yX1_checkFact : MethodName := ⟨RX1, "checkFact", "(I)V"⟩
def dkwX1_checkFact_0 : List UInt8 := [27, 42, 180, 0, 82, 180, 0, 139, 190, 184, 0, 125, 177]
abbrev dktX1_checkFact_0 : List UInt8 := dkwX1_checkFact_0 ++ []
theorem dksX1_checkFact_0 : cX1_checkFact.data.toList.drop 0 = dktX1_checkFact_0 := by decide +kernel
theorem dX1_checkFact_0 : decode cX1_checkFact 0 = .ok (.iload_n 1, 1) := dk_27 (dk_at dksX1_checkFact_0 0 rfl rfl)
theorem dX1_checkFact_1 : decode cX1_checkFact 1 = .ok (.aload_n 0, 1) := dk_42 (dk_at dksX1_checkFact_0 1 rfl rfl)
theorem dX1_checkFact_2 : decode cX1_checkFact 2 = .ok (.getfield 82, 3) := dk_180 0 82 (dk_at dksX1_checkFact_0 2 rfl rfl)
theorem dX1_checkFact_5 : decode cX1_checkFact 5 = .ok (.getfield 139, 3) := dk_180 0 139 (dk_at dksX1_checkFact_0 5 rfl rfl)
theorem dX1_checkFact_8 : decode cX1_checkFact 8 = .ok (.arraylength, 1) := dk_190 (dk_at dksX1_checkFact_0 8 rfl rfl)
theorem dX1_checkFact_9 : decode cX1_checkFact 9 = .ok (.invokestatic 125, 3) := dk_184 0 125 (dk_at dksX1_checkFact_0 9 rfl rfl)
theorem dX1_checkFact_12 : decode cX1_checkFact 12 = .ok (.return_, 1) := dk_177 (dk_at dksX1_checkFact_0 12 rfl rfl)
abbrev cX1_valueIn : ByteArray := prog_1_method_23_code
def yX1_valueIn : MethodName := ⟨RX1, "valueIn", "(II)I"⟩
def dkwX1_valueIn_0 : List UInt8 := [42, 27, 182, 0, 185, 42, 28, 182, 0, 182, 42, 180, 0, 82, 27, 182, 0, 188, 180, 0, 192, 28, 46, 172]
abbrev dktX1_valueIn_0 : List UInt8 := dkwX1_valueIn_0 ++ []
theorem dksX1_valueIn_0 : cX1_valueIn.data.toList.drop 0 = dktX1_valueIn_0 := by decide +kernel
theorem dX1_valueIn_0 : decode cX1_valueIn 0 = .ok (.aload_n 0, 1) := dk_42 (dk_at dksX1_valueIn_0 0 rfl rfl)
theorem dX1_valueIn_1 : decode cX1_valueIn 1 = .ok (.iload_n 1, 1) := dk_27 (dk_at dksX1_valueIn_0 1 rfl rfl)
theorem dX1_valueIn_2 : decode cX1_valueIn 2 = .ok (.invokevirtual 185, 3) := dk_182 0 185 (dk_at dksX1_valueIn_0 2 rfl rfl)
theorem dX1_valueIn_5 : decode cX1_valueIn 5 = .ok (.aload_n 0, 1) := dk_42 (dk_at dksX1_valueIn_0 5 rfl rfl)
theorem dX1_valueIn_6 : decode cX1_valueIn 6 = .ok (.iload_n 2, 1) := dk_28 (dk_at dksX1_valueIn_0 6 rfl rfl)
theorem dX1_valueIn_7 : decode cX1_valueIn 7 = .ok (.invokevirtual 182, 3) := dk_182 0 182 (dk_at dksX1_valueIn_0 7 rfl rfl)
theorem dX1_valueIn_10 : decode cX1_valueIn 10 = .ok (.aload_n 0, 1) := dk_42 (dk_at dksX1_valueIn_0 10 rfl rfl)
theorem dX1_valueIn_11 : decode cX1_valueIn 11 = .ok (.getfield 82, 3) := dk_180 0 82 (dk_at dksX1_valueIn_0 11 rfl rfl)
theorem dX1_valueIn_14 : decode cX1_valueIn 14 = .ok (.iload_n 1, 1) := dk_27 (dk_at dksX1_valueIn_0 14 rfl rfl)
theorem dX1_valueIn_15 : decode cX1_valueIn 15 = .ok (.invokevirtual 188, 3) := dk_182 0 188 (dk_at dksX1_valueIn_0 15 rfl rfl)
theorem dX1_valueIn_18 : decode cX1_valueIn 18 = .ok (.getfield 192, 3) := dk_180 0 192 (dk_at dksX1_valueIn_0 18 rfl rfl)
theorem dX1_valueIn_21 : decode cX1_valueIn 21 = .ok (.iload_n 2, 1) := dk_28 (dk_at dksX1_valueIn_0 21 rfl rfl)
theorem dX1_valueIn_22 : decode cX1_valueIn 22 = .ok (.iaload, 1) := dk_46 (dk_at dksX1_valueIn_0 22 rfl rfl)
theorem dX1_valueIn_23 : decode cX1_valueIn 23 = .ok (.ireturn, 1) := dk_172 (dk_at dksX1_valueIn_0 23 rfl rfl)
abbrev cX1_applies : ByteArray := prog_1_method_31_code
def yX1_applies : MethodName := ⟨RX1, "applies", "(II)Z"⟩
def dkwX1_applies_1 : List UInt8 := [4, 126, 4, 160, 0, 7, 4, 167, 0, 4, 3, 172]
abbrev dktX1_applies_1 : List UInt8 := dkwX1_applies_1 ++ []
def dkwX1_applies_0 : List UInt8 := [42, 27, 182, 0, 185, 42, 28, 182, 0, 239, 87, 42, 180, 0, 82, 27, 182, 0, 188, 180, 0, 233, 28, 122]
abbrev dktX1_applies_0 : List UInt8 := dkwX1_applies_0 ++ dktX1_applies_1
theorem dksX1_applies_0 : cX1_applies.data.toList.drop 0 = dktX1_applies_0 := by decide +kernel
theorem dksX1_applies_1 : cX1_applies.data.toList.drop 24 = dktX1_applies_1 := dk_seg dksX1_applies_0 24 rfl rfl
theorem dX1_applies_0 : decode cX1_applies 0 = .ok (.aload_n 0, 1) := dk_42 (dk_at dksX1_applies_0 0 rfl rfl)
theorem dX1_applies_1 : decode cX1_applies 1 = .ok (.iload_n 1, 1) := dk_27 (dk_at dksX1_applies_0 1 rfl rfl)
theorem dX1_applies_2 : decode cX1_applies 2 = .ok (.invokevirtual 185, 3) := dk_182 0 185 (dk_at dksX1_applies_0 2 rfl rfl)
theorem dX1_applies_5 : decode cX1_applies 5 = .ok (.aload_n 0, 1) := dk_42 (dk_at dksX1_applies_0 5 rfl rfl)
theorem dX1_applies_6 : decode cX1_applies 6 = .ok (.iload_n 2, 1) := dk_28 (dk_at dksX1_applies_0 6 rfl rfl)
theorem dX1_applies_7 : decode cX1_applies 7 = .ok (.invokevirtual 239, 3) := dk_182 0 239 (dk_at dksX1_applies_0 7 rfl rfl)
theorem dX1_applies_10 : decode cX1_applies 10 = .ok (.pop, 1) := dk_87 (dk_at dksX1_applies_0 10 rfl rfl)
theorem dX1_applies_11 : decode cX1_applies 11 = .ok (.aload_n 0, 1) := dk_42 (dk_at dksX1_applies_0 11 rfl rfl)
theorem dX1_applies_12 : decode cX1_applies 12 = .ok (.getfield 82, 3) := dk_180 0 82 (dk_at dksX1_applies_0 12 rfl rfl)
theorem dX1_applies_15 : decode cX1_applies 15 = .ok (.iload_n 1, 1) := dk_27 (dk_at dksX1_applies_0 15 rfl rfl)
theorem dX1_applies_16 : decode cX1_applies 16 = .ok (.invokevirtual 188, 3) := dk_182 0 188 (dk_at dksX1_applies_0 16 rfl rfl)
theorem dX1_applies_19 : decode cX1_applies 19 = .ok (.getfield 233, 3) := dk_180 0 233 (dk_at dksX1_applies_0 19 rfl rfl)
theorem dX1_applies_22 : decode cX1_applies 22 = .ok (.iload_n 2, 1) := dk_28 (dk_at dksX1_applies_0 22 rfl rfl)
theorem dX1_applies_23 : decode cX1_applies 23 = .ok (.ishr, 1) := dk_122 (dk_at dksX1_applies_0 23 rfl rfl)
theorem dX1_applies_24 : decode cX1_applies 24 = .ok (.iconst 1, 1) := dk_4 (dk_at dksX1_applies_1 0 rfl rfl)
theorem dX1_applies_25 : decode cX1_applies 25 = .ok (.iand, 1) := dk_126 (dk_at dksX1_applies_1 1 rfl rfl)
theorem dX1_applies_26 : decode cX1_applies 26 = .ok (.iconst 1, 1) := dk_4 (dk_at dksX1_applies_1 2 rfl rfl)
theorem dX1_applies_27 : decode cX1_applies 27 = .ok (.if_icmp .ne 7, 3) := dk_160 0 7 (dk_at dksX1_applies_1 3 rfl rfl)
theorem dX1_applies_30 : decode cX1_applies 30 = .ok (.iconst 1, 1) := dk_4 (dk_at dksX1_applies_1 6 rfl rfl)
theorem dX1_applies_31 : decode cX1_applies 31 = .ok (.goto 4, 3) := dk_167 0 4 (dk_at dksX1_applies_1 7 rfl rfl)
theorem dX1_applies_34 : decode cX1_applies 34 = .ok (.iconst 0, 1) := dk_3 (dk_at dksX1_applies_1 10 rfl rfl)
theorem dX1_applies_35 : decode cX1_applies 35 = .ok (.ireturn, 1) := dk_172 (dk_at dksX1_applies_1 11 rfl rfl)
abbrev cX1_applying : ByteArray := prog_1_method_32_code
def yX1_applying : MethodName := ⟨RX1, "applying", "(I)I"⟩
def dkwX1_applying_0 : List UInt8 := [42, 27, 182, 0, 185, 42, 180, 0, 82, 27, 182, 0, 188, 180, 0, 233, 172]
abbrev dktX1_applying_0 : List UInt8 := dkwX1_applying_0 ++ []
theorem dksX1_applying_0 : cX1_applying.data.toList.drop 0 = dktX1_applying_0 := by decide +kernel
theorem dX1_applying_0 : decode cX1_applying 0 = .ok (.aload_n 0, 1) := dk_42 (dk_at dksX1_applying_0 0 rfl rfl)
theorem dX1_applying_1 : decode cX1_applying 1 = .ok (.iload_n 1, 1) := dk_27 (dk_at dksX1_applying_0 1 rfl rfl)
theorem dX1_applying_2 : decode cX1_applying 2 = .ok (.invokevirtual 185, 3) := dk_182 0 185 (dk_at dksX1_applying_0 2 rfl rfl)
theorem dX1_applying_5 : decode cX1_applying 5 = .ok (.aload_n 0, 1) := dk_42 (dk_at dksX1_applying_0 5 rfl rfl)
theorem dX1_applying_6 : decode cX1_applying 6 = .ok (.getfield 82, 3) := dk_180 0 82 (dk_at dksX1_applying_0 6 rfl rfl)
theorem dX1_applying_9 : decode cX1_applying 9 = .ok (.iload_n 1, 1) := dk_27 (dk_at dksX1_applying_0 9 rfl rfl)
theorem dX1_applying_10 : decode cX1_applying 10 = .ok (.invokevirtual 188, 3) := dk_182 0 188 (dk_at dksX1_applying_0 10 rfl rfl)
theorem dX1_applying_13 : decode cX1_applying 13 = .ok (.getfield 233, 3) := dk_180 0 233 (dk_at dksX1_applying_0 13 rfl rfl)
theorem dX1_applying_16 : decode cX1_applying 16 = .ok (.ireturn, 1) := dk_172 (dk_at dksX1_applying_0 16 rfl rfl)
abbrev cX1_why : ByteArray := prog_1_method_36_code
def yX1_why : MethodName := ⟨RX1, "why", "(III)I"⟩
def dkwX1_why_5 : List UInt8 := [28, 182, 1, 27, 167, 0, 8, 25, 4, 180, 1, 9, 172]
abbrev dktX1_why_5 : List UInt8 := dkwX1_why_5 ++ []
def dkwX1_why_4 : List UInt8 := [180, 0, 233, 42, 28, 182, 1, 0, 126, 184, 1, 24, 167, 0, 24, 42, 180, 0, 82, 25, 4, 180, 0, 236]
abbrev dktX1_why_4 : List UInt8 := dkwX1_why_4 ++ dktX1_why_5
def dkwX1_why_3 : List UInt8 := [25, 4, 180, 0, 233, 184, 1, 19, 167, 0, 51, 25, 4, 180, 0, 192, 3, 46, 167, 0, 41, 25, 4]
abbrev dktX1_why_3 : List UInt8 := dkwX1_why_3 ++ dktX1_why_4
def dkwX1_why_2 : List UInt8 := [170, 0, 0, 0, 0, 0, 0, 86, 0, 0, 0, 0, 0, 0, 0, 3, 0, 0, 0, 32, 0, 0, 0, 43, 0, 0, 0, 53, 0, 0, 0, 70]
abbrev dktX1_why_2 : List UInt8 := dkwX1_why_2 ++ dktX1_why_3
def dkwX1_why_1 : List UInt8 := [182, 0, 188, 58, 4, 25, 4, 28, 184, 1, 16, 54, 5, 29, 154, 0, 6, 21, 5, 172, 21, 5]
abbrev dktX1_why_1 : List UInt8 := dkwX1_why_1 ++ dktX1_why_2
def dkwX1_why_0 : List UInt8 := [42, 27, 182, 0, 185, 42, 28, 182, 0, 239, 87, 29, 3, 4, 184, 0, 158, 42, 180, 0, 82, 27]
abbrev dktX1_why_0 : List UInt8 := dkwX1_why_0 ++ dktX1_why_1
theorem dksX1_why_0 : cX1_why.data.toList.drop 0 = dktX1_why_0 := by decide +kernel
theorem dksX1_why_1 : cX1_why.data.toList.drop 22 = dktX1_why_1 := dk_seg dksX1_why_0 22 rfl rfl
theorem dksX1_why_2 : cX1_why.data.toList.drop 44 = dktX1_why_2 := dk_seg dksX1_why_1 22 rfl rfl
theorem dksX1_why_3 : cX1_why.data.toList.drop 76 = dktX1_why_3 := dk_seg dksX1_why_2 32 rfl rfl
theorem dksX1_why_4 : cX1_why.data.toList.drop 99 = dktX1_why_4 := dk_seg dksX1_why_3 23 rfl rfl
theorem dksX1_why_5 : cX1_why.data.toList.drop 123 = dktX1_why_5 := dk_seg dksX1_why_4 24 rfl rfl
theorem dX1_why_0 : decode cX1_why 0 = .ok (.aload_n 0, 1) := dk_42 (dk_at dksX1_why_0 0 rfl rfl)
theorem dX1_why_1 : decode cX1_why 1 = .ok (.iload_n 1, 1) := dk_27 (dk_at dksX1_why_0 1 rfl rfl)
theorem dX1_why_2 : decode cX1_why 2 = .ok (.invokevirtual 185, 3) := dk_182 0 185 (dk_at dksX1_why_0 2 rfl rfl)
theorem dX1_why_5 : decode cX1_why 5 = .ok (.aload_n 0, 1) := dk_42 (dk_at dksX1_why_0 5 rfl rfl)
theorem dX1_why_6 : decode cX1_why 6 = .ok (.iload_n 2, 1) := dk_28 (dk_at dksX1_why_0 6 rfl rfl)
theorem dX1_why_7 : decode cX1_why 7 = .ok (.invokevirtual 239, 3) := dk_182 0 239 (dk_at dksX1_why_0 7 rfl rfl)
theorem dX1_why_10 : decode cX1_why 10 = .ok (.pop, 1) := dk_87 (dk_at dksX1_why_0 10 rfl rfl)
theorem dX1_why_11 : decode cX1_why 11 = .ok (.iload_n 3, 1) := dk_29 (dk_at dksX1_why_0 11 rfl rfl)
theorem dX1_why_12 : decode cX1_why 12 = .ok (.iconst 0, 1) := dk_3 (dk_at dksX1_why_0 12 rfl rfl)
theorem dX1_why_13 : decode cX1_why 13 = .ok (.iconst 1, 1) := dk_4 (dk_at dksX1_why_0 13 rfl rfl)
theorem dX1_why_14 : decode cX1_why 14 = .ok (.invokestatic 158, 3) := dk_184 0 158 (dk_at dksX1_why_0 14 rfl rfl)
theorem dX1_why_17 : decode cX1_why 17 = .ok (.aload_n 0, 1) := dk_42 (dk_at dksX1_why_0 17 rfl rfl)
theorem dX1_why_18 : decode cX1_why 18 = .ok (.getfield 82, 3) := dk_180 0 82 (dk_at dksX1_why_0 18 rfl rfl)
theorem dX1_why_21 : decode cX1_why 21 = .ok (.iload_n 1, 1) := dk_27 (dk_at dksX1_why_0 21 rfl rfl)
theorem dX1_why_22 : decode cX1_why 22 = .ok (.invokevirtual 188, 3) := dk_182 0 188 (dk_at dksX1_why_1 0 rfl rfl)
theorem dX1_why_25 : decode cX1_why 25 = .ok (.astore 4, 2) := dk_58 4 (dk_at dksX1_why_1 3 rfl rfl)
theorem dX1_why_27 : decode cX1_why 27 = .ok (.aload 4, 2) := dk_25 4 (dk_at dksX1_why_1 5 rfl rfl)
theorem dX1_why_29 : decode cX1_why 29 = .ok (.iload_n 2, 1) := dk_28 (dk_at dksX1_why_1 7 rfl rfl)
theorem dX1_why_30 : decode cX1_why 30 = .ok (.invokestatic 272, 3) := dk_184 1 16 (dk_at dksX1_why_1 8 rfl rfl)
theorem dX1_why_33 : decode cX1_why 33 = .ok (.istore 5, 2) := dk_54 5 (dk_at dksX1_why_1 11 rfl rfl)
theorem dX1_why_35 : decode cX1_why 35 = .ok (.iload_n 3, 1) := dk_29 (dk_at dksX1_why_1 13 rfl rfl)
theorem dX1_why_36 : decode cX1_why 36 = .ok (.ifCond .ne 6, 3) := dk_154 0 6 (dk_at dksX1_why_1 14 rfl rfl)
theorem dX1_why_39 : decode cX1_why 39 = .ok (.iload 5, 2) := dk_21 5 (dk_at dksX1_why_1 17 rfl rfl)
theorem dX1_why_41 : decode cX1_why 41 = .ok (.ireturn, 1) := dk_172 (dk_at dksX1_why_1 19 rfl rfl)
theorem dX1_why_42 : decode cX1_why 42 = .ok (.iload 5, 2) := dk_21 5 (dk_at dksX1_why_1 20 rfl rfl)
theorem dX1_why_44 : decode cX1_why 44 = .ok (.tableswitch 86 0 3 #[32, 43, 53, 70], 32) := by decide +kernel
theorem dX1_why_76 : decode cX1_why 76 = .ok (.aload 4, 2) := dk_25 4 (dk_at dksX1_why_3 0 rfl rfl)
theorem dX1_why_78 : decode cX1_why 78 = .ok (.getfield 233, 3) := dk_180 0 233 (dk_at dksX1_why_3 2 rfl rfl)
theorem dX1_why_81 : decode cX1_why 81 = .ok (.invokestatic 275, 3) := dk_184 1 19 (dk_at dksX1_why_3 5 rfl rfl)
theorem dX1_why_84 : decode cX1_why 84 = .ok (.goto 51, 3) := dk_167 0 51 (dk_at dksX1_why_3 8 rfl rfl)
theorem dX1_why_87 : decode cX1_why 87 = .ok (.aload 4, 2) := dk_25 4 (dk_at dksX1_why_3 11 rfl rfl)
theorem dX1_why_89 : decode cX1_why 89 = .ok (.getfield 192, 3) := dk_180 0 192 (dk_at dksX1_why_3 13 rfl rfl)
theorem dX1_why_92 : decode cX1_why 92 = .ok (.iconst 0, 1) := dk_3 (dk_at dksX1_why_3 16 rfl rfl)
theorem dX1_why_93 : decode cX1_why 93 = .ok (.iaload, 1) := dk_46 (dk_at dksX1_why_3 17 rfl rfl)
theorem dX1_why_94 : decode cX1_why 94 = .ok (.goto 41, 3) := dk_167 0 41 (dk_at dksX1_why_3 18 rfl rfl)
theorem dX1_why_97 : decode cX1_why 97 = .ok (.aload 4, 2) := dk_25 4 (dk_at dksX1_why_3 21 rfl rfl)
theorem dX1_why_99 : decode cX1_why 99 = .ok (.getfield 233, 3) := dk_180 0 233 (dk_at dksX1_why_4 0 rfl rfl)
theorem dX1_why_102 : decode cX1_why 102 = .ok (.aload_n 0, 1) := dk_42 (dk_at dksX1_why_4 3 rfl rfl)
theorem dX1_why_103 : decode cX1_why 103 = .ok (.iload_n 2, 1) := dk_28 (dk_at dksX1_why_4 4 rfl rfl)
theorem dX1_why_104 : decode cX1_why 104 = .ok (.invokevirtual 256, 3) := dk_182 1 0 (dk_at dksX1_why_4 5 rfl rfl)
theorem dX1_why_107 : decode cX1_why 107 = .ok (.iand, 1) := dk_126 (dk_at dksX1_why_4 8 rfl rfl)
theorem dX1_why_108 : decode cX1_why 108 = .ok (.invokestatic 280, 3) := dk_184 1 24 (dk_at dksX1_why_4 9 rfl rfl)
theorem dX1_why_111 : decode cX1_why 111 = .ok (.goto 24, 3) := dk_167 0 24 (dk_at dksX1_why_4 12 rfl rfl)
theorem dX1_why_114 : decode cX1_why 114 = .ok (.aload_n 0, 1) := dk_42 (dk_at dksX1_why_4 15 rfl rfl)
theorem dX1_why_115 : decode cX1_why 115 = .ok (.getfield 82, 3) := dk_180 0 82 (dk_at dksX1_why_4 16 rfl rfl)
theorem dX1_why_118 : decode cX1_why 118 = .ok (.aload 4, 2) := dk_25 4 (dk_at dksX1_why_4 19 rfl rfl)
theorem dX1_why_120 : decode cX1_why 120 = .ok (.getfield 236, 3) := dk_180 0 236 (dk_at dksX1_why_4 21 rfl rfl)
theorem dX1_why_123 : decode cX1_why 123 = .ok (.iload_n 2, 1) := dk_28 (dk_at dksX1_why_5 0 rfl rfl)
theorem dX1_why_124 : decode cX1_why 124 = .ok (.invokevirtual 283, 3) := dk_182 1 27 (dk_at dksX1_why_5 1 rfl rfl)
theorem dX1_why_127 : decode cX1_why 127 = .ok (.goto 8, 3) := dk_167 0 8 (dk_at dksX1_why_5 4 rfl rfl)
theorem dX1_why_130 : decode cX1_why 130 = .ok (.aload 4, 2) := dk_25 4 (dk_at dksX1_why_5 7 rfl rfl)
theorem dX1_why_132 : decode cX1_why 132 = .ok (.getfield 265, 3) := dk_180 1 9 (dk_at dksX1_why_5 9 rfl rfl)
theorem dX1_why_135 : decode cX1_why 135 = .ok (.ireturn, 1) := dk_172 (dk_at dksX1_why_5 12 rfl rfl)
abbrev cX1_reasonOf : ByteArray := prog_1_method_35_code
def yX1_reasonOf : MethodName := ⟨RX1, "reasonOf", "(LHeirCases$Finding;I)I"⟩
def dkwX1_reasonOf_2 : List UInt8 := [7, 172]
abbrev dktX1_reasonOf_2 : List UInt8 := dkwX1_reasonOf_2 ++ []
def dkwX1_reasonOf_1 : List UInt8 := [42, 180, 0, 197, 6, 160, 0, 7, 6, 167, 0, 16, 42, 180, 1, 9, 27, 160, 0, 7, 3, 167, 0, 4]
abbrev dktX1_reasonOf_1 : List UInt8 := dkwX1_reasonOf_1 ++ dktX1_reasonOf_2
def dkwX1_reasonOf_0 : List UInt8 := [42, 180, 0, 233, 27, 122, 4, 126, 154, 0, 5, 4, 172, 42, 27, 184, 1, 12, 4, 160, 0, 5, 5, 172]
abbrev dktX1_reasonOf_0 : List UInt8 := dkwX1_reasonOf_0 ++ dktX1_reasonOf_1
theorem dksX1_reasonOf_0 : cX1_reasonOf.data.toList.drop 0 = dktX1_reasonOf_0 := by decide +kernel
theorem dksX1_reasonOf_1 : cX1_reasonOf.data.toList.drop 24 = dktX1_reasonOf_1 := dk_seg dksX1_reasonOf_0 24 rfl rfl
theorem dksX1_reasonOf_2 : cX1_reasonOf.data.toList.drop 48 = dktX1_reasonOf_2 := dk_seg dksX1_reasonOf_1 24 rfl rfl
theorem dX1_reasonOf_0 : decode cX1_reasonOf 0 = .ok (.aload_n 0, 1) := dk_42 (dk_at dksX1_reasonOf_0 0 rfl rfl)
theorem dX1_reasonOf_1 : decode cX1_reasonOf 1 = .ok (.getfield 233, 3) := dk_180 0 233 (dk_at dksX1_reasonOf_0 1 rfl rfl)
theorem dX1_reasonOf_4 : decode cX1_reasonOf 4 = .ok (.iload_n 1, 1) := dk_27 (dk_at dksX1_reasonOf_0 4 rfl rfl)
theorem dX1_reasonOf_5 : decode cX1_reasonOf 5 = .ok (.ishr, 1) := dk_122 (dk_at dksX1_reasonOf_0 5 rfl rfl)
theorem dX1_reasonOf_6 : decode cX1_reasonOf 6 = .ok (.iconst 1, 1) := dk_4 (dk_at dksX1_reasonOf_0 6 rfl rfl)
theorem dX1_reasonOf_7 : decode cX1_reasonOf 7 = .ok (.iand, 1) := dk_126 (dk_at dksX1_reasonOf_0 7 rfl rfl)
theorem dX1_reasonOf_8 : decode cX1_reasonOf 8 = .ok (.ifCond .ne 5, 3) := dk_154 0 5 (dk_at dksX1_reasonOf_0 8 rfl rfl)
theorem dX1_reasonOf_11 : decode cX1_reasonOf 11 = .ok (.iconst 1, 1) := dk_4 (dk_at dksX1_reasonOf_0 11 rfl rfl)
theorem dX1_reasonOf_12 : decode cX1_reasonOf 12 = .ok (.ireturn, 1) := dk_172 (dk_at dksX1_reasonOf_0 12 rfl rfl)
theorem dX1_reasonOf_13 : decode cX1_reasonOf 13 = .ok (.aload_n 0, 1) := dk_42 (dk_at dksX1_reasonOf_0 13 rfl rfl)
theorem dX1_reasonOf_14 : decode cX1_reasonOf 14 = .ok (.iload_n 1, 1) := dk_27 (dk_at dksX1_reasonOf_0 14 rfl rfl)
theorem dX1_reasonOf_15 : decode cX1_reasonOf 15 = .ok (.invokestatic 268, 3) := dk_184 1 12 (dk_at dksX1_reasonOf_0 15 rfl rfl)
theorem dX1_reasonOf_18 : decode cX1_reasonOf 18 = .ok (.iconst 1, 1) := dk_4 (dk_at dksX1_reasonOf_0 18 rfl rfl)
theorem dX1_reasonOf_19 : decode cX1_reasonOf 19 = .ok (.if_icmp .ne 5, 3) := dk_160 0 5 (dk_at dksX1_reasonOf_0 19 rfl rfl)
theorem dX1_reasonOf_22 : decode cX1_reasonOf 22 = .ok (.iconst 2, 1) := dk_5 (dk_at dksX1_reasonOf_0 22 rfl rfl)
theorem dX1_reasonOf_23 : decode cX1_reasonOf 23 = .ok (.ireturn, 1) := dk_172 (dk_at dksX1_reasonOf_0 23 rfl rfl)
theorem dX1_reasonOf_24 : decode cX1_reasonOf 24 = .ok (.aload_n 0, 1) := dk_42 (dk_at dksX1_reasonOf_1 0 rfl rfl)
theorem dX1_reasonOf_25 : decode cX1_reasonOf 25 = .ok (.getfield 197, 3) := dk_180 0 197 (dk_at dksX1_reasonOf_1 1 rfl rfl)
theorem dX1_reasonOf_28 : decode cX1_reasonOf 28 = .ok (.iconst 3, 1) := dk_6 (dk_at dksX1_reasonOf_1 4 rfl rfl)
theorem dX1_reasonOf_29 : decode cX1_reasonOf 29 = .ok (.if_icmp .ne 7, 3) := dk_160 0 7 (dk_at dksX1_reasonOf_1 5 rfl rfl)
theorem dX1_reasonOf_32 : decode cX1_reasonOf 32 = .ok (.iconst 3, 1) := dk_6 (dk_at dksX1_reasonOf_1 8 rfl rfl)
theorem dX1_reasonOf_33 : decode cX1_reasonOf 33 = .ok (.goto 16, 3) := dk_167 0 16 (dk_at dksX1_reasonOf_1 9 rfl rfl)
theorem dX1_reasonOf_36 : decode cX1_reasonOf 36 = .ok (.aload_n 0, 1) := dk_42 (dk_at dksX1_reasonOf_1 12 rfl rfl)
theorem dX1_reasonOf_37 : decode cX1_reasonOf 37 = .ok (.getfield 265, 3) := dk_180 1 9 (dk_at dksX1_reasonOf_1 13 rfl rfl)
theorem dX1_reasonOf_40 : decode cX1_reasonOf 40 = .ok (.iload_n 1, 1) := dk_27 (dk_at dksX1_reasonOf_1 16 rfl rfl)
theorem dX1_reasonOf_41 : decode cX1_reasonOf 41 = .ok (.if_icmp .ne 7, 3) := dk_160 0 7 (dk_at dksX1_reasonOf_1 17 rfl rfl)
theorem dX1_reasonOf_44 : decode cX1_reasonOf 44 = .ok (.iconst 0, 1) := dk_3 (dk_at dksX1_reasonOf_1 20 rfl rfl)
theorem dX1_reasonOf_45 : decode cX1_reasonOf 45 = .ok (.goto 4, 3) := dk_167 0 4 (dk_at dksX1_reasonOf_1 21 rfl rfl)
theorem dX1_reasonOf_48 : decode cX1_reasonOf 48 = .ok (.iconst 4, 1) := dk_7 (dk_at dksX1_reasonOf_2 0 rfl rfl)
theorem dX1_reasonOf_49 : decode cX1_reasonOf 49 = .ok (.ireturn, 1) := dk_172 (dk_at dksX1_reasonOf_2 1 rfl rfl)
abbrev cX1_example : ByteArray := prog_1_method_37_code
def yX1_example : MethodName := ⟨RX1, "example", "(II)I"⟩
def dkwX1_example_2 : List UInt8 := [154, 0, 6, 21, 5, 172, 132, 3, 255, 132, 5, 1, 167, 255, 216, 2, 172]
abbrev dktX1_example_2 : List UInt8 := dkwX1_example_2 ++ []
def dkwX1_example_1 : List UInt8 := [162, 0, 39, 29, 155, 0, 35, 42, 180, 0, 82, 21, 5, 182, 0, 188, 180, 0, 197, 27, 160, 0, 13, 29]
abbrev dktX1_example_1 : List UInt8 := dkwX1_example_1 ++ dktX1_example_2
def dkwX1_example_0 : List UInt8 := [27, 3, 6, 184, 0, 158, 28, 62, 42, 180, 0, 82, 182, 0, 112, 54, 4, 3, 54, 5, 21, 5, 21, 4]
abbrev dktX1_example_0 : List UInt8 := dkwX1_example_0 ++ dktX1_example_1
theorem dksX1_example_0 : cX1_example.data.toList.drop 0 = dktX1_example_0 := by decide +kernel
theorem dksX1_example_1 : cX1_example.data.toList.drop 24 = dktX1_example_1 := dk_seg dksX1_example_0 24 rfl rfl
theorem dksX1_example_2 : cX1_example.data.toList.drop 48 = dktX1_example_2 := dk_seg dksX1_example_1 24 rfl rfl
theorem dX1_example_0 : decode cX1_example 0 = .ok (.iload_n 1, 1) := dk_27 (dk_at dksX1_example_0 0 rfl rfl)
theorem dX1_example_1 : decode cX1_example 1 = .ok (.iconst 0, 1) := dk_3 (dk_at dksX1_example_0 1 rfl rfl)
theorem dX1_example_2 : decode cX1_example 2 = .ok (.iconst 3, 1) := dk_6 (dk_at dksX1_example_0 2 rfl rfl)
theorem dX1_example_3 : decode cX1_example 3 = .ok (.invokestatic 158, 3) := dk_184 0 158 (dk_at dksX1_example_0 3 rfl rfl)
theorem dX1_example_6 : decode cX1_example 6 = .ok (.iload_n 2, 1) := dk_28 (dk_at dksX1_example_0 6 rfl rfl)
theorem dX1_example_7 : decode cX1_example 7 = .ok (.istore_n 3, 1) := dk_62 (dk_at dksX1_example_0 7 rfl rfl)
theorem dX1_example_8 : decode cX1_example 8 = .ok (.aload_n 0, 1) := dk_42 (dk_at dksX1_example_0 8 rfl rfl)
theorem dX1_example_9 : decode cX1_example 9 = .ok (.getfield 82, 3) := dk_180 0 82 (dk_at dksX1_example_0 9 rfl rfl)
theorem dX1_example_12 : decode cX1_example 12 = .ok (.invokevirtual 112, 3) := dk_182 0 112 (dk_at dksX1_example_0 12 rfl rfl)
theorem dX1_example_15 : decode cX1_example 15 = .ok (.istore 4, 2) := dk_54 4 (dk_at dksX1_example_0 15 rfl rfl)
theorem dX1_example_17 : decode cX1_example 17 = .ok (.iconst 0, 1) := dk_3 (dk_at dksX1_example_0 17 rfl rfl)
theorem dX1_example_18 : decode cX1_example 18 = .ok (.istore 5, 2) := dk_54 5 (dk_at dksX1_example_0 18 rfl rfl)
theorem dX1_example_20 : decode cX1_example 20 = .ok (.iload 5, 2) := dk_21 5 (dk_at dksX1_example_0 20 rfl rfl)
theorem dX1_example_22 : decode cX1_example 22 = .ok (.iload 4, 2) := dk_21 4 (dk_at dksX1_example_0 22 rfl rfl)
theorem dX1_example_24 : decode cX1_example 24 = .ok (.if_icmp .ge 39, 3) := dk_162 0 39 (dk_at dksX1_example_1 0 rfl rfl)
theorem dX1_example_27 : decode cX1_example 27 = .ok (.iload_n 3, 1) := dk_29 (dk_at dksX1_example_1 3 rfl rfl)
theorem dX1_example_28 : decode cX1_example 28 = .ok (.ifCond .lt 35, 3) := dk_155 0 35 (dk_at dksX1_example_1 4 rfl rfl)
theorem dX1_example_31 : decode cX1_example 31 = .ok (.aload_n 0, 1) := dk_42 (dk_at dksX1_example_1 7 rfl rfl)
theorem dX1_example_32 : decode cX1_example 32 = .ok (.getfield 82, 3) := dk_180 0 82 (dk_at dksX1_example_1 8 rfl rfl)
theorem dX1_example_35 : decode cX1_example 35 = .ok (.iload 5, 2) := dk_21 5 (dk_at dksX1_example_1 11 rfl rfl)
theorem dX1_example_37 : decode cX1_example 37 = .ok (.invokevirtual 188, 3) := dk_182 0 188 (dk_at dksX1_example_1 13 rfl rfl)
theorem dX1_example_40 : decode cX1_example 40 = .ok (.getfield 197, 3) := dk_180 0 197 (dk_at dksX1_example_1 16 rfl rfl)
theorem dX1_example_43 : decode cX1_example 43 = .ok (.iload_n 1, 1) := dk_27 (dk_at dksX1_example_1 19 rfl rfl)
theorem dX1_example_44 : decode cX1_example 44 = .ok (.if_icmp .ne 13, 3) := dk_160 0 13 (dk_at dksX1_example_1 20 rfl rfl)
theorem dX1_example_47 : decode cX1_example 47 = .ok (.iload_n 3, 1) := dk_29 (dk_at dksX1_example_1 23 rfl rfl)
theorem dX1_example_48 : decode cX1_example 48 = .ok (.ifCond .ne 6, 3) := dk_154 0 6 (dk_at dksX1_example_2 0 rfl rfl)
theorem dX1_example_51 : decode cX1_example 51 = .ok (.iload 5, 2) := dk_21 5 (dk_at dksX1_example_2 3 rfl rfl)
theorem dX1_example_53 : decode cX1_example 53 = .ok (.ireturn, 1) := dk_172 (dk_at dksX1_example_2 5 rfl rfl)
theorem dX1_example_54 : decode cX1_example 54 = .ok (.iinc 3 (-1), 3) := dk_132 3 255 (dk_at dksX1_example_2 6 rfl rfl)
theorem dX1_example_57 : decode cX1_example 57 = .ok (.iinc 5 1, 3) := dk_132 5 1 (dk_at dksX1_example_2 9 rfl rfl)
theorem dX1_example_60 : decode cX1_example 60 = .ok (.goto (-40), 3) := dk_167 255 216 (dk_at dksX1_example_2 12 rfl rfl)
theorem dX1_example_63 : decode cX1_example 63 = .ok (.iconst (-1), 1) := dk_2 (dk_at dksX1_example_2 15 rfl rfl)
theorem dX1_example_64 : decode cX1_example 64 = .ok (.ireturn, 1) := dk_172 (dk_at dksX1_example_2 16 rfl rfl)
abbrev cX1_isWider : ByteArray := prog_1_method_39_code
def yX1_isWider : MethodName := ⟨RX1, "isWider", "(II)Z"⟩
def dkwX1_isWider_1 : List UInt8 := [154, 0, 7, 4, 167, 0, 4, 3, 172]
abbrev dktX1_isWider_1 : List UInt8 := dkwX1_isWider_1 ++ []
def dkwX1_isWider_0 : List UInt8 := [42, 27, 182, 0, 239, 87, 42, 28, 182, 0, 239, 87, 42, 42, 28, 27, 186, 1, 33, 0, 0, 182, 0, 244]
abbrev dktX1_isWider_0 : List UInt8 := dkwX1_isWider_0 ++ dktX1_isWider_1
theorem dksX1_isWider_0 : cX1_isWider.data.toList.drop 0 = dktX1_isWider_0 := by decide +kernel
theorem dksX1_isWider_1 : cX1_isWider.data.toList.drop 24 = dktX1_isWider_1 := dk_seg dksX1_isWider_0 24 rfl rfl
theorem dX1_isWider_0 : decode cX1_isWider 0 = .ok (.aload_n 0, 1) := dk_42 (dk_at dksX1_isWider_0 0 rfl rfl)
theorem dX1_isWider_1 : decode cX1_isWider 1 = .ok (.iload_n 1, 1) := dk_27 (dk_at dksX1_isWider_0 1 rfl rfl)
theorem dX1_isWider_2 : decode cX1_isWider 2 = .ok (.invokevirtual 239, 3) := dk_182 0 239 (dk_at dksX1_isWider_0 2 rfl rfl)
theorem dX1_isWider_5 : decode cX1_isWider 5 = .ok (.pop, 1) := dk_87 (dk_at dksX1_isWider_0 5 rfl rfl)
theorem dX1_isWider_6 : decode cX1_isWider 6 = .ok (.aload_n 0, 1) := dk_42 (dk_at dksX1_isWider_0 6 rfl rfl)
theorem dX1_isWider_7 : decode cX1_isWider 7 = .ok (.iload_n 2, 1) := dk_28 (dk_at dksX1_isWider_0 7 rfl rfl)
theorem dX1_isWider_8 : decode cX1_isWider 8 = .ok (.invokevirtual 239, 3) := dk_182 0 239 (dk_at dksX1_isWider_0 8 rfl rfl)
theorem dX1_isWider_11 : decode cX1_isWider 11 = .ok (.pop, 1) := dk_87 (dk_at dksX1_isWider_0 11 rfl rfl)
theorem dX1_isWider_12 : decode cX1_isWider 12 = .ok (.aload_n 0, 1) := dk_42 (dk_at dksX1_isWider_0 12 rfl rfl)
theorem dX1_isWider_13 : decode cX1_isWider 13 = .ok (.aload_n 0, 1) := dk_42 (dk_at dksX1_isWider_0 13 rfl rfl)
theorem dX1_isWider_14 : decode cX1_isWider 14 = .ok (.iload_n 2, 1) := dk_28 (dk_at dksX1_isWider_0 14 rfl rfl)
theorem dX1_isWider_15 : decode cX1_isWider 15 = .ok (.iload_n 1, 1) := dk_27 (dk_at dksX1_isWider_0 15 rfl rfl)
theorem dX1_isWider_16 : decode cX1_isWider 16 = .ok (.invokedynamic 289, 5) := by decide +kernel
theorem dX1_isWider_21 : decode cX1_isWider 21 = .ok (.invokevirtual 244, 3) := dk_182 0 244 (dk_at dksX1_isWider_0 21 rfl rfl)
theorem dX1_isWider_24 : decode cX1_isWider 24 = .ok (.ifCond .ne 7, 3) := dk_154 0 7 (dk_at dksX1_isWider_1 0 rfl rfl)
theorem dX1_isWider_27 : decode cX1_isWider 27 = .ok (.iconst 1, 1) := dk_4 (dk_at dksX1_isWider_1 3 rfl rfl)
theorem dX1_isWider_28 : decode cX1_isWider 28 = .ok (.goto 4, 3) := dk_167 0 4 (dk_at dksX1_isWider_1 4 rfl rfl)
theorem dX1_isWider_31 : decode cX1_isWider 31 = .ok (.iconst 0, 1) := dk_3 (dk_at dksX1_isWider_1 7 rfl rfl)
theorem dX1_isWider_32 : decode cX1_isWider 32 = .ok (.ireturn, 1) := dk_172 (dk_at dksX1_isWider_1 8 rfl rfl)
abbrev cX1_lambda_isWider_5 : ByteArray := prog_1_method_81_code
def yX1_lambda_isWider_5 : MethodName := ⟨RX1, "lambda$isWider$5", "(III)I"⟩
def dkwX1_lambda_isWider_5_0 : List UInt8 := [42, 29, 27, 182, 1, 182, 153, 0, 16, 42, 29, 28, 182, 1, 182, 154, 0, 7, 4, 167, 0, 4, 3, 172]
abbrev dktX1_lambda_isWider_5_0 : List UInt8 := dkwX1_lambda_isWider_5_0 ++ []
theorem dksX1_lambda_isWider_5_0 : cX1_lambda_isWider_5.data.toList.drop 0 = dktX1_lambda_isWider_5_0 := by decide +kernel
theorem dX1_lambda_isWider_5_0 : decode cX1_lambda_isWider_5 0 = .ok (.aload_n 0, 1) := dk_42 (dk_at dksX1_lambda_isWider_5_0 0 rfl rfl)
theorem dX1_lambda_isWider_5_1 : decode cX1_lambda_isWider_5 1 = .ok (.iload_n 3, 1) := dk_29 (dk_at dksX1_lambda_isWider_5_0 1 rfl rfl)
theorem dX1_lambda_isWider_5_2 : decode cX1_lambda_isWider_5 2 = .ok (.iload_n 1, 1) := dk_27 (dk_at dksX1_lambda_isWider_5_0 2 rfl rfl)
theorem dX1_lambda_isWider_5_3 : decode cX1_lambda_isWider_5 3 = .ok (.invokevirtual 438, 3) := dk_182 1 182 (dk_at dksX1_lambda_isWider_5_0 3 rfl rfl)
theorem dX1_lambda_isWider_5_6 : decode cX1_lambda_isWider_5 6 = .ok (.ifCond .eq 16, 3) := dk_153 0 16 (dk_at dksX1_lambda_isWider_5_0 6 rfl rfl)
theorem dX1_lambda_isWider_5_9 : decode cX1_lambda_isWider_5 9 = .ok (.aload_n 0, 1) := dk_42 (dk_at dksX1_lambda_isWider_5_0 9 rfl rfl)
theorem dX1_lambda_isWider_5_10 : decode cX1_lambda_isWider_5 10 = .ok (.iload_n 3, 1) := dk_29 (dk_at dksX1_lambda_isWider_5_0 10 rfl rfl)
theorem dX1_lambda_isWider_5_11 : decode cX1_lambda_isWider_5 11 = .ok (.iload_n 2, 1) := dk_28 (dk_at dksX1_lambda_isWider_5_0 11 rfl rfl)
theorem dX1_lambda_isWider_5_12 : decode cX1_lambda_isWider_5 12 = .ok (.invokevirtual 438, 3) := dk_182 1 182 (dk_at dksX1_lambda_isWider_5_0 12 rfl rfl)
theorem dX1_lambda_isWider_5_15 : decode cX1_lambda_isWider_5 15 = .ok (.ifCond .ne 7, 3) := dk_154 0 7 (dk_at dksX1_lambda_isWider_5_0 15 rfl rfl)
theorem dX1_lambda_isWider_5_18 : decode cX1_lambda_isWider_5 18 = .ok (.iconst 1, 1) := dk_4 (dk_at dksX1_lambda_isWider_5_0 18 rfl rfl)
theorem dX1_lambda_isWider_5_19 : decode cX1_lambda_isWider_5 19 = .ok (.goto 4, 3) := dk_167 0 4 (dk_at dksX1_lambda_isWider_5_0 19 rfl rfl)
theorem dX1_lambda_isWider_5_22 : decode cX1_lambda_isWider_5 22 = .ok (.iconst 0, 1) := dk_3 (dk_at dksX1_lambda_isWider_5_0 22 rfl rfl)
theorem dX1_lambda_isWider_5_23 : decode cX1_lambda_isWider_5 23 = .ok (.ireturn, 1) := dk_172 (dk_at dksX1_lambda_isWider_5_0 23 rfl rfl)
abbrev cX1_common : ByteArray := prog_1_method_40_code
def yX1_common : MethodName := ⟨RX1, "common", "(II)I"⟩
def dkwX1_common_1 : List UInt8 := [172]
abbrev dktX1_common_1 : List UInt8 := dkwX1_common_1 ++ []
def dkwX1_common_0 : List UInt8 := [42, 27, 182, 0, 239, 87, 42, 28, 182, 0, 239, 87, 42, 42, 27, 28, 186, 1, 36, 0, 0, 182, 0, 244]
abbrev dktX1_common_0 : List UInt8 := dkwX1_common_0 ++ dktX1_common_1
theorem dksX1_common_0 : cX1_common.data.toList.drop 0 = dktX1_common_0 := by decide +kernel
theorem dksX1_common_1 : cX1_common.data.toList.drop 24 = dktX1_common_1 := dk_seg dksX1_common_0 24 rfl rfl
theorem dX1_common_0 : decode cX1_common 0 = .ok (.aload_n 0, 1) := dk_42 (dk_at dksX1_common_0 0 rfl rfl)
theorem dX1_common_1 : decode cX1_common 1 = .ok (.iload_n 1, 1) := dk_27 (dk_at dksX1_common_0 1 rfl rfl)
theorem dX1_common_2 : decode cX1_common 2 = .ok (.invokevirtual 239, 3) := dk_182 0 239 (dk_at dksX1_common_0 2 rfl rfl)
theorem dX1_common_5 : decode cX1_common 5 = .ok (.pop, 1) := dk_87 (dk_at dksX1_common_0 5 rfl rfl)
theorem dX1_common_6 : decode cX1_common 6 = .ok (.aload_n 0, 1) := dk_42 (dk_at dksX1_common_0 6 rfl rfl)
theorem dX1_common_7 : decode cX1_common 7 = .ok (.iload_n 2, 1) := dk_28 (dk_at dksX1_common_0 7 rfl rfl)
theorem dX1_common_8 : decode cX1_common 8 = .ok (.invokevirtual 239, 3) := dk_182 0 239 (dk_at dksX1_common_0 8 rfl rfl)
theorem dX1_common_11 : decode cX1_common 11 = .ok (.pop, 1) := dk_87 (dk_at dksX1_common_0 11 rfl rfl)
theorem dX1_common_12 : decode cX1_common 12 = .ok (.aload_n 0, 1) := dk_42 (dk_at dksX1_common_0 12 rfl rfl)
theorem dX1_common_13 : decode cX1_common 13 = .ok (.aload_n 0, 1) := dk_42 (dk_at dksX1_common_0 13 rfl rfl)
theorem dX1_common_14 : decode cX1_common 14 = .ok (.iload_n 1, 1) := dk_27 (dk_at dksX1_common_0 14 rfl rfl)
theorem dX1_common_15 : decode cX1_common 15 = .ok (.iload_n 2, 1) := dk_28 (dk_at dksX1_common_0 15 rfl rfl)
theorem dX1_common_16 : decode cX1_common 16 = .ok (.invokedynamic 292, 5) := by decide +kernel
theorem dX1_common_21 : decode cX1_common 21 = .ok (.invokevirtual 244, 3) := dk_182 0 244 (dk_at dksX1_common_0 21 rfl rfl)
theorem dX1_common_24 : decode cX1_common 24 = .ok (.ireturn, 1) := dk_172 (dk_at dksX1_common_1 0 rfl rfl)
abbrev cX1_lambda_common_6 : ByteArray := prog_1_method_80_code
def yX1_lambda_common_6 : MethodName := ⟨RX1, "lambda$common$6", "(III)I"⟩
def dkwX1_lambda_common_6_0 : List UInt8 := [42, 29, 27, 182, 1, 182, 153, 0, 16, 42, 29, 28, 182, 1, 182, 153, 0, 7, 4, 167, 0, 4, 3, 172]
abbrev dktX1_lambda_common_6_0 : List UInt8 := dkwX1_lambda_common_6_0 ++ []
theorem dksX1_lambda_common_6_0 : cX1_lambda_common_6.data.toList.drop 0 = dktX1_lambda_common_6_0 := by decide +kernel
theorem dX1_lambda_common_6_0 : decode cX1_lambda_common_6 0 = .ok (.aload_n 0, 1) := dk_42 (dk_at dksX1_lambda_common_6_0 0 rfl rfl)
theorem dX1_lambda_common_6_1 : decode cX1_lambda_common_6 1 = .ok (.iload_n 3, 1) := dk_29 (dk_at dksX1_lambda_common_6_0 1 rfl rfl)
theorem dX1_lambda_common_6_2 : decode cX1_lambda_common_6 2 = .ok (.iload_n 1, 1) := dk_27 (dk_at dksX1_lambda_common_6_0 2 rfl rfl)
theorem dX1_lambda_common_6_3 : decode cX1_lambda_common_6 3 = .ok (.invokevirtual 438, 3) := dk_182 1 182 (dk_at dksX1_lambda_common_6_0 3 rfl rfl)
theorem dX1_lambda_common_6_6 : decode cX1_lambda_common_6 6 = .ok (.ifCond .eq 16, 3) := dk_153 0 16 (dk_at dksX1_lambda_common_6_0 6 rfl rfl)
theorem dX1_lambda_common_6_9 : decode cX1_lambda_common_6 9 = .ok (.aload_n 0, 1) := dk_42 (dk_at dksX1_lambda_common_6_0 9 rfl rfl)
theorem dX1_lambda_common_6_10 : decode cX1_lambda_common_6 10 = .ok (.iload_n 3, 1) := dk_29 (dk_at dksX1_lambda_common_6_0 10 rfl rfl)
theorem dX1_lambda_common_6_11 : decode cX1_lambda_common_6 11 = .ok (.iload_n 2, 1) := dk_28 (dk_at dksX1_lambda_common_6_0 11 rfl rfl)
theorem dX1_lambda_common_6_12 : decode cX1_lambda_common_6 12 = .ok (.invokevirtual 438, 3) := dk_182 1 182 (dk_at dksX1_lambda_common_6_0 12 rfl rfl)
theorem dX1_lambda_common_6_15 : decode cX1_lambda_common_6 15 = .ok (.ifCond .eq 7, 3) := dk_153 0 7 (dk_at dksX1_lambda_common_6_0 15 rfl rfl)
theorem dX1_lambda_common_6_18 : decode cX1_lambda_common_6 18 = .ok (.iconst 1, 1) := dk_4 (dk_at dksX1_lambda_common_6_0 18 rfl rfl)
theorem dX1_lambda_common_6_19 : decode cX1_lambda_common_6 19 = .ok (.goto 4, 3) := dk_167 0 4 (dk_at dksX1_lambda_common_6_0 19 rfl rfl)
theorem dX1_lambda_common_6_22 : decode cX1_lambda_common_6 22 = .ok (.iconst 0, 1) := dk_3 (dk_at dksX1_lambda_common_6_0 22 rfl rfl)
theorem dX1_lambda_common_6_23 : decode cX1_lambda_common_6 23 = .ok (.ireturn, 1) := dk_172 (dk_at dksX1_lambda_common_6_0 23 rfl rfl)
abbrev cX1_gapsWithout : ByteArray := prog_1_method_44_code
def yX1_gapsWithout : MethodName := ⟨RX1, "gapsWithout", "(I)I"⟩
def dkwX1_gapsWithout_0 : List UInt8 := [42, 27, 182, 0, 239, 87, 42, 27, 186, 1, 52, 0, 0, 182, 1, 48, 182, 1, 30, 172]
abbrev dktX1_gapsWithout_0 : List UInt8 := dkwX1_gapsWithout_0 ++ []
theorem dksX1_gapsWithout_0 : cX1_gapsWithout.data.toList.drop 0 = dktX1_gapsWithout_0 := by decide +kernel
theorem dX1_gapsWithout_0 : decode cX1_gapsWithout 0 = .ok (.aload_n 0, 1) := dk_42 (dk_at dksX1_gapsWithout_0 0 rfl rfl)
theorem dX1_gapsWithout_1 : decode cX1_gapsWithout 1 = .ok (.iload_n 1, 1) := dk_27 (dk_at dksX1_gapsWithout_0 1 rfl rfl)
theorem dX1_gapsWithout_2 : decode cX1_gapsWithout 2 = .ok (.invokevirtual 239, 3) := dk_182 0 239 (dk_at dksX1_gapsWithout_0 2 rfl rfl)
theorem dX1_gapsWithout_5 : decode cX1_gapsWithout 5 = .ok (.pop, 1) := dk_87 (dk_at dksX1_gapsWithout_0 5 rfl rfl)
theorem dX1_gapsWithout_6 : decode cX1_gapsWithout 6 = .ok (.aload_n 0, 1) := dk_42 (dk_at dksX1_gapsWithout_0 6 rfl rfl)
theorem dX1_gapsWithout_7 : decode cX1_gapsWithout 7 = .ok (.iload_n 1, 1) := dk_27 (dk_at dksX1_gapsWithout_0 7 rfl rfl)
theorem dX1_gapsWithout_8 : decode cX1_gapsWithout 8 = .ok (.invokedynamic 308, 5) := by decide +kernel
theorem dX1_gapsWithout_13 : decode cX1_gapsWithout 13 = .ok (.invokevirtual 304, 3) := dk_182 1 48 (dk_at dksX1_gapsWithout_0 13 rfl rfl)
theorem dX1_gapsWithout_16 : decode cX1_gapsWithout 16 = .ok (.invokevirtual 286, 3) := dk_182 1 30 (dk_at dksX1_gapsWithout_0 16 rfl rfl)
theorem dX1_gapsWithout_19 : decode cX1_gapsWithout 19 = .ok (.ireturn, 1) := dk_172 (dk_at dksX1_gapsWithout_0 19 rfl rfl)
abbrev cX1_lambda_gapsWithout_8 : ByteArray := prog_1_method_78_code
def yX1_lambda_gapsWithout_8 : MethodName := ⟨RX1, "lambda$gapsWithout$8", "(ILHeirCases$Will;)V"⟩
def dkwX1_lambda_gapsWithout_8_0 : List UInt8 := [43, 26, 182, 1, 136, 177]
abbrev dktX1_lambda_gapsWithout_8_0 : List UInt8 := dkwX1_lambda_gapsWithout_8_0 ++ []
theorem dksX1_lambda_gapsWithout_8_0 : cX1_lambda_gapsWithout_8.data.toList.drop 0 = dktX1_lambda_gapsWithout_8_0 := by decide +kernel
theorem dX1_lambda_gapsWithout_8_0 : decode cX1_lambda_gapsWithout_8 0 = .ok (.aload_n 1, 1) := dk_43 (dk_at dksX1_lambda_gapsWithout_8_0 0 rfl rfl)
theorem dX1_lambda_gapsWithout_8_1 : decode cX1_lambda_gapsWithout_8 1 = .ok (.iload_n 0, 1) := dk_26 (dk_at dksX1_lambda_gapsWithout_8_0 1 rfl rfl)
theorem dX1_lambda_gapsWithout_8_2 : decode cX1_lambda_gapsWithout_8 2 = .ok (.invokevirtual 392, 3) := dk_182 1 136 (dk_at dksX1_lambda_gapsWithout_8_0 2 rfl rfl)
theorem dX1_lambda_gapsWithout_8_5 : decode cX1_lambda_gapsWithout_8 5 = .ok (.return_, 1) := dk_177 (dk_at dksX1_lambda_gapsWithout_8_0 5 rfl rfl)
abbrev cX1_clashesIf : ByteArray := prog_1_method_45_code
def yX1_clashesIf : MethodName := ⟨RX1, "clashesIf", "(II)I"⟩
def dkwX1_clashesIf_1 : List UInt8 := [62, 42, 27, 29, 186, 1, 53, 0, 0, 182, 1, 48, 6, 182, 0, 178, 172]
abbrev dktX1_clashesIf_1 : List UInt8 := dkwX1_clashesIf_1 ++ []
def dkwX1_clashesIf_0 : List UInt8 := [42, 27, 182, 0, 239, 87, 42, 28, 182, 0, 239, 87, 27, 28, 160, 0, 7, 3, 167, 0, 6, 4, 28, 120]
abbrev dktX1_clashesIf_0 : List UInt8 := dkwX1_clashesIf_0 ++ dktX1_clashesIf_1
theorem dksX1_clashesIf_0 : cX1_clashesIf.data.toList.drop 0 = dktX1_clashesIf_0 := by decide +kernel
theorem dksX1_clashesIf_1 : cX1_clashesIf.data.toList.drop 24 = dktX1_clashesIf_1 := dk_seg dksX1_clashesIf_0 24 rfl rfl
theorem dX1_clashesIf_0 : decode cX1_clashesIf 0 = .ok (.aload_n 0, 1) := dk_42 (dk_at dksX1_clashesIf_0 0 rfl rfl)
theorem dX1_clashesIf_1 : decode cX1_clashesIf 1 = .ok (.iload_n 1, 1) := dk_27 (dk_at dksX1_clashesIf_0 1 rfl rfl)
theorem dX1_clashesIf_2 : decode cX1_clashesIf 2 = .ok (.invokevirtual 239, 3) := dk_182 0 239 (dk_at dksX1_clashesIf_0 2 rfl rfl)
theorem dX1_clashesIf_5 : decode cX1_clashesIf 5 = .ok (.pop, 1) := dk_87 (dk_at dksX1_clashesIf_0 5 rfl rfl)
theorem dX1_clashesIf_6 : decode cX1_clashesIf 6 = .ok (.aload_n 0, 1) := dk_42 (dk_at dksX1_clashesIf_0 6 rfl rfl)
theorem dX1_clashesIf_7 : decode cX1_clashesIf 7 = .ok (.iload_n 2, 1) := dk_28 (dk_at dksX1_clashesIf_0 7 rfl rfl)
theorem dX1_clashesIf_8 : decode cX1_clashesIf 8 = .ok (.invokevirtual 239, 3) := dk_182 0 239 (dk_at dksX1_clashesIf_0 8 rfl rfl)
theorem dX1_clashesIf_11 : decode cX1_clashesIf 11 = .ok (.pop, 1) := dk_87 (dk_at dksX1_clashesIf_0 11 rfl rfl)
theorem dX1_clashesIf_12 : decode cX1_clashesIf 12 = .ok (.iload_n 1, 1) := dk_27 (dk_at dksX1_clashesIf_0 12 rfl rfl)
theorem dX1_clashesIf_13 : decode cX1_clashesIf 13 = .ok (.iload_n 2, 1) := dk_28 (dk_at dksX1_clashesIf_0 13 rfl rfl)
theorem dX1_clashesIf_14 : decode cX1_clashesIf 14 = .ok (.if_icmp .ne 7, 3) := dk_160 0 7 (dk_at dksX1_clashesIf_0 14 rfl rfl)
theorem dX1_clashesIf_17 : decode cX1_clashesIf 17 = .ok (.iconst 0, 1) := dk_3 (dk_at dksX1_clashesIf_0 17 rfl rfl)
theorem dX1_clashesIf_18 : decode cX1_clashesIf 18 = .ok (.goto 6, 3) := dk_167 0 6 (dk_at dksX1_clashesIf_0 18 rfl rfl)
theorem dX1_clashesIf_21 : decode cX1_clashesIf 21 = .ok (.iconst 1, 1) := dk_4 (dk_at dksX1_clashesIf_0 21 rfl rfl)
theorem dX1_clashesIf_22 : decode cX1_clashesIf 22 = .ok (.iload_n 2, 1) := dk_28 (dk_at dksX1_clashesIf_0 22 rfl rfl)
theorem dX1_clashesIf_23 : decode cX1_clashesIf 23 = .ok (.ishl, 1) := dk_120 (dk_at dksX1_clashesIf_0 23 rfl rfl)
theorem dX1_clashesIf_24 : decode cX1_clashesIf 24 = .ok (.istore_n 3, 1) := dk_62 (dk_at dksX1_clashesIf_1 0 rfl rfl)
theorem dX1_clashesIf_25 : decode cX1_clashesIf 25 = .ok (.aload_n 0, 1) := dk_42 (dk_at dksX1_clashesIf_1 1 rfl rfl)
theorem dX1_clashesIf_26 : decode cX1_clashesIf 26 = .ok (.iload_n 1, 1) := dk_27 (dk_at dksX1_clashesIf_1 2 rfl rfl)
theorem dX1_clashesIf_27 : decode cX1_clashesIf 27 = .ok (.iload_n 3, 1) := dk_29 (dk_at dksX1_clashesIf_1 3 rfl rfl)
theorem dX1_clashesIf_28 : decode cX1_clashesIf 28 = .ok (.invokedynamic 309, 5) := by decide +kernel
theorem dX1_clashesIf_33 : decode cX1_clashesIf 33 = .ok (.invokevirtual 304, 3) := dk_182 1 48 (dk_at dksX1_clashesIf_1 9 rfl rfl)
theorem dX1_clashesIf_36 : decode cX1_clashesIf 36 = .ok (.iconst 3, 1) := dk_6 (dk_at dksX1_clashesIf_1 12 rfl rfl)
theorem dX1_clashesIf_37 : decode cX1_clashesIf 37 = .ok (.invokevirtual 178, 3) := dk_182 0 178 (dk_at dksX1_clashesIf_1 13 rfl rfl)
theorem dX1_clashesIf_40 : decode cX1_clashesIf 40 = .ok (.ireturn, 1) := dk_172 (dk_at dksX1_clashesIf_1 16 rfl rfl)
abbrev cX1_lambda_clashesIf_9 : ByteArray := prog_1_method_77_code
def yX1_lambda_clashesIf_9 : MethodName := ⟨RX1, "lambda$clashesIf$9", "(IILHeirCases$Will;)V"⟩
def dkwX1_lambda_clashesIf_9_0 : List UInt8 := [44, 180, 0, 118, 26, 182, 0, 129, 192, 0, 133, 89, 180, 0, 253, 27, 130, 181, 0, 253, 177]
abbrev dktX1_lambda_clashesIf_9_0 : List UInt8 := dkwX1_lambda_clashesIf_9_0 ++ []
theorem dksX1_lambda_clashesIf_9_0 : cX1_lambda_clashesIf_9.data.toList.drop 0 = dktX1_lambda_clashesIf_9_0 := by decide +kernel
theorem dX1_lambda_clashesIf_9_0 : decode cX1_lambda_clashesIf_9 0 = .ok (.aload_n 2, 1) := dk_44 (dk_at dksX1_lambda_clashesIf_9_0 0 rfl rfl)
theorem dX1_lambda_clashesIf_9_1 : decode cX1_lambda_clashesIf_9 1 = .ok (.getfield 118, 3) := dk_180 0 118 (dk_at dksX1_lambda_clashesIf_9_0 1 rfl rfl)
theorem dX1_lambda_clashesIf_9_4 : decode cX1_lambda_clashesIf_9 4 = .ok (.iload_n 0, 1) := dk_26 (dk_at dksX1_lambda_clashesIf_9_0 4 rfl rfl)
theorem dX1_lambda_clashesIf_9_5 : decode cX1_lambda_clashesIf_9 5 = .ok (.invokevirtual 129, 3) := dk_182 0 129 (dk_at dksX1_lambda_clashesIf_9_0 5 rfl rfl)
theorem dX1_lambda_clashesIf_9_8 : decode cX1_lambda_clashesIf_9 8 = .ok (.checkcast 133, 3) := dk_192 0 133 (dk_at dksX1_lambda_clashesIf_9_0 8 rfl rfl)
theorem dX1_lambda_clashesIf_9_11 : decode cX1_lambda_clashesIf_9 11 = .ok (.dup, 1) := dk_89 (dk_at dksX1_lambda_clashesIf_9_0 11 rfl rfl)
theorem dX1_lambda_clashesIf_9_12 : decode cX1_lambda_clashesIf_9 12 = .ok (.getfield 253, 3) := dk_180 0 253 (dk_at dksX1_lambda_clashesIf_9_0 12 rfl rfl)
theorem dX1_lambda_clashesIf_9_15 : decode cX1_lambda_clashesIf_9 15 = .ok (.iload_n 1, 1) := dk_27 (dk_at dksX1_lambda_clashesIf_9_0 15 rfl rfl)
theorem dX1_lambda_clashesIf_9_16 : decode cX1_lambda_clashesIf_9 16 = .ok (.ixor, 1) := dk_130 (dk_at dksX1_lambda_clashesIf_9_0 16 rfl rfl)
theorem dX1_lambda_clashesIf_9_17 : decode cX1_lambda_clashesIf_9 17 = .ok (.putfield 253, 3) := dk_181 0 253 (dk_at dksX1_lambda_clashesIf_9_0 17 rfl rfl)
theorem dX1_lambda_clashesIf_9_20 : decode cX1_lambda_clashesIf_9 20 = .ok (.return_, 1) := dk_177 (dk_at dksX1_lambda_clashesIf_9_0 20 rfl rfl)
abbrev cX1_farFrom : ByteArray := prog_1_method_49_code
def yX1_farFrom : MethodName := ⟨RX1, "farFrom", "(I)I"⟩
def dkwX1_farFrom_3 : List UInt8 := [184, 1, 67, 61, 132, 4, 1, 167, 255, 199, 28, 172]
abbrev dktX1_farFrom_3 : List UInt8 := dkwX1_farFrom_3 ++ []
def dkwX1_farFrom_2 : List UInt8 := [180, 0, 175, 21, 4, 182, 1, 64, 54, 5, 28, 2, 160, 0, 8, 21, 5, 167, 0, 9, 28, 21, 5]
abbrev dktX1_farFrom_2 : List UInt8 := dkwX1_farFrom_2 ++ dktX1_farFrom_3
def dkwX1_farFrom_1 : List UInt8 := [162, 0, 57, 42, 180, 0, 82, 21, 4, 182, 0, 188, 180, 1, 9, 27, 160, 0, 35, 42, 42, 180, 0, 82]
abbrev dktX1_farFrom_1 : List UInt8 := dkwX1_farFrom_1 ++ dktX1_farFrom_2
def dkwX1_farFrom_0 : List UInt8 := [42, 27, 182, 0, 239, 87, 2, 61, 42, 180, 0, 82, 182, 0, 112, 62, 3, 54, 4, 21, 4, 29]
abbrev dktX1_farFrom_0 : List UInt8 := dkwX1_farFrom_0 ++ dktX1_farFrom_1
theorem dksX1_farFrom_0 : cX1_farFrom.data.toList.drop 0 = dktX1_farFrom_0 := by decide +kernel
theorem dksX1_farFrom_1 : cX1_farFrom.data.toList.drop 22 = dktX1_farFrom_1 := dk_seg dksX1_farFrom_0 22 rfl rfl
theorem dksX1_farFrom_2 : cX1_farFrom.data.toList.drop 46 = dktX1_farFrom_2 := dk_seg dksX1_farFrom_1 24 rfl rfl
theorem dksX1_farFrom_3 : cX1_farFrom.data.toList.drop 69 = dktX1_farFrom_3 := dk_seg dksX1_farFrom_2 23 rfl rfl
theorem dX1_farFrom_0 : decode cX1_farFrom 0 = .ok (.aload_n 0, 1) := dk_42 (dk_at dksX1_farFrom_0 0 rfl rfl)
theorem dX1_farFrom_1 : decode cX1_farFrom 1 = .ok (.iload_n 1, 1) := dk_27 (dk_at dksX1_farFrom_0 1 rfl rfl)
theorem dX1_farFrom_2 : decode cX1_farFrom 2 = .ok (.invokevirtual 239, 3) := dk_182 0 239 (dk_at dksX1_farFrom_0 2 rfl rfl)
theorem dX1_farFrom_5 : decode cX1_farFrom 5 = .ok (.pop, 1) := dk_87 (dk_at dksX1_farFrom_0 5 rfl rfl)
theorem dX1_farFrom_6 : decode cX1_farFrom 6 = .ok (.iconst (-1), 1) := dk_2 (dk_at dksX1_farFrom_0 6 rfl rfl)
theorem dX1_farFrom_7 : decode cX1_farFrom 7 = .ok (.istore_n 2, 1) := dk_61 (dk_at dksX1_farFrom_0 7 rfl rfl)
theorem dX1_farFrom_8 : decode cX1_farFrom 8 = .ok (.aload_n 0, 1) := dk_42 (dk_at dksX1_farFrom_0 8 rfl rfl)
theorem dX1_farFrom_9 : decode cX1_farFrom 9 = .ok (.getfield 82, 3) := dk_180 0 82 (dk_at dksX1_farFrom_0 9 rfl rfl)
theorem dX1_farFrom_12 : decode cX1_farFrom 12 = .ok (.invokevirtual 112, 3) := dk_182 0 112 (dk_at dksX1_farFrom_0 12 rfl rfl)
theorem dX1_farFrom_15 : decode cX1_farFrom 15 = .ok (.istore_n 3, 1) := dk_62 (dk_at dksX1_farFrom_0 15 rfl rfl)
theorem dX1_farFrom_16 : decode cX1_farFrom 16 = .ok (.iconst 0, 1) := dk_3 (dk_at dksX1_farFrom_0 16 rfl rfl)
theorem dX1_farFrom_17 : decode cX1_farFrom 17 = .ok (.istore 4, 2) := dk_54 4 (dk_at dksX1_farFrom_0 17 rfl rfl)
theorem dX1_farFrom_19 : decode cX1_farFrom 19 = .ok (.iload 4, 2) := dk_21 4 (dk_at dksX1_farFrom_0 19 rfl rfl)
theorem dX1_farFrom_21 : decode cX1_farFrom 21 = .ok (.iload_n 3, 1) := dk_29 (dk_at dksX1_farFrom_0 21 rfl rfl)
theorem dX1_farFrom_22 : decode cX1_farFrom 22 = .ok (.if_icmp .ge 57, 3) := dk_162 0 57 (dk_at dksX1_farFrom_1 0 rfl rfl)
theorem dX1_farFrom_25 : decode cX1_farFrom 25 = .ok (.aload_n 0, 1) := dk_42 (dk_at dksX1_farFrom_1 3 rfl rfl)
theorem dX1_farFrom_26 : decode cX1_farFrom 26 = .ok (.getfield 82, 3) := dk_180 0 82 (dk_at dksX1_farFrom_1 4 rfl rfl)
theorem dX1_farFrom_29 : decode cX1_farFrom 29 = .ok (.iload 4, 2) := dk_21 4 (dk_at dksX1_farFrom_1 7 rfl rfl)
theorem dX1_farFrom_31 : decode cX1_farFrom 31 = .ok (.invokevirtual 188, 3) := dk_182 0 188 (dk_at dksX1_farFrom_1 9 rfl rfl)
theorem dX1_farFrom_34 : decode cX1_farFrom 34 = .ok (.getfield 265, 3) := dk_180 1 9 (dk_at dksX1_farFrom_1 12 rfl rfl)
theorem dX1_farFrom_37 : decode cX1_farFrom 37 = .ok (.iload_n 1, 1) := dk_27 (dk_at dksX1_farFrom_1 15 rfl rfl)
theorem dX1_farFrom_38 : decode cX1_farFrom 38 = .ok (.if_icmp .ne 35, 3) := dk_160 0 35 (dk_at dksX1_farFrom_1 16 rfl rfl)
theorem dX1_farFrom_41 : decode cX1_farFrom 41 = .ok (.aload_n 0, 1) := dk_42 (dk_at dksX1_farFrom_1 19 rfl rfl)
theorem dX1_farFrom_42 : decode cX1_farFrom 42 = .ok (.aload_n 0, 1) := dk_42 (dk_at dksX1_farFrom_1 20 rfl rfl)
theorem dX1_farFrom_43 : decode cX1_farFrom 43 = .ok (.getfield 82, 3) := dk_180 0 82 (dk_at dksX1_farFrom_1 21 rfl rfl)
theorem dX1_farFrom_46 : decode cX1_farFrom 46 = .ok (.getfield 175, 3) := dk_180 0 175 (dk_at dksX1_farFrom_2 0 rfl rfl)
theorem dX1_farFrom_49 : decode cX1_farFrom 49 = .ok (.iload 4, 2) := dk_21 4 (dk_at dksX1_farFrom_2 3 rfl rfl)
theorem dX1_farFrom_51 : decode cX1_farFrom 51 = .ok (.invokevirtual 320, 3) := dk_182 1 64 (dk_at dksX1_farFrom_2 5 rfl rfl)
theorem dX1_farFrom_54 : decode cX1_farFrom 54 = .ok (.istore 5, 2) := dk_54 5 (dk_at dksX1_farFrom_2 8 rfl rfl)
theorem dX1_farFrom_56 : decode cX1_farFrom 56 = .ok (.iload_n 2, 1) := dk_28 (dk_at dksX1_farFrom_2 10 rfl rfl)
theorem dX1_farFrom_57 : decode cX1_farFrom 57 = .ok (.iconst (-1), 1) := dk_2 (dk_at dksX1_farFrom_2 11 rfl rfl)
theorem dX1_farFrom_58 : decode cX1_farFrom 58 = .ok (.if_icmp .ne 8, 3) := dk_160 0 8 (dk_at dksX1_farFrom_2 12 rfl rfl)
theorem dX1_farFrom_61 : decode cX1_farFrom 61 = .ok (.iload 5, 2) := dk_21 5 (dk_at dksX1_farFrom_2 15 rfl rfl)
theorem dX1_farFrom_63 : decode cX1_farFrom 63 = .ok (.goto 9, 3) := dk_167 0 9 (dk_at dksX1_farFrom_2 17 rfl rfl)
theorem dX1_farFrom_66 : decode cX1_farFrom 66 = .ok (.iload_n 2, 1) := dk_28 (dk_at dksX1_farFrom_2 20 rfl rfl)
theorem dX1_farFrom_67 : decode cX1_farFrom 67 = .ok (.iload 5, 2) := dk_21 5 (dk_at dksX1_farFrom_2 21 rfl rfl)
theorem dX1_farFrom_69 : decode cX1_farFrom 69 = .ok (.invokestatic 323, 3) := dk_184 1 67 (dk_at dksX1_farFrom_3 0 rfl rfl)
theorem dX1_farFrom_72 : decode cX1_farFrom 72 = .ok (.istore_n 2, 1) := dk_61 (dk_at dksX1_farFrom_3 3 rfl rfl)
theorem dX1_farFrom_73 : decode cX1_farFrom 73 = .ok (.iinc 4 1, 3) := dk_132 4 1 (dk_at dksX1_farFrom_3 4 rfl rfl)
theorem dX1_farFrom_76 : decode cX1_farFrom 76 = .ok (.goto (-57), 3) := dk_167 255 199 (dk_at dksX1_farFrom_3 7 rfl rfl)
theorem dX1_farFrom_79 : decode cX1_farFrom 79 = .ok (.iload_n 2, 1) := dk_28 (dk_at dksX1_farFrom_3 10 rfl rfl)
theorem dX1_farFrom_80 : decode cX1_farFrom 80 = .ok (.ireturn, 1) := dk_172 (dk_at dksX1_farFrom_3 11 rfl rfl)
abbrev cX1_distance : ByteArray := prog_1_method_48_code
def yX1_distance : MethodName := ⟨RX1, "distance", "(II)I"⟩
def dkwX1_distance_2 : List UInt8 := [21, 6, 46, 160, 0, 7, 3, 167, 0, 4, 4, 96, 62, 132, 6, 1, 167, 255, 224, 29, 172]
abbrev dktX1_distance_2 : List UInt8 := dkwX1_distance_2 ++ []
def dkwX1_distance_1 : List UInt8 := [180, 0, 192, 58, 5, 3, 54, 6, 21, 6, 25, 4, 190, 162, 0, 30, 29, 25, 4, 21, 6, 46, 25, 5]
abbrev dktX1_distance_1 : List UInt8 := dkwX1_distance_1 ++ dktX1_distance_2
def dkwX1_distance_0 : List UInt8 := [3, 62, 42, 180, 0, 82, 27, 182, 0, 188, 180, 0, 192, 58, 4, 42, 180, 0, 82, 28, 182, 0, 188]
abbrev dktX1_distance_0 : List UInt8 := dkwX1_distance_0 ++ dktX1_distance_1
theorem dksX1_distance_0 : cX1_distance.data.toList.drop 0 = dktX1_distance_0 := by decide +kernel
theorem dksX1_distance_1 : cX1_distance.data.toList.drop 23 = dktX1_distance_1 := dk_seg dksX1_distance_0 23 rfl rfl
theorem dksX1_distance_2 : cX1_distance.data.toList.drop 47 = dktX1_distance_2 := dk_seg dksX1_distance_1 24 rfl rfl
theorem dX1_distance_0 : decode cX1_distance 0 = .ok (.iconst 0, 1) := dk_3 (dk_at dksX1_distance_0 0 rfl rfl)
theorem dX1_distance_1 : decode cX1_distance 1 = .ok (.istore_n 3, 1) := dk_62 (dk_at dksX1_distance_0 1 rfl rfl)
theorem dX1_distance_2 : decode cX1_distance 2 = .ok (.aload_n 0, 1) := dk_42 (dk_at dksX1_distance_0 2 rfl rfl)
theorem dX1_distance_3 : decode cX1_distance 3 = .ok (.getfield 82, 3) := dk_180 0 82 (dk_at dksX1_distance_0 3 rfl rfl)
theorem dX1_distance_6 : decode cX1_distance 6 = .ok (.iload_n 1, 1) := dk_27 (dk_at dksX1_distance_0 6 rfl rfl)
theorem dX1_distance_7 : decode cX1_distance 7 = .ok (.invokevirtual 188, 3) := dk_182 0 188 (dk_at dksX1_distance_0 7 rfl rfl)
theorem dX1_distance_10 : decode cX1_distance 10 = .ok (.getfield 192, 3) := dk_180 0 192 (dk_at dksX1_distance_0 10 rfl rfl)
theorem dX1_distance_13 : decode cX1_distance 13 = .ok (.astore 4, 2) := dk_58 4 (dk_at dksX1_distance_0 13 rfl rfl)
theorem dX1_distance_15 : decode cX1_distance 15 = .ok (.aload_n 0, 1) := dk_42 (dk_at dksX1_distance_0 15 rfl rfl)
theorem dX1_distance_16 : decode cX1_distance 16 = .ok (.getfield 82, 3) := dk_180 0 82 (dk_at dksX1_distance_0 16 rfl rfl)
theorem dX1_distance_19 : decode cX1_distance 19 = .ok (.iload_n 2, 1) := dk_28 (dk_at dksX1_distance_0 19 rfl rfl)
theorem dX1_distance_20 : decode cX1_distance 20 = .ok (.invokevirtual 188, 3) := dk_182 0 188 (dk_at dksX1_distance_0 20 rfl rfl)
theorem dX1_distance_23 : decode cX1_distance 23 = .ok (.getfield 192, 3) := dk_180 0 192 (dk_at dksX1_distance_1 0 rfl rfl)
theorem dX1_distance_26 : decode cX1_distance 26 = .ok (.astore 5, 2) := dk_58 5 (dk_at dksX1_distance_1 3 rfl rfl)
theorem dX1_distance_28 : decode cX1_distance 28 = .ok (.iconst 0, 1) := dk_3 (dk_at dksX1_distance_1 5 rfl rfl)
theorem dX1_distance_29 : decode cX1_distance 29 = .ok (.istore 6, 2) := dk_54 6 (dk_at dksX1_distance_1 6 rfl rfl)
theorem dX1_distance_31 : decode cX1_distance 31 = .ok (.iload 6, 2) := dk_21 6 (dk_at dksX1_distance_1 8 rfl rfl)
theorem dX1_distance_33 : decode cX1_distance 33 = .ok (.aload 4, 2) := dk_25 4 (dk_at dksX1_distance_1 10 rfl rfl)
theorem dX1_distance_35 : decode cX1_distance 35 = .ok (.arraylength, 1) := dk_190 (dk_at dksX1_distance_1 12 rfl rfl)
theorem dX1_distance_36 : decode cX1_distance 36 = .ok (.if_icmp .ge 30, 3) := dk_162 0 30 (dk_at dksX1_distance_1 13 rfl rfl)
theorem dX1_distance_39 : decode cX1_distance 39 = .ok (.iload_n 3, 1) := dk_29 (dk_at dksX1_distance_1 16 rfl rfl)
theorem dX1_distance_40 : decode cX1_distance 40 = .ok (.aload 4, 2) := dk_25 4 (dk_at dksX1_distance_1 17 rfl rfl)
theorem dX1_distance_42 : decode cX1_distance 42 = .ok (.iload 6, 2) := dk_21 6 (dk_at dksX1_distance_1 19 rfl rfl)
theorem dX1_distance_44 : decode cX1_distance 44 = .ok (.iaload, 1) := dk_46 (dk_at dksX1_distance_1 21 rfl rfl)
theorem dX1_distance_45 : decode cX1_distance 45 = .ok (.aload 5, 2) := dk_25 5 (dk_at dksX1_distance_1 22 rfl rfl)
theorem dX1_distance_47 : decode cX1_distance 47 = .ok (.iload 6, 2) := dk_21 6 (dk_at dksX1_distance_2 0 rfl rfl)
theorem dX1_distance_49 : decode cX1_distance 49 = .ok (.iaload, 1) := dk_46 (dk_at dksX1_distance_2 2 rfl rfl)
theorem dX1_distance_50 : decode cX1_distance 50 = .ok (.if_icmp .ne 7, 3) := dk_160 0 7 (dk_at dksX1_distance_2 3 rfl rfl)
theorem dX1_distance_53 : decode cX1_distance 53 = .ok (.iconst 0, 1) := dk_3 (dk_at dksX1_distance_2 6 rfl rfl)
theorem dX1_distance_54 : decode cX1_distance 54 = .ok (.goto 4, 3) := dk_167 0 4 (dk_at dksX1_distance_2 7 rfl rfl)
theorem dX1_distance_57 : decode cX1_distance 57 = .ok (.iconst 1, 1) := dk_4 (dk_at dksX1_distance_2 10 rfl rfl)
theorem dX1_distance_58 : decode cX1_distance 58 = .ok (.iadd, 1) := dk_96 (dk_at dksX1_distance_2 11 rfl rfl)
theorem dX1_distance_59 : decode cX1_distance 59 = .ok (.istore_n 3, 1) := dk_62 (dk_at dksX1_distance_2 12 rfl rfl)
theorem dX1_distance_60 : decode cX1_distance 60 = .ok (.iinc 6 1, 3) := dk_132 6 1 (dk_at dksX1_distance_2 13 rfl rfl)
theorem dX1_distance_63 : decode cX1_distance 63 = .ok (.goto (-32), 3) := dk_167 255 224 (dk_at dksX1_distance_2 16 rfl rfl)
theorem dX1_distance_66 : decode cX1_distance 66 = .ok (.iload_n 3, 1) := dk_29 (dk_at dksX1_distance_2 19 rfl rfl)
theorem dX1_distance_67 : decode cX1_distance 67 = .ok (.ireturn, 1) := dk_172 (dk_at dksX1_distance_2 20 rfl rfl)
abbrev cX1_gets : ByteArray := prog_1_method_50_code
def yX1_gets : MethodName := ⟨RX1, "gets", "(III)I"⟩
def dkwX1_gets_1 : List UInt8 := [27, 28, 182, 0, 214, 167, 0, 12, 42, 180, 0, 82, 27, 28, 182, 0, 218, 172]
abbrev dktX1_gets_1 : List UInt8 := dkwX1_gets_1 ++ []
def dkwX1_gets_0 : List UInt8 := [42, 27, 182, 0, 185, 42, 28, 182, 0, 205, 29, 3, 4, 184, 0, 158, 29, 154, 0, 15, 42, 180, 0, 82]
abbrev dktX1_gets_0 : List UInt8 := dkwX1_gets_0 ++ dktX1_gets_1
theorem dksX1_gets_0 : cX1_gets.data.toList.drop 0 = dktX1_gets_0 := by decide +kernel
theorem dksX1_gets_1 : cX1_gets.data.toList.drop 24 = dktX1_gets_1 := dk_seg dksX1_gets_0 24 rfl rfl
theorem dX1_gets_0 : decode cX1_gets 0 = .ok (.aload_n 0, 1) := dk_42 (dk_at dksX1_gets_0 0 rfl rfl)
theorem dX1_gets_1 : decode cX1_gets 1 = .ok (.iload_n 1, 1) := dk_27 (dk_at dksX1_gets_0 1 rfl rfl)
theorem dX1_gets_2 : decode cX1_gets 2 = .ok (.invokevirtual 185, 3) := dk_182 0 185 (dk_at dksX1_gets_0 2 rfl rfl)
theorem dX1_gets_5 : decode cX1_gets 5 = .ok (.aload_n 0, 1) := dk_42 (dk_at dksX1_gets_0 5 rfl rfl)
theorem dX1_gets_6 : decode cX1_gets 6 = .ok (.iload_n 2, 1) := dk_28 (dk_at dksX1_gets_0 6 rfl rfl)
theorem dX1_gets_7 : decode cX1_gets 7 = .ok (.invokevirtual 205, 3) := dk_182 0 205 (dk_at dksX1_gets_0 7 rfl rfl)
theorem dX1_gets_10 : decode cX1_gets 10 = .ok (.iload_n 3, 1) := dk_29 (dk_at dksX1_gets_0 10 rfl rfl)
theorem dX1_gets_11 : decode cX1_gets 11 = .ok (.iconst 0, 1) := dk_3 (dk_at dksX1_gets_0 11 rfl rfl)
theorem dX1_gets_12 : decode cX1_gets 12 = .ok (.iconst 1, 1) := dk_4 (dk_at dksX1_gets_0 12 rfl rfl)
theorem dX1_gets_13 : decode cX1_gets 13 = .ok (.invokestatic 158, 3) := dk_184 0 158 (dk_at dksX1_gets_0 13 rfl rfl)
theorem dX1_gets_16 : decode cX1_gets 16 = .ok (.iload_n 3, 1) := dk_29 (dk_at dksX1_gets_0 16 rfl rfl)
theorem dX1_gets_17 : decode cX1_gets 17 = .ok (.ifCond .ne 15, 3) := dk_154 0 15 (dk_at dksX1_gets_0 17 rfl rfl)
theorem dX1_gets_20 : decode cX1_gets 20 = .ok (.aload_n 0, 1) := dk_42 (dk_at dksX1_gets_0 20 rfl rfl)
theorem dX1_gets_21 : decode cX1_gets 21 = .ok (.getfield 82, 3) := dk_180 0 82 (dk_at dksX1_gets_0 21 rfl rfl)
theorem dX1_gets_24 : decode cX1_gets 24 = .ok (.iload_n 1, 1) := dk_27 (dk_at dksX1_gets_1 0 rfl rfl)
theorem dX1_gets_25 : decode cX1_gets 25 = .ok (.iload_n 2, 1) := dk_28 (dk_at dksX1_gets_1 1 rfl rfl)
theorem dX1_gets_26 : decode cX1_gets 26 = .ok (.invokevirtual 214, 3) := dk_182 0 214 (dk_at dksX1_gets_1 2 rfl rfl)
theorem dX1_gets_29 : decode cX1_gets 29 = .ok (.goto 12, 3) := dk_167 0 12 (dk_at dksX1_gets_1 5 rfl rfl)
theorem dX1_gets_32 : decode cX1_gets 32 = .ok (.aload_n 0, 1) := dk_42 (dk_at dksX1_gets_1 8 rfl rfl)
theorem dX1_gets_33 : decode cX1_gets 33 = .ok (.getfield 82, 3) := dk_180 0 82 (dk_at dksX1_gets_1 9 rfl rfl)
theorem dX1_gets_36 : decode cX1_gets 36 = .ok (.iload_n 1, 1) := dk_27 (dk_at dksX1_gets_1 12 rfl rfl)
theorem dX1_gets_37 : decode cX1_gets 37 = .ok (.iload_n 2, 1) := dk_28 (dk_at dksX1_gets_1 13 rfl rfl)
theorem dX1_gets_38 : decode cX1_gets 38 = .ok (.invokevirtual 218, 3) := dk_182 0 218 (dk_at dksX1_gets_1 14 rfl rfl)
theorem dX1_gets_41 : decode cX1_gets 41 = .ok (.ireturn, 1) := dk_172 (dk_at dksX1_gets_1 17 rfl rfl)
abbrev cX1_duties : ByteArray := prog_1_method_51_code
def yX1_duties : MethodName := ⟨RX1, "duties", "(I)I"⟩
def dkwX1_duties_0 : List UInt8 := [42, 27, 182, 0, 185, 42, 180, 0, 82, 27, 182, 1, 72, 172]
abbrev dktX1_duties_0 : List UInt8 := dkwX1_duties_0 ++ []
theorem dksX1_duties_0 : cX1_duties.data.toList.drop 0 = dktX1_duties_0 := by decide +kernel
theorem dX1_duties_0 : decode cX1_duties 0 = .ok (.aload_n 0, 1) := dk_42 (dk_at dksX1_duties_0 0 rfl rfl)
theorem dX1_duties_1 : decode cX1_duties 1 = .ok (.iload_n 1, 1) := dk_27 (dk_at dksX1_duties_0 1 rfl rfl)
theorem dX1_duties_2 : decode cX1_duties 2 = .ok (.invokevirtual 185, 3) := dk_182 0 185 (dk_at dksX1_duties_0 2 rfl rfl)
theorem dX1_duties_5 : decode cX1_duties 5 = .ok (.aload_n 0, 1) := dk_42 (dk_at dksX1_duties_0 5 rfl rfl)
theorem dX1_duties_6 : decode cX1_duties 6 = .ok (.getfield 82, 3) := dk_180 0 82 (dk_at dksX1_duties_0 6 rfl rfl)
theorem dX1_duties_9 : decode cX1_duties 9 = .ok (.iload_n 1, 1) := dk_27 (dk_at dksX1_duties_0 9 rfl rfl)
theorem dX1_duties_10 : decode cX1_duties 10 = .ok (.invokevirtual 328, 3) := dk_182 1 72 (dk_at dksX1_duties_0 10 rfl rfl)
theorem dX1_duties_13 : decode cX1_duties 13 = .ok (.ireturn, 1) := dk_172 (dk_at dksX1_duties_0 13 rfl rfl)
abbrev cX1_writeRule : ByteArray := prog_1_method_58_code
def yX1_writeRule : MethodName := ⟨RX1, "writeRule", "(I)I"⟩
def dkwX1_writeRule_5 : List UInt8 := [182, 0, 143, 172]
abbrev dktX1_writeRule_5 : List UInt8 := dkwX1_writeRule_5 ++ []
def dkwX1_writeRule_4 : List UInt8 := [42, 180, 0, 43, 16, 32, 182, 0, 148, 29, 182, 1, 90, 87, 132, 3, 1, 167, 255, 217, 42, 180, 0, 43]
abbrev dktX1_writeRule_4 : List UInt8 := dkwX1_writeRule_4 ++ dktX1_writeRule_5
def dkwX1_writeRule_3 : List UInt8 := [3, 62, 29, 42, 180, 0, 82, 180, 0, 118, 182, 0, 122, 162, 0, 31, 44, 29, 182, 0, 229, 153, 0, 17]
abbrev dktX1_writeRule_3 : List UInt8 := dkwX1_writeRule_3 ++ dktX1_writeRule_4
def dkwX1_writeRule_2 : List UInt8 := [42, 180, 0, 43, 44, 180, 0, 253, 154, 0, 9, 19, 1, 95, 167, 0, 6, 19, 1, 113, 182, 1, 87, 87]
abbrev dktX1_writeRule_2 : List UInt8 := dkwX1_writeRule_2 ++ dktX1_writeRule_3
def dkwX1_writeRule_1 : List UInt8 := [180, 0, 43, 185, 1, 101, 2, 0, 42, 180, 0, 43, 19, 1, 107, 182, 1, 87, 87, 42, 44, 182, 1, 109]
abbrev dktX1_writeRule_1 : List UInt8 := dkwX1_writeRule_1 ++ dktX1_writeRule_2
def dkwX1_writeRule_0 : List UInt8 := [42, 27, 182, 0, 239, 77, 42, 187, 0, 36, 89, 183, 0, 38, 181, 0, 43, 44, 180, 1, 97, 42]
abbrev dktX1_writeRule_0 : List UInt8 := dkwX1_writeRule_0 ++ dktX1_writeRule_1
theorem dksX1_writeRule_0 : cX1_writeRule.data.toList.drop 0 = dktX1_writeRule_0 := by decide +kernel
theorem dksX1_writeRule_1 : cX1_writeRule.data.toList.drop 22 = dktX1_writeRule_1 := dk_seg dksX1_writeRule_0 22 rfl rfl
theorem dksX1_writeRule_2 : cX1_writeRule.data.toList.drop 46 = dktX1_writeRule_2 := dk_seg dksX1_writeRule_1 24 rfl rfl
theorem dksX1_writeRule_3 : cX1_writeRule.data.toList.drop 70 = dktX1_writeRule_3 := dk_seg dksX1_writeRule_2 24 rfl rfl
theorem dksX1_writeRule_4 : cX1_writeRule.data.toList.drop 94 = dktX1_writeRule_4 := dk_seg dksX1_writeRule_3 24 rfl rfl
theorem dksX1_writeRule_5 : cX1_writeRule.data.toList.drop 118 = dktX1_writeRule_5 := dk_seg dksX1_writeRule_4 24 rfl rfl
theorem dX1_writeRule_0 : decode cX1_writeRule 0 = .ok (.aload_n 0, 1) := dk_42 (dk_at dksX1_writeRule_0 0 rfl rfl)
theorem dX1_writeRule_1 : decode cX1_writeRule 1 = .ok (.iload_n 1, 1) := dk_27 (dk_at dksX1_writeRule_0 1 rfl rfl)
theorem dX1_writeRule_2 : decode cX1_writeRule 2 = .ok (.invokevirtual 239, 3) := dk_182 0 239 (dk_at dksX1_writeRule_0 2 rfl rfl)
theorem dX1_writeRule_5 : decode cX1_writeRule 5 = .ok (.astore_n 2, 1) := dk_77 (dk_at dksX1_writeRule_0 5 rfl rfl)
theorem dX1_writeRule_6 : decode cX1_writeRule 6 = .ok (.aload_n 0, 1) := dk_42 (dk_at dksX1_writeRule_0 6 rfl rfl)
theorem dX1_writeRule_7 : decode cX1_writeRule 7 = .ok (.new 36, 3) := dk_187 0 36 (dk_at dksX1_writeRule_0 7 rfl rfl)
theorem dX1_writeRule_10 : decode cX1_writeRule 10 = .ok (.dup, 1) := dk_89 (dk_at dksX1_writeRule_0 10 rfl rfl)
theorem dX1_writeRule_11 : decode cX1_writeRule 11 = .ok (.invokespecial 38, 3) := dk_183 0 38 (dk_at dksX1_writeRule_0 11 rfl rfl)
theorem dX1_writeRule_14 : decode cX1_writeRule 14 = .ok (.putfield 43, 3) := dk_181 0 43 (dk_at dksX1_writeRule_0 14 rfl rfl)
theorem dX1_writeRule_17 : decode cX1_writeRule 17 = .ok (.aload_n 2, 1) := dk_44 (dk_at dksX1_writeRule_0 17 rfl rfl)
theorem dX1_writeRule_18 : decode cX1_writeRule 18 = .ok (.getfield 353, 3) := dk_180 1 97 (dk_at dksX1_writeRule_0 18 rfl rfl)
theorem dX1_writeRule_21 : decode cX1_writeRule 21 = .ok (.aload_n 0, 1) := dk_42 (dk_at dksX1_writeRule_0 21 rfl rfl)
theorem dX1_writeRule_22 : decode cX1_writeRule 22 = .ok (.getfield 43, 3) := dk_180 0 43 (dk_at dksX1_writeRule_1 0 rfl rfl)
theorem dX1_writeRule_25 : decode cX1_writeRule 25 = .ok (.invokeinterface 357 2, 5) := by decide +kernel
theorem dX1_writeRule_30 : decode cX1_writeRule 30 = .ok (.aload_n 0, 1) := dk_42 (dk_at dksX1_writeRule_1 8 rfl rfl)
theorem dX1_writeRule_31 : decode cX1_writeRule 31 = .ok (.getfield 43, 3) := dk_180 0 43 (dk_at dksX1_writeRule_1 9 rfl rfl)
theorem dX1_writeRule_34 : decode cX1_writeRule 34 = .ok (.ldc_w 363, 3) := dk_19 1 107 (dk_at dksX1_writeRule_1 12 rfl rfl)
theorem dX1_writeRule_37 : decode cX1_writeRule 37 = .ok (.invokevirtual 343, 3) := dk_182 1 87 (dk_at dksX1_writeRule_1 15 rfl rfl)
theorem dX1_writeRule_40 : decode cX1_writeRule 40 = .ok (.pop, 1) := dk_87 (dk_at dksX1_writeRule_1 18 rfl rfl)
theorem dX1_writeRule_41 : decode cX1_writeRule 41 = .ok (.aload_n 0, 1) := dk_42 (dk_at dksX1_writeRule_1 19 rfl rfl)
theorem dX1_writeRule_42 : decode cX1_writeRule 42 = .ok (.aload_n 2, 1) := dk_44 (dk_at dksX1_writeRule_1 20 rfl rfl)
theorem dX1_writeRule_43 : decode cX1_writeRule 43 = .ok (.invokevirtual 365, 3) := dk_182 1 109 (dk_at dksX1_writeRule_1 21 rfl rfl)
theorem dX1_writeRule_46 : decode cX1_writeRule 46 = .ok (.aload_n 0, 1) := dk_42 (dk_at dksX1_writeRule_2 0 rfl rfl)
theorem dX1_writeRule_47 : decode cX1_writeRule 47 = .ok (.getfield 43, 3) := dk_180 0 43 (dk_at dksX1_writeRule_2 1 rfl rfl)
theorem dX1_writeRule_50 : decode cX1_writeRule 50 = .ok (.aload_n 2, 1) := dk_44 (dk_at dksX1_writeRule_2 4 rfl rfl)
theorem dX1_writeRule_51 : decode cX1_writeRule 51 = .ok (.getfield 253, 3) := dk_180 0 253 (dk_at dksX1_writeRule_2 5 rfl rfl)
theorem dX1_writeRule_54 : decode cX1_writeRule 54 = .ok (.ifCond .ne 9, 3) := dk_154 0 9 (dk_at dksX1_writeRule_2 8 rfl rfl)
theorem dX1_writeRule_57 : decode cX1_writeRule 57 = .ok (.ldc_w 351, 3) := dk_19 1 95 (dk_at dksX1_writeRule_2 11 rfl rfl)
theorem dX1_writeRule_60 : decode cX1_writeRule 60 = .ok (.goto 6, 3) := dk_167 0 6 (dk_at dksX1_writeRule_2 14 rfl rfl)
theorem dX1_writeRule_63 : decode cX1_writeRule 63 = .ok (.ldc_w 369, 3) := dk_19 1 113 (dk_at dksX1_writeRule_2 17 rfl rfl)
theorem dX1_writeRule_66 : decode cX1_writeRule 66 = .ok (.invokevirtual 343, 3) := dk_182 1 87 (dk_at dksX1_writeRule_2 20 rfl rfl)
theorem dX1_writeRule_69 : decode cX1_writeRule 69 = .ok (.pop, 1) := dk_87 (dk_at dksX1_writeRule_2 23 rfl rfl)
theorem dX1_writeRule_70 : decode cX1_writeRule 70 = .ok (.iconst 0, 1) := dk_3 (dk_at dksX1_writeRule_3 0 rfl rfl)
theorem dX1_writeRule_71 : decode cX1_writeRule 71 = .ok (.istore_n 3, 1) := dk_62 (dk_at dksX1_writeRule_3 1 rfl rfl)
theorem dX1_writeRule_72 : decode cX1_writeRule 72 = .ok (.iload_n 3, 1) := dk_29 (dk_at dksX1_writeRule_3 2 rfl rfl)
theorem dX1_writeRule_73 : decode cX1_writeRule 73 = .ok (.aload_n 0, 1) := dk_42 (dk_at dksX1_writeRule_3 3 rfl rfl)
theorem dX1_writeRule_74 : decode cX1_writeRule 74 = .ok (.getfield 82, 3) := dk_180 0 82 (dk_at dksX1_writeRule_3 4 rfl rfl)
theorem dX1_writeRule_77 : decode cX1_writeRule 77 = .ok (.getfield 118, 3) := dk_180 0 118 (dk_at dksX1_writeRule_3 7 rfl rfl)
theorem dX1_writeRule_80 : decode cX1_writeRule 80 = .ok (.invokevirtual 122, 3) := dk_182 0 122 (dk_at dksX1_writeRule_3 10 rfl rfl)
theorem dX1_writeRule_83 : decode cX1_writeRule 83 = .ok (.if_icmp .ge 31, 3) := dk_162 0 31 (dk_at dksX1_writeRule_3 13 rfl rfl)
theorem dX1_writeRule_86 : decode cX1_writeRule 86 = .ok (.aload_n 2, 1) := dk_44 (dk_at dksX1_writeRule_3 16 rfl rfl)
theorem dX1_writeRule_87 : decode cX1_writeRule 87 = .ok (.iload_n 3, 1) := dk_29 (dk_at dksX1_writeRule_3 17 rfl rfl)
theorem dX1_writeRule_88 : decode cX1_writeRule 88 = .ok (.invokevirtual 229, 3) := dk_182 0 229 (dk_at dksX1_writeRule_3 18 rfl rfl)
theorem dX1_writeRule_91 : decode cX1_writeRule 91 = .ok (.ifCond .eq 17, 3) := dk_153 0 17 (dk_at dksX1_writeRule_3 21 rfl rfl)
theorem dX1_writeRule_94 : decode cX1_writeRule 94 = .ok (.aload_n 0, 1) := dk_42 (dk_at dksX1_writeRule_4 0 rfl rfl)
theorem dX1_writeRule_95 : decode cX1_writeRule 95 = .ok (.getfield 43, 3) := dk_180 0 43 (dk_at dksX1_writeRule_4 1 rfl rfl)
theorem dX1_writeRule_98 : decode cX1_writeRule 98 = .ok (.bipush 32, 2) := dk_16 32 (dk_at dksX1_writeRule_4 4 rfl rfl)
theorem dX1_writeRule_100 : decode cX1_writeRule 100 = .ok (.invokevirtual 148, 3) := dk_182 0 148 (dk_at dksX1_writeRule_4 6 rfl rfl)
theorem dX1_writeRule_103 : decode cX1_writeRule 103 = .ok (.iload_n 3, 1) := dk_29 (dk_at dksX1_writeRule_4 9 rfl rfl)
theorem dX1_writeRule_104 : decode cX1_writeRule 104 = .ok (.invokevirtual 346, 3) := dk_182 1 90 (dk_at dksX1_writeRule_4 10 rfl rfl)
theorem dX1_writeRule_107 : decode cX1_writeRule 107 = .ok (.pop, 1) := dk_87 (dk_at dksX1_writeRule_4 13 rfl rfl)
theorem dX1_writeRule_108 : decode cX1_writeRule 108 = .ok (.iinc 3 1, 3) := dk_132 3 1 (dk_at dksX1_writeRule_4 14 rfl rfl)
theorem dX1_writeRule_111 : decode cX1_writeRule 111 = .ok (.goto (-39), 3) := dk_167 255 217 (dk_at dksX1_writeRule_4 17 rfl rfl)
theorem dX1_writeRule_114 : decode cX1_writeRule 114 = .ok (.aload_n 0, 1) := dk_42 (dk_at dksX1_writeRule_4 20 rfl rfl)
theorem dX1_writeRule_115 : decode cX1_writeRule 115 = .ok (.getfield 43, 3) := dk_180 0 43 (dk_at dksX1_writeRule_4 21 rfl rfl)
theorem dX1_writeRule_118 : decode cX1_writeRule 118 = .ok (.invokevirtual 143, 3) := dk_182 0 143 (dk_at dksX1_writeRule_5 0 rfl rfl)
theorem dX1_writeRule_121 : decode cX1_writeRule 121 = .ok (.ireturn, 1) := dk_172 (dk_at dksX1_writeRule_5 3 rfl rfl)
abbrev cX1_writeParts : ByteArray := prog_1_method_57_code
def yX1_writeParts : MethodName := ⟨RX1, "writeParts", "(LHeirCases$Rule;)V"⟩
def dkwX1_writeParts_4 : List UInt8 := [167, 0, 6, 19, 1, 95, 182, 1, 87, 87, 177]
abbrev dktX1_writeParts_4 : List UInt8 := dkwX1_writeParts_4 ++ []
def dkwX1_writeParts_3 : List UInt8 := [182, 1, 90, 87, 3, 61, 132, 3, 1, 167, 255, 180, 42, 180, 0, 43, 28, 153, 0, 9, 19, 1, 93]
abbrev dktX1_writeParts_3 : List UInt8 := dkwX1_writeParts_3 ++ dktX1_writeParts_4
def dkwX1_writeParts_2 : List UInt8 := [16, 32, 182, 0, 148, 43, 29, 182, 1, 6, 182, 1, 90, 16, 47, 182, 0, 148, 43, 29, 182, 1, 3]
abbrev dktX1_writeParts_2 : List UInt8 := dkwX1_writeParts_2 ++ dktX1_writeParts_3
def dkwX1_writeParts_1 : List UInt8 := [42, 180, 0, 43, 28, 153, 0, 9, 19, 1, 83, 167, 0, 6, 19, 1, 85, 182, 1, 87, 29, 182, 1, 90]
abbrev dktX1_writeParts_1 : List UInt8 := dkwX1_writeParts_1 ++ dktX1_writeParts_2
def dkwX1_writeParts_0 : List UInt8 := [4, 61, 3, 62, 29, 42, 180, 0, 82, 180, 0, 135, 162, 0, 71, 43, 180, 1, 80, 29, 46, 158, 0, 56]
abbrev dktX1_writeParts_0 : List UInt8 := dkwX1_writeParts_0 ++ dktX1_writeParts_1
theorem dksX1_writeParts_0 : cX1_writeParts.data.toList.drop 0 = dktX1_writeParts_0 := by decide +kernel
theorem dksX1_writeParts_1 : cX1_writeParts.data.toList.drop 24 = dktX1_writeParts_1 := dk_seg dksX1_writeParts_0 24 rfl rfl
theorem dksX1_writeParts_2 : cX1_writeParts.data.toList.drop 48 = dktX1_writeParts_2 := dk_seg dksX1_writeParts_1 24 rfl rfl
theorem dksX1_writeParts_3 : cX1_writeParts.data.toList.drop 71 = dktX1_writeParts_3 := dk_seg dksX1_writeParts_2 23 rfl rfl
theorem dksX1_writeParts_4 : cX1_writeParts.data.toList.drop 94 = dktX1_writeParts_4 := dk_seg dksX1_writeParts_3 23 rfl rfl
theorem dX1_writeParts_0 : decode cX1_writeParts 0 = .ok (.iconst 1, 1) := dk_4 (dk_at dksX1_writeParts_0 0 rfl rfl)
theorem dX1_writeParts_1 : decode cX1_writeParts 1 = .ok (.istore_n 2, 1) := dk_61 (dk_at dksX1_writeParts_0 1 rfl rfl)
theorem dX1_writeParts_2 : decode cX1_writeParts 2 = .ok (.iconst 0, 1) := dk_3 (dk_at dksX1_writeParts_0 2 rfl rfl)
theorem dX1_writeParts_3 : decode cX1_writeParts 3 = .ok (.istore_n 3, 1) := dk_62 (dk_at dksX1_writeParts_0 3 rfl rfl)
theorem dX1_writeParts_4 : decode cX1_writeParts 4 = .ok (.iload_n 3, 1) := dk_29 (dk_at dksX1_writeParts_0 4 rfl rfl)
theorem dX1_writeParts_5 : decode cX1_writeParts 5 = .ok (.aload_n 0, 1) := dk_42 (dk_at dksX1_writeParts_0 5 rfl rfl)
theorem dX1_writeParts_6 : decode cX1_writeParts 6 = .ok (.getfield 82, 3) := dk_180 0 82 (dk_at dksX1_writeParts_0 6 rfl rfl)
theorem dX1_writeParts_9 : decode cX1_writeParts 9 = .ok (.getfield 135, 3) := dk_180 0 135 (dk_at dksX1_writeParts_0 9 rfl rfl)
theorem dX1_writeParts_12 : decode cX1_writeParts 12 = .ok (.if_icmp .ge 71, 3) := dk_162 0 71 (dk_at dksX1_writeParts_0 12 rfl rfl)
theorem dX1_writeParts_15 : decode cX1_writeParts 15 = .ok (.aload_n 1, 1) := dk_43 (dk_at dksX1_writeParts_0 15 rfl rfl)
theorem dX1_writeParts_16 : decode cX1_writeParts 16 = .ok (.getfield 336, 3) := dk_180 1 80 (dk_at dksX1_writeParts_0 16 rfl rfl)
theorem dX1_writeParts_19 : decode cX1_writeParts 19 = .ok (.iload_n 3, 1) := dk_29 (dk_at dksX1_writeParts_0 19 rfl rfl)
theorem dX1_writeParts_20 : decode cX1_writeParts 20 = .ok (.iaload, 1) := dk_46 (dk_at dksX1_writeParts_0 20 rfl rfl)
theorem dX1_writeParts_21 : decode cX1_writeParts 21 = .ok (.ifCond .le 56, 3) := dk_158 0 56 (dk_at dksX1_writeParts_0 21 rfl rfl)
theorem dX1_writeParts_24 : decode cX1_writeParts 24 = .ok (.aload_n 0, 1) := dk_42 (dk_at dksX1_writeParts_1 0 rfl rfl)
theorem dX1_writeParts_25 : decode cX1_writeParts 25 = .ok (.getfield 43, 3) := dk_180 0 43 (dk_at dksX1_writeParts_1 1 rfl rfl)
theorem dX1_writeParts_28 : decode cX1_writeParts 28 = .ok (.iload_n 2, 1) := dk_28 (dk_at dksX1_writeParts_1 4 rfl rfl)
theorem dX1_writeParts_29 : decode cX1_writeParts 29 = .ok (.ifCond .eq 9, 3) := dk_153 0 9 (dk_at dksX1_writeParts_1 5 rfl rfl)
theorem dX1_writeParts_32 : decode cX1_writeParts 32 = .ok (.ldc_w 339, 3) := dk_19 1 83 (dk_at dksX1_writeParts_1 8 rfl rfl)
theorem dX1_writeParts_35 : decode cX1_writeParts 35 = .ok (.goto 6, 3) := dk_167 0 6 (dk_at dksX1_writeParts_1 11 rfl rfl)
theorem dX1_writeParts_38 : decode cX1_writeParts 38 = .ok (.ldc_w 341, 3) := dk_19 1 85 (dk_at dksX1_writeParts_1 14 rfl rfl)
theorem dX1_writeParts_41 : decode cX1_writeParts 41 = .ok (.invokevirtual 343, 3) := dk_182 1 87 (dk_at dksX1_writeParts_1 17 rfl rfl)
theorem dX1_writeParts_44 : decode cX1_writeParts 44 = .ok (.iload_n 3, 1) := dk_29 (dk_at dksX1_writeParts_1 20 rfl rfl)
theorem dX1_writeParts_45 : decode cX1_writeParts 45 = .ok (.invokevirtual 346, 3) := dk_182 1 90 (dk_at dksX1_writeParts_1 21 rfl rfl)
theorem dX1_writeParts_48 : decode cX1_writeParts 48 = .ok (.bipush 32, 2) := dk_16 32 (dk_at dksX1_writeParts_2 0 rfl rfl)
theorem dX1_writeParts_50 : decode cX1_writeParts 50 = .ok (.invokevirtual 148, 3) := dk_182 0 148 (dk_at dksX1_writeParts_2 2 rfl rfl)
theorem dX1_writeParts_53 : decode cX1_writeParts 53 = .ok (.aload_n 1, 1) := dk_43 (dk_at dksX1_writeParts_2 5 rfl rfl)
theorem dX1_writeParts_54 : decode cX1_writeParts 54 = .ok (.iload_n 3, 1) := dk_29 (dk_at dksX1_writeParts_2 6 rfl rfl)
theorem dX1_writeParts_55 : decode cX1_writeParts 55 = .ok (.invokevirtual 262, 3) := dk_182 1 6 (dk_at dksX1_writeParts_2 7 rfl rfl)
theorem dX1_writeParts_58 : decode cX1_writeParts 58 = .ok (.invokevirtual 346, 3) := dk_182 1 90 (dk_at dksX1_writeParts_2 10 rfl rfl)
theorem dX1_writeParts_61 : decode cX1_writeParts 61 = .ok (.bipush 47, 2) := dk_16 47 (dk_at dksX1_writeParts_2 13 rfl rfl)
theorem dX1_writeParts_63 : decode cX1_writeParts 63 = .ok (.invokevirtual 148, 3) := dk_182 0 148 (dk_at dksX1_writeParts_2 15 rfl rfl)
theorem dX1_writeParts_66 : decode cX1_writeParts 66 = .ok (.aload_n 1, 1) := dk_43 (dk_at dksX1_writeParts_2 18 rfl rfl)
theorem dX1_writeParts_67 : decode cX1_writeParts 67 = .ok (.iload_n 3, 1) := dk_29 (dk_at dksX1_writeParts_2 19 rfl rfl)
theorem dX1_writeParts_68 : decode cX1_writeParts 68 = .ok (.invokevirtual 259, 3) := dk_182 1 3 (dk_at dksX1_writeParts_2 20 rfl rfl)
theorem dX1_writeParts_71 : decode cX1_writeParts 71 = .ok (.invokevirtual 346, 3) := dk_182 1 90 (dk_at dksX1_writeParts_3 0 rfl rfl)
theorem dX1_writeParts_74 : decode cX1_writeParts 74 = .ok (.pop, 1) := dk_87 (dk_at dksX1_writeParts_3 3 rfl rfl)
theorem dX1_writeParts_75 : decode cX1_writeParts 75 = .ok (.iconst 0, 1) := dk_3 (dk_at dksX1_writeParts_3 4 rfl rfl)
theorem dX1_writeParts_76 : decode cX1_writeParts 76 = .ok (.istore_n 2, 1) := dk_61 (dk_at dksX1_writeParts_3 5 rfl rfl)
theorem dX1_writeParts_77 : decode cX1_writeParts 77 = .ok (.iinc 3 1, 3) := dk_132 3 1 (dk_at dksX1_writeParts_3 6 rfl rfl)
theorem dX1_writeParts_80 : decode cX1_writeParts 80 = .ok (.goto (-76), 3) := dk_167 255 180 (dk_at dksX1_writeParts_3 9 rfl rfl)
theorem dX1_writeParts_83 : decode cX1_writeParts 83 = .ok (.aload_n 0, 1) := dk_42 (dk_at dksX1_writeParts_3 12 rfl rfl)
theorem dX1_writeParts_84 : decode cX1_writeParts 84 = .ok (.getfield 43, 3) := dk_180 0 43 (dk_at dksX1_writeParts_3 13 rfl rfl)
theorem dX1_writeParts_87 : decode cX1_writeParts 87 = .ok (.iload_n 2, 1) := dk_28 (dk_at dksX1_writeParts_3 16 rfl rfl)
theorem dX1_writeParts_88 : decode cX1_writeParts 88 = .ok (.ifCond .eq 9, 3) := dk_153 0 9 (dk_at dksX1_writeParts_3 17 rfl rfl)
theorem dX1_writeParts_91 : decode cX1_writeParts 91 = .ok (.ldc_w 349, 3) := dk_19 1 93 (dk_at dksX1_writeParts_3 20 rfl rfl)
theorem dX1_writeParts_94 : decode cX1_writeParts 94 = .ok (.goto 6, 3) := dk_167 0 6 (dk_at dksX1_writeParts_4 0 rfl rfl)
theorem dX1_writeParts_97 : decode cX1_writeParts 97 = .ok (.ldc_w 351, 3) := dk_19 1 95 (dk_at dksX1_writeParts_4 3 rfl rfl)
theorem dX1_writeParts_100 : decode cX1_writeParts 100 = .ok (.invokevirtual 343, 3) := dk_182 1 87 (dk_at dksX1_writeParts_4 6 rfl rfl)
theorem dX1_writeParts_103 : decode cX1_writeParts 103 = .ok (.pop, 1) := dk_87 (dk_at dksX1_writeParts_4 9 rfl rfl)
theorem dX1_writeParts_104 : decode cX1_writeParts 104 = .ok (.return_, 1) := dk_177 (dk_at dksX1_writeParts_4 10 rfl rfl)
abbrev cX1_addRule : ByteArray := prog_1_method_62_code
def yX1_addRule : MethodName := ⟨RX1, "addRule", "(I)I"⟩
def dkwX1_addRule_5 : List UInt8 := [58, 5, 42, 180, 0, 39, 3, 182, 0, 162, 25, 5, 191]
abbrev dktX1_addRule_5 : List UInt8 := dkwX1_addRule_5 ++ []
def dkwX1_addRule_4 : List UInt8 := [182, 0, 162, 29, 172, 78, 45, 184, 0, 165, 54, 4, 42, 180, 0, 39, 3, 182, 0, 162, 21, 4, 172]
abbrev dktX1_addRule_4 : List UInt8 := dkwX1_addRule_4 ++ dktX1_addRule_5
def dkwX1_addRule_3 : List UInt8 := [42, 44, 181, 0, 82, 42, 180, 0, 82, 180, 0, 118, 182, 0, 122, 4, 100, 62, 42, 180, 0, 39, 3]
abbrev dktX1_addRule_3 : List UInt8 := dkwX1_addRule_3 ++ dktX1_addRule_4
def dkwX1_addRule_2 : List UInt8 := [187, 0, 54, 89, 42, 180, 0, 39, 27, 183, 0, 62, 44, 182, 1, 130, 42, 42, 180, 0, 82, 182, 0, 103]
abbrev dktX1_addRule_2 : List UInt8 := dkwX1_addRule_2 ++ dktX1_addRule_3
def dkwX1_addRule_1 : List UInt8 := [180, 0, 118, 182, 0, 122, 16, 10, 160, 0, 16, 16, 250, 62, 42, 180, 0, 39, 3, 182, 0, 162, 29, 172]
abbrev dktX1_addRule_1 : List UInt8 := dkwX1_addRule_1 ++ dktX1_addRule_2
def dkwX1_addRule_0 : List UInt8 := [27, 3, 42, 180, 0, 39, 182, 0, 143, 184, 0, 158, 42, 180, 0, 82, 182, 0, 100, 77, 42, 180, 0, 82]
abbrev dktX1_addRule_0 : List UInt8 := dkwX1_addRule_0 ++ dktX1_addRule_1
theorem dksX1_addRule_0 : cX1_addRule.data.toList.drop 0 = dktX1_addRule_0 := by decide +kernel
theorem dksX1_addRule_1 : cX1_addRule.data.toList.drop 24 = dktX1_addRule_1 := dk_seg dksX1_addRule_0 24 rfl rfl
theorem dksX1_addRule_2 : cX1_addRule.data.toList.drop 48 = dktX1_addRule_2 := dk_seg dksX1_addRule_1 24 rfl rfl
theorem dksX1_addRule_3 : cX1_addRule.data.toList.drop 72 = dktX1_addRule_3 := dk_seg dksX1_addRule_2 24 rfl rfl
theorem dksX1_addRule_4 : cX1_addRule.data.toList.drop 95 = dktX1_addRule_4 := dk_seg dksX1_addRule_3 23 rfl rfl
theorem dksX1_addRule_5 : cX1_addRule.data.toList.drop 118 = dktX1_addRule_5 := dk_seg dksX1_addRule_4 23 rfl rfl
theorem dX1_addRule_0 : decode cX1_addRule 0 = .ok (.iload_n 1, 1) := dk_27 (dk_at dksX1_addRule_0 0 rfl rfl)
theorem dX1_addRule_1 : decode cX1_addRule 1 = .ok (.iconst 0, 1) := dk_3 (dk_at dksX1_addRule_0 1 rfl rfl)
theorem dX1_addRule_2 : decode cX1_addRule 2 = .ok (.aload_n 0, 1) := dk_42 (dk_at dksX1_addRule_0 2 rfl rfl)
theorem dX1_addRule_3 : decode cX1_addRule 3 = .ok (.getfield 39, 3) := dk_180 0 39 (dk_at dksX1_addRule_0 3 rfl rfl)
theorem dX1_addRule_6 : decode cX1_addRule 6 = .ok (.invokevirtual 143, 3) := dk_182 0 143 (dk_at dksX1_addRule_0 6 rfl rfl)
theorem dX1_addRule_9 : decode cX1_addRule 9 = .ok (.invokestatic 158, 3) := dk_184 0 158 (dk_at dksX1_addRule_0 9 rfl rfl)
theorem dX1_addRule_12 : decode cX1_addRule 12 = .ok (.aload_n 0, 1) := dk_42 (dk_at dksX1_addRule_0 12 rfl rfl)
theorem dX1_addRule_13 : decode cX1_addRule 13 = .ok (.getfield 82, 3) := dk_180 0 82 (dk_at dksX1_addRule_0 13 rfl rfl)
theorem dX1_addRule_16 : decode cX1_addRule 16 = .ok (.invokevirtual 100, 3) := dk_182 0 100 (dk_at dksX1_addRule_0 16 rfl rfl)
theorem dX1_addRule_19 : decode cX1_addRule 19 = .ok (.astore_n 2, 1) := dk_77 (dk_at dksX1_addRule_0 19 rfl rfl)
theorem dX1_addRule_20 : decode cX1_addRule 20 = .ok (.aload_n 0, 1) := dk_42 (dk_at dksX1_addRule_0 20 rfl rfl)
theorem dX1_addRule_21 : decode cX1_addRule 21 = .ok (.getfield 82, 3) := dk_180 0 82 (dk_at dksX1_addRule_0 21 rfl rfl)
theorem dX1_addRule_24 : decode cX1_addRule 24 = .ok (.getfield 118, 3) := dk_180 0 118 (dk_at dksX1_addRule_1 0 rfl rfl)
theorem dX1_addRule_27 : decode cX1_addRule 27 = .ok (.invokevirtual 122, 3) := dk_182 0 122 (dk_at dksX1_addRule_1 3 rfl rfl)
theorem dX1_addRule_30 : decode cX1_addRule 30 = .ok (.bipush 10, 2) := dk_16 10 (dk_at dksX1_addRule_1 6 rfl rfl)
theorem dX1_addRule_32 : decode cX1_addRule 32 = .ok (.if_icmp .ne 16, 3) := dk_160 0 16 (dk_at dksX1_addRule_1 8 rfl rfl)
theorem dX1_addRule_35 : decode cX1_addRule 35 = .ok (.bipush (-6), 2) := dk_16 250 (dk_at dksX1_addRule_1 11 rfl rfl)
theorem dX1_addRule_37 : decode cX1_addRule 37 = .ok (.istore_n 3, 1) := dk_62 (dk_at dksX1_addRule_1 13 rfl rfl)
theorem dX1_addRule_38 : decode cX1_addRule 38 = .ok (.aload_n 0, 1) := dk_42 (dk_at dksX1_addRule_1 14 rfl rfl)
theorem dX1_addRule_39 : decode cX1_addRule 39 = .ok (.getfield 39, 3) := dk_180 0 39 (dk_at dksX1_addRule_1 15 rfl rfl)
theorem dX1_addRule_42 : decode cX1_addRule 42 = .ok (.iconst 0, 1) := dk_3 (dk_at dksX1_addRule_1 18 rfl rfl)
theorem dX1_addRule_43 : decode cX1_addRule 43 = .ok (.invokevirtual 162, 3) := dk_182 0 162 (dk_at dksX1_addRule_1 19 rfl rfl)
theorem dX1_addRule_46 : decode cX1_addRule 46 = .ok (.iload_n 3, 1) := dk_29 (dk_at dksX1_addRule_1 22 rfl rfl)
theorem dX1_addRule_47 : decode cX1_addRule 47 = .ok (.ireturn, 1) := dk_172 (dk_at dksX1_addRule_1 23 rfl rfl)
theorem dX1_addRule_48 : decode cX1_addRule 48 = .ok (.new 54, 3) := dk_187 0 54 (dk_at dksX1_addRule_2 0 rfl rfl)
theorem dX1_addRule_51 : decode cX1_addRule 51 = .ok (.dup, 1) := dk_89 (dk_at dksX1_addRule_2 3 rfl rfl)
theorem dX1_addRule_52 : decode cX1_addRule 52 = .ok (.aload_n 0, 1) := dk_42 (dk_at dksX1_addRule_2 4 rfl rfl)
theorem dX1_addRule_53 : decode cX1_addRule 53 = .ok (.getfield 39, 3) := dk_180 0 39 (dk_at dksX1_addRule_2 5 rfl rfl)
theorem dX1_addRule_56 : decode cX1_addRule 56 = .ok (.iload_n 1, 1) := dk_27 (dk_at dksX1_addRule_2 8 rfl rfl)
theorem dX1_addRule_57 : decode cX1_addRule 57 = .ok (.invokespecial 62, 3) := dk_183 0 62 (dk_at dksX1_addRule_2 9 rfl rfl)
theorem dX1_addRule_60 : decode cX1_addRule 60 = .ok (.aload_n 2, 1) := dk_44 (dk_at dksX1_addRule_2 12 rfl rfl)
theorem dX1_addRule_61 : decode cX1_addRule 61 = .ok (.invokevirtual 386, 3) := dk_182 1 130 (dk_at dksX1_addRule_2 13 rfl rfl)
theorem dX1_addRule_64 : decode cX1_addRule 64 = .ok (.aload_n 0, 1) := dk_42 (dk_at dksX1_addRule_2 16 rfl rfl)
theorem dX1_addRule_65 : decode cX1_addRule 65 = .ok (.aload_n 0, 1) := dk_42 (dk_at dksX1_addRule_2 17 rfl rfl)
theorem dX1_addRule_66 : decode cX1_addRule 66 = .ok (.getfield 82, 3) := dk_180 0 82 (dk_at dksX1_addRule_2 18 rfl rfl)
theorem dX1_addRule_69 : decode cX1_addRule 69 = .ok (.invokevirtual 103, 3) := dk_182 0 103 (dk_at dksX1_addRule_2 21 rfl rfl)
theorem dX1_addRule_72 : decode cX1_addRule 72 = .ok (.aload_n 0, 1) := dk_42 (dk_at dksX1_addRule_3 0 rfl rfl)
theorem dX1_addRule_73 : decode cX1_addRule 73 = .ok (.aload_n 2, 1) := dk_44 (dk_at dksX1_addRule_3 1 rfl rfl)
theorem dX1_addRule_74 : decode cX1_addRule 74 = .ok (.putfield 82, 3) := dk_181 0 82 (dk_at dksX1_addRule_3 2 rfl rfl)
theorem dX1_addRule_77 : decode cX1_addRule 77 = .ok (.aload_n 0, 1) := dk_42 (dk_at dksX1_addRule_3 5 rfl rfl)
theorem dX1_addRule_78 : decode cX1_addRule 78 = .ok (.getfield 82, 3) := dk_180 0 82 (dk_at dksX1_addRule_3 6 rfl rfl)
theorem dX1_addRule_81 : decode cX1_addRule 81 = .ok (.getfield 118, 3) := dk_180 0 118 (dk_at dksX1_addRule_3 9 rfl rfl)
theorem dX1_addRule_84 : decode cX1_addRule 84 = .ok (.invokevirtual 122, 3) := dk_182 0 122 (dk_at dksX1_addRule_3 12 rfl rfl)
theorem dX1_addRule_87 : decode cX1_addRule 87 = .ok (.iconst 1, 1) := dk_4 (dk_at dksX1_addRule_3 15 rfl rfl)
theorem dX1_addRule_88 : decode cX1_addRule 88 = .ok (.isub, 1) := dk_100 (dk_at dksX1_addRule_3 16 rfl rfl)
theorem dX1_addRule_89 : decode cX1_addRule 89 = .ok (.istore_n 3, 1) := dk_62 (dk_at dksX1_addRule_3 17 rfl rfl)
theorem dX1_addRule_90 : decode cX1_addRule 90 = .ok (.aload_n 0, 1) := dk_42 (dk_at dksX1_addRule_3 18 rfl rfl)
theorem dX1_addRule_91 : decode cX1_addRule 91 = .ok (.getfield 39, 3) := dk_180 0 39 (dk_at dksX1_addRule_3 19 rfl rfl)
theorem dX1_addRule_94 : decode cX1_addRule 94 = .ok (.iconst 0, 1) := dk_3 (dk_at dksX1_addRule_3 22 rfl rfl)
theorem dX1_addRule_95 : decode cX1_addRule 95 = .ok (.invokevirtual 162, 3) := dk_182 0 162 (dk_at dksX1_addRule_4 0 rfl rfl)
theorem dX1_addRule_98 : decode cX1_addRule 98 = .ok (.iload_n 3, 1) := dk_29 (dk_at dksX1_addRule_4 3 rfl rfl)
theorem dX1_addRule_99 : decode cX1_addRule 99 = .ok (.ireturn, 1) := dk_172 (dk_at dksX1_addRule_4 4 rfl rfl)
theorem dX1_addRule_100 : decode cX1_addRule 100 = .ok (.astore_n 3, 1) := dk_78 (dk_at dksX1_addRule_4 5 rfl rfl)
theorem dX1_addRule_101 : decode cX1_addRule 101 = .ok (.aload_n 3, 1) := dk_45 (dk_at dksX1_addRule_4 6 rfl rfl)
theorem dX1_addRule_102 : decode cX1_addRule 102 = .ok (.invokestatic 165, 3) := dk_184 0 165 (dk_at dksX1_addRule_4 7 rfl rfl)
theorem dX1_addRule_105 : decode cX1_addRule 105 = .ok (.istore 4, 2) := dk_54 4 (dk_at dksX1_addRule_4 10 rfl rfl)
theorem dX1_addRule_107 : decode cX1_addRule 107 = .ok (.aload_n 0, 1) := dk_42 (dk_at dksX1_addRule_4 12 rfl rfl)
theorem dX1_addRule_108 : decode cX1_addRule 108 = .ok (.getfield 39, 3) := dk_180 0 39 (dk_at dksX1_addRule_4 13 rfl rfl)
theorem dX1_addRule_111 : decode cX1_addRule 111 = .ok (.iconst 0, 1) := dk_3 (dk_at dksX1_addRule_4 16 rfl rfl)
theorem dX1_addRule_112 : decode cX1_addRule 112 = .ok (.invokevirtual 162, 3) := dk_182 0 162 (dk_at dksX1_addRule_4 17 rfl rfl)
theorem dX1_addRule_115 : decode cX1_addRule 115 = .ok (.iload 4, 2) := dk_21 4 (dk_at dksX1_addRule_4 20 rfl rfl)
theorem dX1_addRule_117 : decode cX1_addRule 117 = .ok (.ireturn, 1) := dk_172 (dk_at dksX1_addRule_4 22 rfl rfl)
theorem dX1_addRule_118 : decode cX1_addRule 118 = .ok (.astore 5, 2) := dk_58 5 (dk_at dksX1_addRule_5 0 rfl rfl)
theorem dX1_addRule_120 : decode cX1_addRule 120 = .ok (.aload_n 0, 1) := dk_42 (dk_at dksX1_addRule_5 2 rfl rfl)
theorem dX1_addRule_121 : decode cX1_addRule 121 = .ok (.getfield 39, 3) := dk_180 0 39 (dk_at dksX1_addRule_5 3 rfl rfl)
theorem dX1_addRule_124 : decode cX1_addRule 124 = .ok (.iconst 0, 1) := dk_3 (dk_at dksX1_addRule_5 6 rfl rfl)
theorem dX1_addRule_125 : decode cX1_addRule 125 = .ok (.invokevirtual 162, 3) := dk_182 0 162 (dk_at dksX1_addRule_5 7 rfl rfl)
theorem dX1_addRule_128 : decode cX1_addRule 128 = .ok (.aload 5, 2) := dk_25 5 (dk_at dksX1_addRule_5 10 rfl rfl)
theorem dX1_addRule_130 : decode cX1_addRule 130 = .ok (.athrow, 1) := dk_191 (dk_at dksX1_addRule_5 12 rfl rfl)
abbrev cX1_keep : ByteArray := prog_1_method_8_code
def yX1_keep : MethodName := ⟨RX1, "keep", "(LHeirCases$Will;)V"⟩
def dkwX1_keep_1 : List UInt8 := [182, 0, 96, 87, 177]
abbrev dktX1_keep_1 : List UInt8 := dkwX1_keep_1 ++ []
def dkwX1_keep_0 : List UInt8 := [42, 180, 0, 24, 43, 182, 0, 89, 42, 180, 0, 24, 182, 0, 93, 16, 8, 164, 0, 11, 42, 180, 0, 24]
abbrev dktX1_keep_0 : List UInt8 := dkwX1_keep_0 ++ dktX1_keep_1
theorem dksX1_keep_0 : cX1_keep.data.toList.drop 0 = dktX1_keep_0 := by decide +kernel
theorem dksX1_keep_1 : cX1_keep.data.toList.drop 24 = dktX1_keep_1 := dk_seg dksX1_keep_0 24 rfl rfl
theorem dX1_keep_0 : decode cX1_keep 0 = .ok (.aload_n 0, 1) := dk_42 (dk_at dksX1_keep_0 0 rfl rfl)
theorem dX1_keep_1 : decode cX1_keep 1 = .ok (.getfield 24, 3) := dk_180 0 24 (dk_at dksX1_keep_0 1 rfl rfl)
theorem dX1_keep_4 : decode cX1_keep 4 = .ok (.aload_n 1, 1) := dk_43 (dk_at dksX1_keep_0 4 rfl rfl)
theorem dX1_keep_5 : decode cX1_keep 5 = .ok (.invokevirtual 89, 3) := dk_182 0 89 (dk_at dksX1_keep_0 5 rfl rfl)
theorem dX1_keep_8 : decode cX1_keep 8 = .ok (.aload_n 0, 1) := dk_42 (dk_at dksX1_keep_0 8 rfl rfl)
theorem dX1_keep_9 : decode cX1_keep 9 = .ok (.getfield 24, 3) := dk_180 0 24 (dk_at dksX1_keep_0 9 rfl rfl)
theorem dX1_keep_12 : decode cX1_keep 12 = .ok (.invokevirtual 93, 3) := dk_182 0 93 (dk_at dksX1_keep_0 12 rfl rfl)
theorem dX1_keep_15 : decode cX1_keep 15 = .ok (.bipush 8, 2) := dk_16 8 (dk_at dksX1_keep_0 15 rfl rfl)
theorem dX1_keep_17 : decode cX1_keep 17 = .ok (.if_icmp .le 11, 3) := dk_164 0 11 (dk_at dksX1_keep_0 17 rfl rfl)
theorem dX1_keep_20 : decode cX1_keep 20 = .ok (.aload_n 0, 1) := dk_42 (dk_at dksX1_keep_0 20 rfl rfl)
theorem dX1_keep_21 : decode cX1_keep 21 = .ok (.getfield 24, 3) := dk_180 0 24 (dk_at dksX1_keep_0 21 rfl rfl)
theorem dX1_keep_24 : decode cX1_keep 24 = .ok (.invokevirtual 96, 3) := dk_182 0 96 (dk_at dksX1_keep_1 0 rfl rfl)
theorem dX1_keep_27 : decode cX1_keep 27 = .ok (.pop, 1) := dk_87 (dk_at dksX1_keep_1 3 rfl rfl)
theorem dX1_keep_28 : decode cX1_keep 28 = .ok (.return_, 1) := dk_177 (dk_at dksX1_keep_1 4 rfl rfl)
abbrev cX1_dropRule : ByteArray := prog_1_method_63_code
def yX1_dropRule : MethodName := ⟨RX1, "dropRule", "(I)I"⟩
def dkwX1_dropRule_1 : List UInt8 := [180, 0, 118, 182, 0, 122, 172]
abbrev dktX1_dropRule_1 : List UInt8 := dkwX1_dropRule_1 ++ []
def dkwX1_dropRule_0 : List UInt8 := [42, 27, 182, 0, 239, 87, 42, 182, 1, 133, 42, 180, 0, 82, 27, 182, 1, 136, 42, 180, 0, 82]
abbrev dktX1_dropRule_0 : List UInt8 := dkwX1_dropRule_0 ++ dktX1_dropRule_1
theorem dksX1_dropRule_0 : cX1_dropRule.data.toList.drop 0 = dktX1_dropRule_0 := by decide +kernel
theorem dksX1_dropRule_1 : cX1_dropRule.data.toList.drop 22 = dktX1_dropRule_1 := dk_seg dksX1_dropRule_0 22 rfl rfl
theorem dX1_dropRule_0 : decode cX1_dropRule 0 = .ok (.aload_n 0, 1) := dk_42 (dk_at dksX1_dropRule_0 0 rfl rfl)
theorem dX1_dropRule_1 : decode cX1_dropRule 1 = .ok (.iload_n 1, 1) := dk_27 (dk_at dksX1_dropRule_0 1 rfl rfl)
theorem dX1_dropRule_2 : decode cX1_dropRule 2 = .ok (.invokevirtual 239, 3) := dk_182 0 239 (dk_at dksX1_dropRule_0 2 rfl rfl)
theorem dX1_dropRule_5 : decode cX1_dropRule 5 = .ok (.pop, 1) := dk_87 (dk_at dksX1_dropRule_0 5 rfl rfl)
theorem dX1_dropRule_6 : decode cX1_dropRule 6 = .ok (.aload_n 0, 1) := dk_42 (dk_at dksX1_dropRule_0 6 rfl rfl)
theorem dX1_dropRule_7 : decode cX1_dropRule 7 = .ok (.invokevirtual 389, 3) := dk_182 1 133 (dk_at dksX1_dropRule_0 7 rfl rfl)
theorem dX1_dropRule_10 : decode cX1_dropRule 10 = .ok (.aload_n 0, 1) := dk_42 (dk_at dksX1_dropRule_0 10 rfl rfl)
theorem dX1_dropRule_11 : decode cX1_dropRule 11 = .ok (.getfield 82, 3) := dk_180 0 82 (dk_at dksX1_dropRule_0 11 rfl rfl)
theorem dX1_dropRule_14 : decode cX1_dropRule 14 = .ok (.iload_n 1, 1) := dk_27 (dk_at dksX1_dropRule_0 14 rfl rfl)
theorem dX1_dropRule_15 : decode cX1_dropRule 15 = .ok (.invokevirtual 392, 3) := dk_182 1 136 (dk_at dksX1_dropRule_0 15 rfl rfl)
theorem dX1_dropRule_18 : decode cX1_dropRule 18 = .ok (.aload_n 0, 1) := dk_42 (dk_at dksX1_dropRule_0 18 rfl rfl)
theorem dX1_dropRule_19 : decode cX1_dropRule 19 = .ok (.getfield 82, 3) := dk_180 0 82 (dk_at dksX1_dropRule_0 19 rfl rfl)
theorem dX1_dropRule_22 : decode cX1_dropRule 22 = .ok (.getfield 118, 3) := dk_180 0 118 (dk_at dksX1_dropRule_1 0 rfl rfl)
theorem dX1_dropRule_25 : decode cX1_dropRule 25 = .ok (.invokevirtual 122, 3) := dk_182 0 122 (dk_at dksX1_dropRule_1 3 rfl rfl)
theorem dX1_dropRule_28 : decode cX1_dropRule 28 = .ok (.ireturn, 1) := dk_172 (dk_at dksX1_dropRule_1 6 rfl rfl)
abbrev cX1_remember : ByteArray := prog_1_method_9_code
def yX1_remember : MethodName := ⟨RX1, "remember", "()V"⟩
def dkwX1_remember_0 : List UInt8 := [42, 42, 180, 0, 82, 182, 0, 100, 182, 0, 103, 177]
abbrev dktX1_remember_0 : List UInt8 := dkwX1_remember_0 ++ []
theorem dksX1_remember_0 : cX1_remember.data.toList.drop 0 = dktX1_remember_0 := by decide +kernel
theorem dX1_remember_0 : decode cX1_remember 0 = .ok (.aload_n 0, 1) := dk_42 (dk_at dksX1_remember_0 0 rfl rfl)
theorem dX1_remember_1 : decode cX1_remember 1 = .ok (.aload_n 0, 1) := dk_42 (dk_at dksX1_remember_0 1 rfl rfl)
theorem dX1_remember_2 : decode cX1_remember 2 = .ok (.getfield 82, 3) := dk_180 0 82 (dk_at dksX1_remember_0 2 rfl rfl)
theorem dX1_remember_5 : decode cX1_remember 5 = .ok (.invokevirtual 100, 3) := dk_182 0 100 (dk_at dksX1_remember_0 5 rfl rfl)
theorem dX1_remember_8 : decode cX1_remember 8 = .ok (.invokevirtual 103, 3) := dk_182 0 103 (dk_at dksX1_remember_0 8 rfl rfl)
theorem dX1_remember_11 : decode cX1_remember 11 = .ok (.return_, 1) := dk_177 (dk_at dksX1_remember_0 11 rfl rfl)
abbrev cX1_setOver : ByteArray := prog_1_method_64_code
def yX1_setOver : MethodName := ⟨RX1, "setOver", "(IIZ)I"⟩
def dkwX1_setOver_2 : List UInt8 := [28, 120, 2, 130, 126, 181, 0, 253, 42, 180, 0, 82, 182, 1, 139, 25, 4, 180, 0, 253, 184, 1, 19, 172]
abbrev dktX1_setOver_2 : List UInt8 := dkwX1_setOver_2 ++ []
def dkwX1_setOver_1 : List UInt8 := [25, 4, 29, 153, 0, 15, 25, 4, 180, 0, 253, 4, 28, 120, 128, 167, 0, 14, 25, 4, 180, 0, 253, 4]
abbrev dktX1_setOver_1 : List UInt8 := dkwX1_setOver_1 ++ dktX1_setOver_2
def dkwX1_setOver_0 : List UInt8 := [42, 27, 182, 0, 239, 58, 4, 42, 28, 182, 0, 239, 87, 27, 28, 160, 0, 5, 2, 172, 42, 182, 1, 133]
abbrev dktX1_setOver_0 : List UInt8 := dkwX1_setOver_0 ++ dktX1_setOver_1
theorem dksX1_setOver_0 : cX1_setOver.data.toList.drop 0 = dktX1_setOver_0 := by decide +kernel
theorem dksX1_setOver_1 : cX1_setOver.data.toList.drop 24 = dktX1_setOver_1 := dk_seg dksX1_setOver_0 24 rfl rfl
theorem dksX1_setOver_2 : cX1_setOver.data.toList.drop 48 = dktX1_setOver_2 := dk_seg dksX1_setOver_1 24 rfl rfl
theorem dX1_setOver_0 : decode cX1_setOver 0 = .ok (.aload_n 0, 1) := dk_42 (dk_at dksX1_setOver_0 0 rfl rfl)
theorem dX1_setOver_1 : decode cX1_setOver 1 = .ok (.iload_n 1, 1) := dk_27 (dk_at dksX1_setOver_0 1 rfl rfl)
theorem dX1_setOver_2 : decode cX1_setOver 2 = .ok (.invokevirtual 239, 3) := dk_182 0 239 (dk_at dksX1_setOver_0 2 rfl rfl)
theorem dX1_setOver_5 : decode cX1_setOver 5 = .ok (.astore 4, 2) := dk_58 4 (dk_at dksX1_setOver_0 5 rfl rfl)
theorem dX1_setOver_7 : decode cX1_setOver 7 = .ok (.aload_n 0, 1) := dk_42 (dk_at dksX1_setOver_0 7 rfl rfl)
theorem dX1_setOver_8 : decode cX1_setOver 8 = .ok (.iload_n 2, 1) := dk_28 (dk_at dksX1_setOver_0 8 rfl rfl)
theorem dX1_setOver_9 : decode cX1_setOver 9 = .ok (.invokevirtual 239, 3) := dk_182 0 239 (dk_at dksX1_setOver_0 9 rfl rfl)
theorem dX1_setOver_12 : decode cX1_setOver 12 = .ok (.pop, 1) := dk_87 (dk_at dksX1_setOver_0 12 rfl rfl)
theorem dX1_setOver_13 : decode cX1_setOver 13 = .ok (.iload_n 1, 1) := dk_27 (dk_at dksX1_setOver_0 13 rfl rfl)
theorem dX1_setOver_14 : decode cX1_setOver 14 = .ok (.iload_n 2, 1) := dk_28 (dk_at dksX1_setOver_0 14 rfl rfl)
theorem dX1_setOver_15 : decode cX1_setOver 15 = .ok (.if_icmp .ne 5, 3) := dk_160 0 5 (dk_at dksX1_setOver_0 15 rfl rfl)
theorem dX1_setOver_18 : decode cX1_setOver 18 = .ok (.iconst (-1), 1) := dk_2 (dk_at dksX1_setOver_0 18 rfl rfl)
theorem dX1_setOver_19 : decode cX1_setOver 19 = .ok (.ireturn, 1) := dk_172 (dk_at dksX1_setOver_0 19 rfl rfl)
theorem dX1_setOver_20 : decode cX1_setOver 20 = .ok (.aload_n 0, 1) := dk_42 (dk_at dksX1_setOver_0 20 rfl rfl)
theorem dX1_setOver_21 : decode cX1_setOver 21 = .ok (.invokevirtual 389, 3) := dk_182 1 133 (dk_at dksX1_setOver_0 21 rfl rfl)
theorem dX1_setOver_24 : decode cX1_setOver 24 = .ok (.aload 4, 2) := dk_25 4 (dk_at dksX1_setOver_1 0 rfl rfl)
theorem dX1_setOver_26 : decode cX1_setOver 26 = .ok (.iload_n 3, 1) := dk_29 (dk_at dksX1_setOver_1 2 rfl rfl)
theorem dX1_setOver_27 : decode cX1_setOver 27 = .ok (.ifCond .eq 15, 3) := dk_153 0 15 (dk_at dksX1_setOver_1 3 rfl rfl)
theorem dX1_setOver_30 : decode cX1_setOver 30 = .ok (.aload 4, 2) := dk_25 4 (dk_at dksX1_setOver_1 6 rfl rfl)
theorem dX1_setOver_32 : decode cX1_setOver 32 = .ok (.getfield 253, 3) := dk_180 0 253 (dk_at dksX1_setOver_1 8 rfl rfl)
theorem dX1_setOver_35 : decode cX1_setOver 35 = .ok (.iconst 1, 1) := dk_4 (dk_at dksX1_setOver_1 11 rfl rfl)
theorem dX1_setOver_36 : decode cX1_setOver 36 = .ok (.iload_n 2, 1) := dk_28 (dk_at dksX1_setOver_1 12 rfl rfl)
theorem dX1_setOver_37 : decode cX1_setOver 37 = .ok (.ishl, 1) := dk_120 (dk_at dksX1_setOver_1 13 rfl rfl)
theorem dX1_setOver_38 : decode cX1_setOver 38 = .ok (.ior, 1) := dk_128 (dk_at dksX1_setOver_1 14 rfl rfl)
theorem dX1_setOver_39 : decode cX1_setOver 39 = .ok (.goto 14, 3) := dk_167 0 14 (dk_at dksX1_setOver_1 15 rfl rfl)
theorem dX1_setOver_42 : decode cX1_setOver 42 = .ok (.aload 4, 2) := dk_25 4 (dk_at dksX1_setOver_1 18 rfl rfl)
theorem dX1_setOver_44 : decode cX1_setOver 44 = .ok (.getfield 253, 3) := dk_180 0 253 (dk_at dksX1_setOver_1 20 rfl rfl)
theorem dX1_setOver_47 : decode cX1_setOver 47 = .ok (.iconst 1, 1) := dk_4 (dk_at dksX1_setOver_1 23 rfl rfl)
theorem dX1_setOver_48 : decode cX1_setOver 48 = .ok (.iload_n 2, 1) := dk_28 (dk_at dksX1_setOver_2 0 rfl rfl)
theorem dX1_setOver_49 : decode cX1_setOver 49 = .ok (.ishl, 1) := dk_120 (dk_at dksX1_setOver_2 1 rfl rfl)
theorem dX1_setOver_50 : decode cX1_setOver 50 = .ok (.iconst (-1), 1) := dk_2 (dk_at dksX1_setOver_2 2 rfl rfl)
theorem dX1_setOver_51 : decode cX1_setOver 51 = .ok (.ixor, 1) := dk_130 (dk_at dksX1_setOver_2 3 rfl rfl)
theorem dX1_setOver_52 : decode cX1_setOver 52 = .ok (.iand, 1) := dk_126 (dk_at dksX1_setOver_2 4 rfl rfl)
theorem dX1_setOver_53 : decode cX1_setOver 53 = .ok (.putfield 253, 3) := dk_181 0 253 (dk_at dksX1_setOver_2 5 rfl rfl)
theorem dX1_setOver_56 : decode cX1_setOver 56 = .ok (.aload_n 0, 1) := dk_42 (dk_at dksX1_setOver_2 8 rfl rfl)
theorem dX1_setOver_57 : decode cX1_setOver 57 = .ok (.getfield 82, 3) := dk_180 0 82 (dk_at dksX1_setOver_2 9 rfl rfl)
theorem dX1_setOver_60 : decode cX1_setOver 60 = .ok (.invokevirtual 395, 3) := dk_182 1 139 (dk_at dksX1_setOver_2 12 rfl rfl)
theorem dX1_setOver_63 : decode cX1_setOver 63 = .ok (.aload 4, 2) := dk_25 4 (dk_at dksX1_setOver_2 15 rfl rfl)
theorem dX1_setOver_65 : decode cX1_setOver 65 = .ok (.getfield 253, 3) := dk_180 0 253 (dk_at dksX1_setOver_2 17 rfl rfl)
theorem dX1_setOver_68 : decode cX1_setOver 68 = .ok (.invokestatic 275, 3) := dk_184 1 19 (dk_at dksX1_setOver_2 20 rfl rfl)
theorem dX1_setOver_71 : decode cX1_setOver 71 = .ok (.ireturn, 1) := dk_172 (dk_at dksX1_setOver_2 23 rfl rfl)
abbrev cX1_setShare : ByteArray := prog_1_method_65_code
def yX1_setShare : MethodName := ⟨RX1, "setShare", "(IIII)I"⟩
def dkwX1_setShare_4 : List UInt8 := [167, 0, 4, 3, 96, 54, 7, 132, 8, 1, 167, 255, 220, 21, 7, 172]
abbrev dktX1_setShare_4 : List UInt8 := dkwX1_setShare_4 ++ []
def dkwX1_setShare_3 : List UInt8 := [180, 0, 82, 180, 0, 135, 162, 0, 30, 21, 7, 25, 5, 180, 1, 80, 21, 8, 46, 158, 0, 7, 4]
abbrev dktX1_setShare_3 : List UInt8 := dkwX1_setShare_3 ++ dktX1_setShare_4
def dkwX1_setShare_2 : List UInt8 := [182, 1, 142, 154, 0, 5, 2, 172, 42, 25, 6, 182, 0, 103, 3, 54, 7, 3, 54, 8, 21, 8, 42]
abbrev dktX1_setShare_2 : List UInt8 := dkwX1_setShare_2 ++ dktX1_setShare_3
def dkwX1_setShare_1 : List UInt8 := [184, 0, 158, 42, 180, 0, 82, 182, 0, 100, 58, 6, 42, 180, 0, 82, 25, 5, 28, 29, 21, 4]
abbrev dktX1_setShare_1 : List UInt8 := dkwX1_setShare_1 ++ dktX1_setShare_2
def dkwX1_setShare_0 : List UInt8 := [42, 27, 182, 0, 239, 58, 5, 42, 28, 182, 0, 205, 29, 3, 16, 12, 184, 0, 158, 21, 4, 4, 16, 12]
abbrev dktX1_setShare_0 : List UInt8 := dkwX1_setShare_0 ++ dktX1_setShare_1
theorem dksX1_setShare_0 : cX1_setShare.data.toList.drop 0 = dktX1_setShare_0 := by decide +kernel
theorem dksX1_setShare_1 : cX1_setShare.data.toList.drop 24 = dktX1_setShare_1 := dk_seg dksX1_setShare_0 24 rfl rfl
theorem dksX1_setShare_2 : cX1_setShare.data.toList.drop 46 = dktX1_setShare_2 := dk_seg dksX1_setShare_1 22 rfl rfl
theorem dksX1_setShare_3 : cX1_setShare.data.toList.drop 69 = dktX1_setShare_3 := dk_seg dksX1_setShare_2 23 rfl rfl
theorem dksX1_setShare_4 : cX1_setShare.data.toList.drop 92 = dktX1_setShare_4 := dk_seg dksX1_setShare_3 23 rfl rfl
theorem dX1_setShare_0 : decode cX1_setShare 0 = .ok (.aload_n 0, 1) := dk_42 (dk_at dksX1_setShare_0 0 rfl rfl)
theorem dX1_setShare_1 : decode cX1_setShare 1 = .ok (.iload_n 1, 1) := dk_27 (dk_at dksX1_setShare_0 1 rfl rfl)
theorem dX1_setShare_2 : decode cX1_setShare 2 = .ok (.invokevirtual 239, 3) := dk_182 0 239 (dk_at dksX1_setShare_0 2 rfl rfl)
theorem dX1_setShare_5 : decode cX1_setShare 5 = .ok (.astore 5, 2) := dk_58 5 (dk_at dksX1_setShare_0 5 rfl rfl)
theorem dX1_setShare_7 : decode cX1_setShare 7 = .ok (.aload_n 0, 1) := dk_42 (dk_at dksX1_setShare_0 7 rfl rfl)
theorem dX1_setShare_8 : decode cX1_setShare 8 = .ok (.iload_n 2, 1) := dk_28 (dk_at dksX1_setShare_0 8 rfl rfl)
theorem dX1_setShare_9 : decode cX1_setShare 9 = .ok (.invokevirtual 205, 3) := dk_182 0 205 (dk_at dksX1_setShare_0 9 rfl rfl)
theorem dX1_setShare_12 : decode cX1_setShare 12 = .ok (.iload_n 3, 1) := dk_29 (dk_at dksX1_setShare_0 12 rfl rfl)
theorem dX1_setShare_13 : decode cX1_setShare 13 = .ok (.iconst 0, 1) := dk_3 (dk_at dksX1_setShare_0 13 rfl rfl)
theorem dX1_setShare_14 : decode cX1_setShare 14 = .ok (.bipush 12, 2) := dk_16 12 (dk_at dksX1_setShare_0 14 rfl rfl)
theorem dX1_setShare_16 : decode cX1_setShare 16 = .ok (.invokestatic 158, 3) := dk_184 0 158 (dk_at dksX1_setShare_0 16 rfl rfl)
theorem dX1_setShare_19 : decode cX1_setShare 19 = .ok (.iload 4, 2) := dk_21 4 (dk_at dksX1_setShare_0 19 rfl rfl)
theorem dX1_setShare_21 : decode cX1_setShare 21 = .ok (.iconst 1, 1) := dk_4 (dk_at dksX1_setShare_0 21 rfl rfl)
theorem dX1_setShare_22 : decode cX1_setShare 22 = .ok (.bipush 12, 2) := dk_16 12 (dk_at dksX1_setShare_0 22 rfl rfl)
theorem dX1_setShare_24 : decode cX1_setShare 24 = .ok (.invokestatic 158, 3) := dk_184 0 158 (dk_at dksX1_setShare_1 0 rfl rfl)
theorem dX1_setShare_27 : decode cX1_setShare 27 = .ok (.aload_n 0, 1) := dk_42 (dk_at dksX1_setShare_1 3 rfl rfl)
theorem dX1_setShare_28 : decode cX1_setShare 28 = .ok (.getfield 82, 3) := dk_180 0 82 (dk_at dksX1_setShare_1 4 rfl rfl)
theorem dX1_setShare_31 : decode cX1_setShare 31 = .ok (.invokevirtual 100, 3) := dk_182 0 100 (dk_at dksX1_setShare_1 7 rfl rfl)
theorem dX1_setShare_34 : decode cX1_setShare 34 = .ok (.astore 6, 2) := dk_58 6 (dk_at dksX1_setShare_1 10 rfl rfl)
theorem dX1_setShare_36 : decode cX1_setShare 36 = .ok (.aload_n 0, 1) := dk_42 (dk_at dksX1_setShare_1 12 rfl rfl)
theorem dX1_setShare_37 : decode cX1_setShare 37 = .ok (.getfield 82, 3) := dk_180 0 82 (dk_at dksX1_setShare_1 13 rfl rfl)
theorem dX1_setShare_40 : decode cX1_setShare 40 = .ok (.aload 5, 2) := dk_25 5 (dk_at dksX1_setShare_1 16 rfl rfl)
theorem dX1_setShare_42 : decode cX1_setShare 42 = .ok (.iload_n 2, 1) := dk_28 (dk_at dksX1_setShare_1 18 rfl rfl)
theorem dX1_setShare_43 : decode cX1_setShare 43 = .ok (.iload_n 3, 1) := dk_29 (dk_at dksX1_setShare_1 19 rfl rfl)
theorem dX1_setShare_44 : decode cX1_setShare 44 = .ok (.iload 4, 2) := dk_21 4 (dk_at dksX1_setShare_1 20 rfl rfl)
theorem dX1_setShare_46 : decode cX1_setShare 46 = .ok (.invokevirtual 398, 3) := dk_182 1 142 (dk_at dksX1_setShare_2 0 rfl rfl)
theorem dX1_setShare_49 : decode cX1_setShare 49 = .ok (.ifCond .ne 5, 3) := dk_154 0 5 (dk_at dksX1_setShare_2 3 rfl rfl)
theorem dX1_setShare_52 : decode cX1_setShare 52 = .ok (.iconst (-1), 1) := dk_2 (dk_at dksX1_setShare_2 6 rfl rfl)
theorem dX1_setShare_53 : decode cX1_setShare 53 = .ok (.ireturn, 1) := dk_172 (dk_at dksX1_setShare_2 7 rfl rfl)
theorem dX1_setShare_54 : decode cX1_setShare 54 = .ok (.aload_n 0, 1) := dk_42 (dk_at dksX1_setShare_2 8 rfl rfl)
theorem dX1_setShare_55 : decode cX1_setShare 55 = .ok (.aload 6, 2) := dk_25 6 (dk_at dksX1_setShare_2 9 rfl rfl)
theorem dX1_setShare_57 : decode cX1_setShare 57 = .ok (.invokevirtual 103, 3) := dk_182 0 103 (dk_at dksX1_setShare_2 11 rfl rfl)
theorem dX1_setShare_60 : decode cX1_setShare 60 = .ok (.iconst 0, 1) := dk_3 (dk_at dksX1_setShare_2 14 rfl rfl)
theorem dX1_setShare_61 : decode cX1_setShare 61 = .ok (.istore 7, 2) := dk_54 7 (dk_at dksX1_setShare_2 15 rfl rfl)
theorem dX1_setShare_63 : decode cX1_setShare 63 = .ok (.iconst 0, 1) := dk_3 (dk_at dksX1_setShare_2 17 rfl rfl)
theorem dX1_setShare_64 : decode cX1_setShare 64 = .ok (.istore 8, 2) := dk_54 8 (dk_at dksX1_setShare_2 18 rfl rfl)
theorem dX1_setShare_66 : decode cX1_setShare 66 = .ok (.iload 8, 2) := dk_21 8 (dk_at dksX1_setShare_2 20 rfl rfl)
theorem dX1_setShare_68 : decode cX1_setShare 68 = .ok (.aload_n 0, 1) := dk_42 (dk_at dksX1_setShare_2 22 rfl rfl)
theorem dX1_setShare_69 : decode cX1_setShare 69 = .ok (.getfield 82, 3) := dk_180 0 82 (dk_at dksX1_setShare_3 0 rfl rfl)
theorem dX1_setShare_72 : decode cX1_setShare 72 = .ok (.getfield 135, 3) := dk_180 0 135 (dk_at dksX1_setShare_3 3 rfl rfl)
theorem dX1_setShare_75 : decode cX1_setShare 75 = .ok (.if_icmp .ge 30, 3) := dk_162 0 30 (dk_at dksX1_setShare_3 6 rfl rfl)
theorem dX1_setShare_78 : decode cX1_setShare 78 = .ok (.iload 7, 2) := dk_21 7 (dk_at dksX1_setShare_3 9 rfl rfl)
theorem dX1_setShare_80 : decode cX1_setShare 80 = .ok (.aload 5, 2) := dk_25 5 (dk_at dksX1_setShare_3 11 rfl rfl)
theorem dX1_setShare_82 : decode cX1_setShare 82 = .ok (.getfield 336, 3) := dk_180 1 80 (dk_at dksX1_setShare_3 13 rfl rfl)
theorem dX1_setShare_85 : decode cX1_setShare 85 = .ok (.iload 8, 2) := dk_21 8 (dk_at dksX1_setShare_3 16 rfl rfl)
theorem dX1_setShare_87 : decode cX1_setShare 87 = .ok (.iaload, 1) := dk_46 (dk_at dksX1_setShare_3 18 rfl rfl)
theorem dX1_setShare_88 : decode cX1_setShare 88 = .ok (.ifCond .le 7, 3) := dk_158 0 7 (dk_at dksX1_setShare_3 19 rfl rfl)
theorem dX1_setShare_91 : decode cX1_setShare 91 = .ok (.iconst 1, 1) := dk_4 (dk_at dksX1_setShare_3 22 rfl rfl)
theorem dX1_setShare_92 : decode cX1_setShare 92 = .ok (.goto 4, 3) := dk_167 0 4 (dk_at dksX1_setShare_4 0 rfl rfl)
theorem dX1_setShare_95 : decode cX1_setShare 95 = .ok (.iconst 0, 1) := dk_3 (dk_at dksX1_setShare_4 3 rfl rfl)
theorem dX1_setShare_96 : decode cX1_setShare 96 = .ok (.iadd, 1) := dk_96 (dk_at dksX1_setShare_4 4 rfl rfl)
theorem dX1_setShare_97 : decode cX1_setShare 97 = .ok (.istore 7, 2) := dk_54 7 (dk_at dksX1_setShare_4 5 rfl rfl)
theorem dX1_setShare_99 : decode cX1_setShare 99 = .ok (.iinc 8 1, 3) := dk_132 8 1 (dk_at dksX1_setShare_4 7 rfl rfl)
theorem dX1_setShare_102 : decode cX1_setShare 102 = .ok (.goto (-36), 3) := dk_167 255 220 (dk_at dksX1_setShare_4 10 rfl rfl)
theorem dX1_setShare_105 : decode cX1_setShare 105 = .ok (.iload 7, 2) := dk_21 7 (dk_at dksX1_setShare_4 13 rfl rfl)
theorem dX1_setShare_107 : decode cX1_setShare 107 = .ok (.ireturn, 1) := dk_172 (dk_at dksX1_setShare_4 15 rfl rfl)
abbrev cX1_setHeir : ByteArray := prog_1_method_66_code
def yX1_setHeir : MethodName := ⟨RX1, "setHeir", "(III)I"⟩
def dkwX1_setHeir_2 : List UInt8 := [180, 0, 82, 180, 0, 211, 58, 4, 25, 4, 27, 46, 54, 5, 25, 4, 27, 29, 79, 21, 5, 172]
abbrev dktX1_setHeir_2 : List UInt8 := dkwX1_setHeir_2 ++ []
def dkwX1_setHeir_1 : List UInt8 := [16, 60, 184, 0, 158, 42, 182, 1, 133, 28, 154, 0, 13, 42, 180, 0, 82, 180, 0, 208, 167, 0, 10, 42]
abbrev dktX1_setHeir_1 : List UInt8 := dkwX1_setHeir_1 ++ dktX1_setHeir_2
def dkwX1_setHeir_0 : List UInt8 := [42, 27, 182, 0, 205, 28, 3, 4, 184, 0, 158, 29, 3, 28, 154, 0, 9, 17, 39, 15, 167, 0, 5]
abbrev dktX1_setHeir_0 : List UInt8 := dkwX1_setHeir_0 ++ dktX1_setHeir_1
theorem dksX1_setHeir_0 : cX1_setHeir.data.toList.drop 0 = dktX1_setHeir_0 := by decide +kernel
theorem dksX1_setHeir_1 : cX1_setHeir.data.toList.drop 23 = dktX1_setHeir_1 := dk_seg dksX1_setHeir_0 23 rfl rfl
theorem dksX1_setHeir_2 : cX1_setHeir.data.toList.drop 47 = dktX1_setHeir_2 := dk_seg dksX1_setHeir_1 24 rfl rfl
theorem dX1_setHeir_0 : decode cX1_setHeir 0 = .ok (.aload_n 0, 1) := dk_42 (dk_at dksX1_setHeir_0 0 rfl rfl)
theorem dX1_setHeir_1 : decode cX1_setHeir 1 = .ok (.iload_n 1, 1) := dk_27 (dk_at dksX1_setHeir_0 1 rfl rfl)
theorem dX1_setHeir_2 : decode cX1_setHeir 2 = .ok (.invokevirtual 205, 3) := dk_182 0 205 (dk_at dksX1_setHeir_0 2 rfl rfl)
theorem dX1_setHeir_5 : decode cX1_setHeir 5 = .ok (.iload_n 2, 1) := dk_28 (dk_at dksX1_setHeir_0 5 rfl rfl)
theorem dX1_setHeir_6 : decode cX1_setHeir 6 = .ok (.iconst 0, 1) := dk_3 (dk_at dksX1_setHeir_0 6 rfl rfl)
theorem dX1_setHeir_7 : decode cX1_setHeir 7 = .ok (.iconst 1, 1) := dk_4 (dk_at dksX1_setHeir_0 7 rfl rfl)
theorem dX1_setHeir_8 : decode cX1_setHeir 8 = .ok (.invokestatic 158, 3) := dk_184 0 158 (dk_at dksX1_setHeir_0 8 rfl rfl)
theorem dX1_setHeir_11 : decode cX1_setHeir 11 = .ok (.iload_n 3, 1) := dk_29 (dk_at dksX1_setHeir_0 11 rfl rfl)
theorem dX1_setHeir_12 : decode cX1_setHeir 12 = .ok (.iconst 0, 1) := dk_3 (dk_at dksX1_setHeir_0 12 rfl rfl)
theorem dX1_setHeir_13 : decode cX1_setHeir 13 = .ok (.iload_n 2, 1) := dk_28 (dk_at dksX1_setHeir_0 13 rfl rfl)
theorem dX1_setHeir_14 : decode cX1_setHeir 14 = .ok (.ifCond .ne 9, 3) := dk_154 0 9 (dk_at dksX1_setHeir_0 14 rfl rfl)
theorem dX1_setHeir_17 : decode cX1_setHeir 17 = .ok (.sipush 9999, 3) := dk_17 39 15 (dk_at dksX1_setHeir_0 17 rfl rfl)
theorem dX1_setHeir_20 : decode cX1_setHeir 20 = .ok (.goto 5, 3) := dk_167 0 5 (dk_at dksX1_setHeir_0 20 rfl rfl)
theorem dX1_setHeir_23 : decode cX1_setHeir 23 = .ok (.bipush 60, 2) := dk_16 60 (dk_at dksX1_setHeir_1 0 rfl rfl)
theorem dX1_setHeir_25 : decode cX1_setHeir 25 = .ok (.invokestatic 158, 3) := dk_184 0 158 (dk_at dksX1_setHeir_1 2 rfl rfl)
theorem dX1_setHeir_28 : decode cX1_setHeir 28 = .ok (.aload_n 0, 1) := dk_42 (dk_at dksX1_setHeir_1 5 rfl rfl)
theorem dX1_setHeir_29 : decode cX1_setHeir 29 = .ok (.invokevirtual 389, 3) := dk_182 1 133 (dk_at dksX1_setHeir_1 6 rfl rfl)
theorem dX1_setHeir_32 : decode cX1_setHeir 32 = .ok (.iload_n 2, 1) := dk_28 (dk_at dksX1_setHeir_1 9 rfl rfl)
theorem dX1_setHeir_33 : decode cX1_setHeir 33 = .ok (.ifCond .ne 13, 3) := dk_154 0 13 (dk_at dksX1_setHeir_1 10 rfl rfl)
theorem dX1_setHeir_36 : decode cX1_setHeir 36 = .ok (.aload_n 0, 1) := dk_42 (dk_at dksX1_setHeir_1 13 rfl rfl)
theorem dX1_setHeir_37 : decode cX1_setHeir 37 = .ok (.getfield 82, 3) := dk_180 0 82 (dk_at dksX1_setHeir_1 14 rfl rfl)
theorem dX1_setHeir_40 : decode cX1_setHeir 40 = .ok (.getfield 208, 3) := dk_180 0 208 (dk_at dksX1_setHeir_1 17 rfl rfl)
theorem dX1_setHeir_43 : decode cX1_setHeir 43 = .ok (.goto 10, 3) := dk_167 0 10 (dk_at dksX1_setHeir_1 20 rfl rfl)
theorem dX1_setHeir_46 : decode cX1_setHeir 46 = .ok (.aload_n 0, 1) := dk_42 (dk_at dksX1_setHeir_1 23 rfl rfl)
theorem dX1_setHeir_47 : decode cX1_setHeir 47 = .ok (.getfield 82, 3) := dk_180 0 82 (dk_at dksX1_setHeir_2 0 rfl rfl)
theorem dX1_setHeir_50 : decode cX1_setHeir 50 = .ok (.getfield 211, 3) := dk_180 0 211 (dk_at dksX1_setHeir_2 3 rfl rfl)
theorem dX1_setHeir_53 : decode cX1_setHeir 53 = .ok (.astore 4, 2) := dk_58 4 (dk_at dksX1_setHeir_2 6 rfl rfl)
theorem dX1_setHeir_55 : decode cX1_setHeir 55 = .ok (.aload 4, 2) := dk_25 4 (dk_at dksX1_setHeir_2 8 rfl rfl)
theorem dX1_setHeir_57 : decode cX1_setHeir 57 = .ok (.iload_n 1, 1) := dk_27 (dk_at dksX1_setHeir_2 10 rfl rfl)
theorem dX1_setHeir_58 : decode cX1_setHeir 58 = .ok (.iaload, 1) := dk_46 (dk_at dksX1_setHeir_2 11 rfl rfl)
theorem dX1_setHeir_59 : decode cX1_setHeir 59 = .ok (.istore 5, 2) := dk_54 5 (dk_at dksX1_setHeir_2 12 rfl rfl)
theorem dX1_setHeir_61 : decode cX1_setHeir 61 = .ok (.aload 4, 2) := dk_25 4 (dk_at dksX1_setHeir_2 14 rfl rfl)
theorem dX1_setHeir_63 : decode cX1_setHeir 63 = .ok (.iload_n 1, 1) := dk_27 (dk_at dksX1_setHeir_2 16 rfl rfl)
theorem dX1_setHeir_64 : decode cX1_setHeir 64 = .ok (.iload_n 3, 1) := dk_29 (dk_at dksX1_setHeir_2 17 rfl rfl)
theorem dX1_setHeir_65 : decode cX1_setHeir 65 = .ok (.iastore, 1) := dk_79 (dk_at dksX1_setHeir_2 18 rfl rfl)
theorem dX1_setHeir_66 : decode cX1_setHeir 66 = .ok (.iload 5, 2) := dk_21 5 (dk_at dksX1_setHeir_2 19 rfl rfl)
theorem dX1_setHeir_68 : decode cX1_setHeir 68 = .ok (.ireturn, 1) := dk_172 (dk_at dksX1_setHeir_2 21 rfl rfl)
abbrev cX1_setRest : ByteArray := prog_1_method_67_code
def yX1_setRest : MethodName := ⟨RX1, "setRest", "(I)I"⟩
def dkwX1_setRest_1 : List UInt8 := [181, 0, 169, 28, 172]
abbrev dktX1_setRest_1 : List UInt8 := dkwX1_setRest_1 ++ []
def dkwX1_setRest_0 : List UInt8 := [42, 27, 182, 0, 205, 42, 182, 1, 133, 42, 180, 0, 82, 180, 0, 169, 61, 42, 180, 0, 82, 27]
abbrev dktX1_setRest_0 : List UInt8 := dkwX1_setRest_0 ++ dktX1_setRest_1
theorem dksX1_setRest_0 : cX1_setRest.data.toList.drop 0 = dktX1_setRest_0 := by decide +kernel
theorem dksX1_setRest_1 : cX1_setRest.data.toList.drop 22 = dktX1_setRest_1 := dk_seg dksX1_setRest_0 22 rfl rfl
theorem dX1_setRest_0 : decode cX1_setRest 0 = .ok (.aload_n 0, 1) := dk_42 (dk_at dksX1_setRest_0 0 rfl rfl)
theorem dX1_setRest_1 : decode cX1_setRest 1 = .ok (.iload_n 1, 1) := dk_27 (dk_at dksX1_setRest_0 1 rfl rfl)
theorem dX1_setRest_2 : decode cX1_setRest 2 = .ok (.invokevirtual 205, 3) := dk_182 0 205 (dk_at dksX1_setRest_0 2 rfl rfl)
theorem dX1_setRest_5 : decode cX1_setRest 5 = .ok (.aload_n 0, 1) := dk_42 (dk_at dksX1_setRest_0 5 rfl rfl)
theorem dX1_setRest_6 : decode cX1_setRest 6 = .ok (.invokevirtual 389, 3) := dk_182 1 133 (dk_at dksX1_setRest_0 6 rfl rfl)
theorem dX1_setRest_9 : decode cX1_setRest 9 = .ok (.aload_n 0, 1) := dk_42 (dk_at dksX1_setRest_0 9 rfl rfl)
theorem dX1_setRest_10 : decode cX1_setRest 10 = .ok (.getfield 82, 3) := dk_180 0 82 (dk_at dksX1_setRest_0 10 rfl rfl)
theorem dX1_setRest_13 : decode cX1_setRest 13 = .ok (.getfield 169, 3) := dk_180 0 169 (dk_at dksX1_setRest_0 13 rfl rfl)
theorem dX1_setRest_16 : decode cX1_setRest 16 = .ok (.istore_n 2, 1) := dk_61 (dk_at dksX1_setRest_0 16 rfl rfl)
theorem dX1_setRest_17 : decode cX1_setRest 17 = .ok (.aload_n 0, 1) := dk_42 (dk_at dksX1_setRest_0 17 rfl rfl)
theorem dX1_setRest_18 : decode cX1_setRest 18 = .ok (.getfield 82, 3) := dk_180 0 82 (dk_at dksX1_setRest_0 18 rfl rfl)
theorem dX1_setRest_21 : decode cX1_setRest 21 = .ok (.iload_n 1, 1) := dk_27 (dk_at dksX1_setRest_0 21 rfl rfl)
theorem dX1_setRest_22 : decode cX1_setRest 22 = .ok (.putfield 169, 3) := dk_181 0 169 (dk_at dksX1_setRest_1 0 rfl rfl)
theorem dX1_setRest_25 : decode cX1_setRest 25 = .ok (.iload_n 2, 1) := dk_28 (dk_at dksX1_setRest_1 3 rfl rfl)
theorem dX1_setRest_26 : decode cX1_setRest 26 = .ok (.ireturn, 1) := dk_172 (dk_at dksX1_setRest_1 4 rfl rfl)
abbrev cX1_setEstate : ByteArray := prog_1_method_68_code
def yX1_setEstate : MethodName := ⟨RX1, "setEstate", "(I)I"⟩
def dkwX1_setEstate_1 : List UInt8 := [27, 181, 0, 172, 28, 172]
abbrev dktX1_setEstate_1 : List UInt8 := dkwX1_setEstate_1 ++ []
def dkwX1_setEstate_0 : List UInt8 := [27, 3, 17, 39, 15, 184, 0, 158, 42, 182, 1, 133, 42, 180, 0, 82, 180, 0, 172, 61, 42, 180, 0, 82]
abbrev dktX1_setEstate_0 : List UInt8 := dkwX1_setEstate_0 ++ dktX1_setEstate_1
theorem dksX1_setEstate_0 : cX1_setEstate.data.toList.drop 0 = dktX1_setEstate_0 := by decide +kernel
theorem dksX1_setEstate_1 : cX1_setEstate.data.toList.drop 24 = dktX1_setEstate_1 := dk_seg dksX1_setEstate_0 24 rfl rfl
theorem dX1_setEstate_0 : decode cX1_setEstate 0 = .ok (.iload_n 1, 1) := dk_27 (dk_at dksX1_setEstate_0 0 rfl rfl)
theorem dX1_setEstate_1 : decode cX1_setEstate 1 = .ok (.iconst 0, 1) := dk_3 (dk_at dksX1_setEstate_0 1 rfl rfl)
theorem dX1_setEstate_2 : decode cX1_setEstate 2 = .ok (.sipush 9999, 3) := dk_17 39 15 (dk_at dksX1_setEstate_0 2 rfl rfl)
theorem dX1_setEstate_5 : decode cX1_setEstate 5 = .ok (.invokestatic 158, 3) := dk_184 0 158 (dk_at dksX1_setEstate_0 5 rfl rfl)
theorem dX1_setEstate_8 : decode cX1_setEstate 8 = .ok (.aload_n 0, 1) := dk_42 (dk_at dksX1_setEstate_0 8 rfl rfl)
theorem dX1_setEstate_9 : decode cX1_setEstate 9 = .ok (.invokevirtual 389, 3) := dk_182 1 133 (dk_at dksX1_setEstate_0 9 rfl rfl)
theorem dX1_setEstate_12 : decode cX1_setEstate 12 = .ok (.aload_n 0, 1) := dk_42 (dk_at dksX1_setEstate_0 12 rfl rfl)
theorem dX1_setEstate_13 : decode cX1_setEstate 13 = .ok (.getfield 82, 3) := dk_180 0 82 (dk_at dksX1_setEstate_0 13 rfl rfl)
theorem dX1_setEstate_16 : decode cX1_setEstate 16 = .ok (.getfield 172, 3) := dk_180 0 172 (dk_at dksX1_setEstate_0 16 rfl rfl)
theorem dX1_setEstate_19 : decode cX1_setEstate 19 = .ok (.istore_n 2, 1) := dk_61 (dk_at dksX1_setEstate_0 19 rfl rfl)
theorem dX1_setEstate_20 : decode cX1_setEstate 20 = .ok (.aload_n 0, 1) := dk_42 (dk_at dksX1_setEstate_0 20 rfl rfl)
theorem dX1_setEstate_21 : decode cX1_setEstate 21 = .ok (.getfield 82, 3) := dk_180 0 82 (dk_at dksX1_setEstate_0 21 rfl rfl)
theorem dX1_setEstate_24 : decode cX1_setEstate 24 = .ok (.iload_n 1, 1) := dk_27 (dk_at dksX1_setEstate_1 0 rfl rfl)
theorem dX1_setEstate_25 : decode cX1_setEstate 25 = .ok (.putfield 172, 3) := dk_181 0 172 (dk_at dksX1_setEstate_1 1 rfl rfl)
theorem dX1_setEstate_28 : decode cX1_setEstate 28 = .ok (.iload_n 2, 1) := dk_28 (dk_at dksX1_setEstate_1 4 rfl rfl)
theorem dX1_setEstate_29 : decode cX1_setEstate 29 = .ok (.ireturn, 1) := dk_172 (dk_at dksX1_setEstate_1 5 rfl rfl)
abbrev cX1_setValue : ByteArray := prog_1_method_69_code
def yX1_setValue : MethodName := ⟨RX1, "setValue", "(II)I"⟩
def dkwX1_setValue_1 : List UInt8 := [182, 1, 133, 42, 180, 0, 82, 27, 28, 182, 1, 146, 42, 180, 0, 82, 180, 0, 175, 172]
abbrev dktX1_setValue_1 : List UInt8 := dkwX1_setValue_1 ++ []
def dkwX1_setValue_0 : List UInt8 := [42, 27, 182, 0, 182, 28, 3, 42, 180, 0, 82, 180, 0, 139, 27, 46, 4, 100, 184, 0, 158, 42]
abbrev dktX1_setValue_0 : List UInt8 := dkwX1_setValue_0 ++ dktX1_setValue_1
theorem dksX1_setValue_0 : cX1_setValue.data.toList.drop 0 = dktX1_setValue_0 := by decide +kernel
theorem dksX1_setValue_1 : cX1_setValue.data.toList.drop 22 = dktX1_setValue_1 := dk_seg dksX1_setValue_0 22 rfl rfl
theorem dX1_setValue_0 : decode cX1_setValue 0 = .ok (.aload_n 0, 1) := dk_42 (dk_at dksX1_setValue_0 0 rfl rfl)
theorem dX1_setValue_1 : decode cX1_setValue 1 = .ok (.iload_n 1, 1) := dk_27 (dk_at dksX1_setValue_0 1 rfl rfl)
theorem dX1_setValue_2 : decode cX1_setValue 2 = .ok (.invokevirtual 182, 3) := dk_182 0 182 (dk_at dksX1_setValue_0 2 rfl rfl)
theorem dX1_setValue_5 : decode cX1_setValue 5 = .ok (.iload_n 2, 1) := dk_28 (dk_at dksX1_setValue_0 5 rfl rfl)
theorem dX1_setValue_6 : decode cX1_setValue 6 = .ok (.iconst 0, 1) := dk_3 (dk_at dksX1_setValue_0 6 rfl rfl)
theorem dX1_setValue_7 : decode cX1_setValue 7 = .ok (.aload_n 0, 1) := dk_42 (dk_at dksX1_setValue_0 7 rfl rfl)
theorem dX1_setValue_8 : decode cX1_setValue 8 = .ok (.getfield 82, 3) := dk_180 0 82 (dk_at dksX1_setValue_0 8 rfl rfl)
theorem dX1_setValue_11 : decode cX1_setValue 11 = .ok (.getfield 139, 3) := dk_180 0 139 (dk_at dksX1_setValue_0 11 rfl rfl)
theorem dX1_setValue_14 : decode cX1_setValue 14 = .ok (.iload_n 1, 1) := dk_27 (dk_at dksX1_setValue_0 14 rfl rfl)
theorem dX1_setValue_15 : decode cX1_setValue 15 = .ok (.iaload, 1) := dk_46 (dk_at dksX1_setValue_0 15 rfl rfl)
theorem dX1_setValue_16 : decode cX1_setValue 16 = .ok (.iconst 1, 1) := dk_4 (dk_at dksX1_setValue_0 16 rfl rfl)
theorem dX1_setValue_17 : decode cX1_setValue 17 = .ok (.isub, 1) := dk_100 (dk_at dksX1_setValue_0 17 rfl rfl)
theorem dX1_setValue_18 : decode cX1_setValue 18 = .ok (.invokestatic 158, 3) := dk_184 0 158 (dk_at dksX1_setValue_0 18 rfl rfl)
theorem dX1_setValue_21 : decode cX1_setValue 21 = .ok (.aload_n 0, 1) := dk_42 (dk_at dksX1_setValue_0 21 rfl rfl)
theorem dX1_setValue_22 : decode cX1_setValue 22 = .ok (.invokevirtual 389, 3) := dk_182 1 133 (dk_at dksX1_setValue_1 0 rfl rfl)
theorem dX1_setValue_25 : decode cX1_setValue 25 = .ok (.aload_n 0, 1) := dk_42 (dk_at dksX1_setValue_1 3 rfl rfl)
theorem dX1_setValue_26 : decode cX1_setValue 26 = .ok (.getfield 82, 3) := dk_180 0 82 (dk_at dksX1_setValue_1 4 rfl rfl)
theorem dX1_setValue_29 : decode cX1_setValue 29 = .ok (.iload_n 1, 1) := dk_27 (dk_at dksX1_setValue_1 7 rfl rfl)
theorem dX1_setValue_30 : decode cX1_setValue 30 = .ok (.iload_n 2, 1) := dk_28 (dk_at dksX1_setValue_1 8 rfl rfl)
theorem dX1_setValue_31 : decode cX1_setValue 31 = .ok (.invokevirtual 402, 3) := dk_182 1 146 (dk_at dksX1_setValue_1 9 rfl rfl)
theorem dX1_setValue_34 : decode cX1_setValue 34 = .ok (.aload_n 0, 1) := dk_42 (dk_at dksX1_setValue_1 12 rfl rfl)
theorem dX1_setValue_35 : decode cX1_setValue 35 = .ok (.getfield 82, 3) := dk_180 0 82 (dk_at dksX1_setValue_1 13 rfl rfl)
theorem dX1_setValue_38 : decode cX1_setValue 38 = .ok (.getfield 175, 3) := dk_180 0 175 (dk_at dksX1_setValue_1 16 rfl rfl)
theorem dX1_setValue_41 : decode cX1_setValue 41 = .ok (.ireturn, 1) := dk_172 (dk_at dksX1_setValue_1 19 rfl rfl)
abbrev cX1_saveSnapshot : ByteArray := prog_1_method_71_code
def yX1_saveSnapshot : MethodName := ⟨RX1, "saveSnapshot", "(I)Z"⟩
def dkwX1_saveSnapshot_1 : List UInt8 := [180, 0, 32, 27, 42, 180, 0, 82, 182, 0, 100, 83, 28, 172]
abbrev dktX1_saveSnapshot_1 : List UInt8 := dkwX1_saveSnapshot_1 ++ []
def dkwX1_saveSnapshot_0 : List UInt8 := [27, 3, 4, 184, 0, 158, 42, 180, 0, 32, 27, 50, 198, 0, 7, 4, 167, 0, 4, 3, 61, 42]
abbrev dktX1_saveSnapshot_0 : List UInt8 := dkwX1_saveSnapshot_0 ++ dktX1_saveSnapshot_1
theorem dksX1_saveSnapshot_0 : cX1_saveSnapshot.data.toList.drop 0 = dktX1_saveSnapshot_0 := by decide +kernel
theorem dksX1_saveSnapshot_1 : cX1_saveSnapshot.data.toList.drop 22 = dktX1_saveSnapshot_1 := dk_seg dksX1_saveSnapshot_0 22 rfl rfl
theorem dX1_saveSnapshot_0 : decode cX1_saveSnapshot 0 = .ok (.iload_n 1, 1) := dk_27 (dk_at dksX1_saveSnapshot_0 0 rfl rfl)
theorem dX1_saveSnapshot_1 : decode cX1_saveSnapshot 1 = .ok (.iconst 0, 1) := dk_3 (dk_at dksX1_saveSnapshot_0 1 rfl rfl)
theorem dX1_saveSnapshot_2 : decode cX1_saveSnapshot 2 = .ok (.iconst 1, 1) := dk_4 (dk_at dksX1_saveSnapshot_0 2 rfl rfl)
theorem dX1_saveSnapshot_3 : decode cX1_saveSnapshot 3 = .ok (.invokestatic 158, 3) := dk_184 0 158 (dk_at dksX1_saveSnapshot_0 3 rfl rfl)
theorem dX1_saveSnapshot_6 : decode cX1_saveSnapshot 6 = .ok (.aload_n 0, 1) := dk_42 (dk_at dksX1_saveSnapshot_0 6 rfl rfl)
theorem dX1_saveSnapshot_7 : decode cX1_saveSnapshot 7 = .ok (.getfield 32, 3) := dk_180 0 32 (dk_at dksX1_saveSnapshot_0 7 rfl rfl)
theorem dX1_saveSnapshot_10 : decode cX1_saveSnapshot 10 = .ok (.iload_n 1, 1) := dk_27 (dk_at dksX1_saveSnapshot_0 10 rfl rfl)
theorem dX1_saveSnapshot_11 : decode cX1_saveSnapshot 11 = .ok (.aaload, 1) := dk_50 (dk_at dksX1_saveSnapshot_0 11 rfl rfl)
theorem dX1_saveSnapshot_12 : decode cX1_saveSnapshot 12 = .ok (.ifnull 7, 3) := dk_198 0 7 (dk_at dksX1_saveSnapshot_0 12 rfl rfl)
theorem dX1_saveSnapshot_15 : decode cX1_saveSnapshot 15 = .ok (.iconst 1, 1) := dk_4 (dk_at dksX1_saveSnapshot_0 15 rfl rfl)
theorem dX1_saveSnapshot_16 : decode cX1_saveSnapshot 16 = .ok (.goto 4, 3) := dk_167 0 4 (dk_at dksX1_saveSnapshot_0 16 rfl rfl)
theorem dX1_saveSnapshot_19 : decode cX1_saveSnapshot 19 = .ok (.iconst 0, 1) := dk_3 (dk_at dksX1_saveSnapshot_0 19 rfl rfl)
theorem dX1_saveSnapshot_20 : decode cX1_saveSnapshot 20 = .ok (.istore_n 2, 1) := dk_61 (dk_at dksX1_saveSnapshot_0 20 rfl rfl)
theorem dX1_saveSnapshot_21 : decode cX1_saveSnapshot 21 = .ok (.aload_n 0, 1) := dk_42 (dk_at dksX1_saveSnapshot_0 21 rfl rfl)
theorem dX1_saveSnapshot_22 : decode cX1_saveSnapshot 22 = .ok (.getfield 32, 3) := dk_180 0 32 (dk_at dksX1_saveSnapshot_1 0 rfl rfl)
theorem dX1_saveSnapshot_25 : decode cX1_saveSnapshot 25 = .ok (.iload_n 1, 1) := dk_27 (dk_at dksX1_saveSnapshot_1 3 rfl rfl)
theorem dX1_saveSnapshot_26 : decode cX1_saveSnapshot 26 = .ok (.aload_n 0, 1) := dk_42 (dk_at dksX1_saveSnapshot_1 4 rfl rfl)
theorem dX1_saveSnapshot_27 : decode cX1_saveSnapshot 27 = .ok (.getfield 82, 3) := dk_180 0 82 (dk_at dksX1_saveSnapshot_1 5 rfl rfl)
theorem dX1_saveSnapshot_30 : decode cX1_saveSnapshot 30 = .ok (.invokevirtual 100, 3) := dk_182 0 100 (dk_at dksX1_saveSnapshot_1 8 rfl rfl)
theorem dX1_saveSnapshot_33 : decode cX1_saveSnapshot 33 = .ok (.aastore, 1) := dk_83 (dk_at dksX1_saveSnapshot_1 11 rfl rfl)
theorem dX1_saveSnapshot_34 : decode cX1_saveSnapshot 34 = .ok (.iload_n 2, 1) := dk_28 (dk_at dksX1_saveSnapshot_1 12 rfl rfl)
theorem dX1_saveSnapshot_35 : decode cX1_saveSnapshot 35 = .ok (.ireturn, 1) := dk_172 (dk_at dksX1_saveSnapshot_1 13 rfl rfl)
abbrev cX1_restoreSnapshot : ByteArray := prog_1_method_72_code
def yX1_restoreSnapshot : MethodName := ⟨RX1, "restoreSnapshot", "(I)I"⟩
def dkwX1_restoreSnapshot_2 : List UInt8 := [180, 0, 118, 182, 0, 122, 172]
abbrev dktX1_restoreSnapshot_2 : List UInt8 := dkwX1_restoreSnapshot_2 ++ []
def dkwX1_restoreSnapshot_1 : List UInt8 := [42, 180, 0, 32, 27, 50, 182, 0, 100, 181, 0, 82, 42, 180, 0, 24, 182, 0, 86, 42, 180, 0, 82]
abbrev dktX1_restoreSnapshot_1 : List UInt8 := dkwX1_restoreSnapshot_1 ++ dktX1_restoreSnapshot_2
def dkwX1_restoreSnapshot_0 : List UInt8 := [27, 3, 4, 184, 0, 158, 42, 180, 0, 32, 27, 50, 199, 0, 11, 187, 0, 75, 89, 183, 1, 156, 191, 42]
abbrev dktX1_restoreSnapshot_0 : List UInt8 := dkwX1_restoreSnapshot_0 ++ dktX1_restoreSnapshot_1
theorem dksX1_restoreSnapshot_0 : cX1_restoreSnapshot.data.toList.drop 0 = dktX1_restoreSnapshot_0 := by decide +kernel
theorem dksX1_restoreSnapshot_1 : cX1_restoreSnapshot.data.toList.drop 24 = dktX1_restoreSnapshot_1 := dk_seg dksX1_restoreSnapshot_0 24 rfl rfl
theorem dksX1_restoreSnapshot_2 : cX1_restoreSnapshot.data.toList.drop 47 = dktX1_restoreSnapshot_2 := dk_seg dksX1_restoreSnapshot_1 23 rfl rfl
theorem dX1_restoreSnapshot_0 : decode cX1_restoreSnapshot 0 = .ok (.iload_n 1, 1) := dk_27 (dk_at dksX1_restoreSnapshot_0 0 rfl rfl)
theorem dX1_restoreSnapshot_1 : decode cX1_restoreSnapshot 1 = .ok (.iconst 0, 1) := dk_3 (dk_at dksX1_restoreSnapshot_0 1 rfl rfl)
theorem dX1_restoreSnapshot_2 : decode cX1_restoreSnapshot 2 = .ok (.iconst 1, 1) := dk_4 (dk_at dksX1_restoreSnapshot_0 2 rfl rfl)
theorem dX1_restoreSnapshot_3 : decode cX1_restoreSnapshot 3 = .ok (.invokestatic 158, 3) := dk_184 0 158 (dk_at dksX1_restoreSnapshot_0 3 rfl rfl)
theorem dX1_restoreSnapshot_6 : decode cX1_restoreSnapshot 6 = .ok (.aload_n 0, 1) := dk_42 (dk_at dksX1_restoreSnapshot_0 6 rfl rfl)
theorem dX1_restoreSnapshot_7 : decode cX1_restoreSnapshot 7 = .ok (.getfield 32, 3) := dk_180 0 32 (dk_at dksX1_restoreSnapshot_0 7 rfl rfl)
theorem dX1_restoreSnapshot_10 : decode cX1_restoreSnapshot 10 = .ok (.iload_n 1, 1) := dk_27 (dk_at dksX1_restoreSnapshot_0 10 rfl rfl)
theorem dX1_restoreSnapshot_11 : decode cX1_restoreSnapshot 11 = .ok (.aaload, 1) := dk_50 (dk_at dksX1_restoreSnapshot_0 11 rfl rfl)
theorem dX1_restoreSnapshot_12 : decode cX1_restoreSnapshot 12 = .ok (.ifnonnull 11, 3) := dk_199 0 11 (dk_at dksX1_restoreSnapshot_0 12 rfl rfl)
theorem dX1_restoreSnapshot_15 : decode cX1_restoreSnapshot 15 = .ok (.new 75, 3) := dk_187 0 75 (dk_at dksX1_restoreSnapshot_0 15 rfl rfl)
theorem dX1_restoreSnapshot_18 : decode cX1_restoreSnapshot 18 = .ok (.dup, 1) := dk_89 (dk_at dksX1_restoreSnapshot_0 18 rfl rfl)
theorem dX1_restoreSnapshot_19 : decode cX1_restoreSnapshot 19 = .ok (.invokespecial 412, 3) := dk_183 1 156 (dk_at dksX1_restoreSnapshot_0 19 rfl rfl)
theorem dX1_restoreSnapshot_22 : decode cX1_restoreSnapshot 22 = .ok (.athrow, 1) := dk_191 (dk_at dksX1_restoreSnapshot_0 22 rfl rfl)
theorem dX1_restoreSnapshot_23 : decode cX1_restoreSnapshot 23 = .ok (.aload_n 0, 1) := dk_42 (dk_at dksX1_restoreSnapshot_0 23 rfl rfl)
theorem dX1_restoreSnapshot_24 : decode cX1_restoreSnapshot 24 = .ok (.aload_n 0, 1) := dk_42 (dk_at dksX1_restoreSnapshot_1 0 rfl rfl)
theorem dX1_restoreSnapshot_25 : decode cX1_restoreSnapshot 25 = .ok (.getfield 32, 3) := dk_180 0 32 (dk_at dksX1_restoreSnapshot_1 1 rfl rfl)
theorem dX1_restoreSnapshot_28 : decode cX1_restoreSnapshot 28 = .ok (.iload_n 1, 1) := dk_27 (dk_at dksX1_restoreSnapshot_1 4 rfl rfl)
theorem dX1_restoreSnapshot_29 : decode cX1_restoreSnapshot 29 = .ok (.aaload, 1) := dk_50 (dk_at dksX1_restoreSnapshot_1 5 rfl rfl)
theorem dX1_restoreSnapshot_30 : decode cX1_restoreSnapshot 30 = .ok (.invokevirtual 100, 3) := dk_182 0 100 (dk_at dksX1_restoreSnapshot_1 6 rfl rfl)
theorem dX1_restoreSnapshot_33 : decode cX1_restoreSnapshot 33 = .ok (.putfield 82, 3) := dk_181 0 82 (dk_at dksX1_restoreSnapshot_1 9 rfl rfl)
theorem dX1_restoreSnapshot_36 : decode cX1_restoreSnapshot 36 = .ok (.aload_n 0, 1) := dk_42 (dk_at dksX1_restoreSnapshot_1 12 rfl rfl)
theorem dX1_restoreSnapshot_37 : decode cX1_restoreSnapshot 37 = .ok (.getfield 24, 3) := dk_180 0 24 (dk_at dksX1_restoreSnapshot_1 13 rfl rfl)
theorem dX1_restoreSnapshot_40 : decode cX1_restoreSnapshot 40 = .ok (.invokevirtual 86, 3) := dk_182 0 86 (dk_at dksX1_restoreSnapshot_1 16 rfl rfl)
theorem dX1_restoreSnapshot_43 : decode cX1_restoreSnapshot 43 = .ok (.aload_n 0, 1) := dk_42 (dk_at dksX1_restoreSnapshot_1 19 rfl rfl)
theorem dX1_restoreSnapshot_44 : decode cX1_restoreSnapshot 44 = .ok (.getfield 82, 3) := dk_180 0 82 (dk_at dksX1_restoreSnapshot_1 20 rfl rfl)
theorem dX1_restoreSnapshot_47 : decode cX1_restoreSnapshot 47 = .ok (.getfield 118, 3) := dk_180 0 118 (dk_at dksX1_restoreSnapshot_2 0 rfl rfl)
theorem dX1_restoreSnapshot_50 : decode cX1_restoreSnapshot 50 = .ok (.invokevirtual 122, 3) := dk_182 0 122 (dk_at dksX1_restoreSnapshot_2 3 rfl rfl)
theorem dX1_restoreSnapshot_53 : decode cX1_restoreSnapshot 53 = .ok (.ireturn, 1) := dk_172 (dk_at dksX1_restoreSnapshot_2 6 rfl rfl)
theorem q126 : (Jvm.Cond.initialized "HeirCases") ∈ lw_all := lw_g (lw_at lw_m1 1 rfl) rfl
theorem q168 : (Jvm.Cond.instantiable "HeirCases" (5 : Nat)) ∈ lw_all := lw_g (lw_at lw_m1 43 rfl) rfl
theorem q170 : (Jvm.Cond.instanceMethod ({ cls := "HeirCases", name := "<init>", desc := "()V" } : Jvm.MethodName)) ∈ lw_all := lw_g (lw_at lw_m1 45 rfl) rfl
theorem q171 : (Jvm.Cond.code ({ cls := "HeirCases", name := "<init>", desc := "()V" } : Jvm.MethodName) prog_1_method_5_code (1 : Nat) (Option.none : Option Jvm.ClassFile.FieldType)) ∈ lw_all := lw_g (lw_at lw_m1 46 rfl) rfl
theorem q172 : (Jvm.Cond.methodLink "HeirCases" (18 : Nat) ({ cls := "java/lang/Object", name := "<init>", desc := "()V" } : Jvm.MethodName)) ∈ lw_all := lw_g (lw_at lw_m1 47 rfl) rfl
theorem q175 : (Jvm.Cond.classLink "HeirCases" (21 : Nat) "java/util/ArrayDeque") ∈ lw_all := lw_g (lw_at lw_m1 50 rfl) rfl
theorem q177 : (Jvm.Cond.methodLink "HeirCases" (23 : Nat) ({ cls := "java/util/ArrayDeque", name := "<init>", desc := "()V" } : Jvm.MethodName)) ∈ lw_all := lw_g (lw_at lw_m1 52 rfl) rfl
theorem q196 : (Jvm.Cond.classLink "HeirCases" (30 : Nat) "HeirCases$Will") ∈ lw_all := lw_g (lw_at lw_m1 71 rfl) rfl
theorem q198 : (Jvm.Cond.classLink "HeirCases" (36 : Nat) "java/lang/StringBuilder") ∈ lw_all := lw_g (lw_at lw_m1 73 rfl) rfl
theorem q200 : (Jvm.Cond.methodLink "HeirCases" (38 : Nat) ({ cls := "java/lang/StringBuilder", name := "<init>", desc := "()V" } : Jvm.MethodName)) ∈ lw_all := lw_g (lw_at lw_m1 75 rfl) rfl
theorem q231 : (Jvm.Cond.methodLink "HeirCases" (46 : Nat) ({ cls := "HeirCases", name := "start", desc := "(I)V" } : Jvm.MethodName)) ∈ lw_all := lw_g (lw_at lw_m1 106 rfl) rfl
theorem q232 : (Jvm.Cond.privateMethod ({ cls := "HeirCases", name := "start", desc := "(I)V" } : Jvm.MethodName)) ∈ lw_tbl := lw_at lw_m1 107 rfl
theorem q233 : (Jvm.Cond.instanceMethod ({ cls := "HeirCases", name := "start", desc := "(I)V" } : Jvm.MethodName)) ∈ lw_all := lw_g (lw_at lw_m1 108 rfl) rfl
theorem q234 : (Jvm.Cond.codeWith ({ cls := "HeirCases", name := "start", desc := "(I)V" } : Jvm.MethodName) prog_1_method_6_code (4 : Nat) (Option.none : Option Jvm.ClassFile.FieldType) [((5 : Nat), (24 : Nat), (27 : Nat), (73 : Nat))]) ∈ lw_all := lw_g (lw_at lw_m1 109 rfl) rfl
theorem q235 : (Jvm.Cond.classLink "HeirCases" (73 : Nat) "HeirCases$Fault") ∈ lw_all := lw_g (lw_at lw_m1 110 rfl) rfl
theorem q236 : (Jvm.Cond.methodLink "HeirCases" (50 : Nat) ({ cls := "HeirCases", name := "builtIn", desc := "(I)Ljava/lang/String;" } : Jvm.MethodName)) ∈ lw_all := lw_g (lw_at lw_m1 111 rfl) rfl
theorem q237 : (Jvm.Cond.static ({ cls := "HeirCases", name := "builtIn", desc := "(I)Ljava/lang/String;" } : Jvm.MethodName)) ∈ lw_all := lw_g (lw_at lw_m1 112 rfl) rfl
theorem q238 : (Jvm.Cond.code ({ cls := "HeirCases", name := "builtIn", desc := "(I)Ljava/lang/String;" } : Jvm.MethodName) prog_1_method_4_code (1 : Nat) (Option.some (Jvm.ClassFile.FieldType.object "java/lang/String"))) ∈ lw_all := lw_g (lw_at lw_m1 113 rfl) rfl
theorem q239 : (Jvm.Cond.stringRef "HeirCases" (12 : Nat) "facts 2 3; heirs 3 rest 2; rule a = 1 gives 0 1/2, 1 1/4; rule b > 0 and not a = 1 gives 1 1/3; rule a = 1 and b = 2 gives 0 2/3 over 0;") ∈ lw_tbl := lw_at lw_m1 114 rfl
theorem q240 : (Jvm.Cond.stringRef "HeirCases" (14 : Nat) "facts 2 2 2 2; heirs 4 rest 0; estate 9000; heir 1 free 500 rate 20; rule a = 1 or b = 1 and c = 1 gives 1 1/4, 2 1/4, 3 1/4; rule (a = 1 or b = 1) and c = 1 gives 3 1/12 over 0; rule not (a = 1 or d = 1) gives nothing; rule d = 1 gives 2 1/12, 3 5/12 over 1;") ∈ lw_tbl := lw_at lw_m1 115 rfl
theorem q241 : (Jvm.Cond.stringRef "HeirCases" (16 : Nat) "facts 4; heirs 1 rest 0; estate 0; rule a < 1 gives 0 1/1; rule a > 2 gives nothing over 0; rule always gives nothing;") ∈ lw_tbl := lw_at lw_m1 116 rfl
theorem q242 : (Jvm.Cond.classLink "HeirCases" (54 : Nat) "HeirCases$Reader") ∈ lw_all := lw_g (lw_at lw_m1 117 rfl) rfl
theorem q244 : (Jvm.Cond.methodLink "HeirCases" (56 : Nat) ({ cls := "java/lang/String", name := "length", desc := "()I" } : Jvm.MethodName)) ∈ lw_all := lw_g (lw_at lw_m1 119 rfl) rfl
theorem q253 : (Jvm.Cond.methodLink "HeirCases" (62 : Nat) ({ cls := "HeirCases$Reader", name := "<init>", desc := "(Ljava/lang/CharSequence;I)V" } : Jvm.MethodName)) ∈ lw_all := lw_g (lw_at lw_m1 128 rfl) rfl
theorem q289 : (Jvm.Cond.methodLink "HeirCases" (65 : Nat) ({ cls := "HeirCases$Reader", name := "read", desc := "()LHeirCases$Will;" } : Jvm.MethodName)) ∈ lw_all := lw_g (lw_at lw_m1 164 rfl) rfl
theorem q770 : (Jvm.Cond.fieldLink "HeirCases" (152 : Nat) "HeirCases$Fault" "offset" "I") ∈ lw_all := lw_g (lw_at lw_m3 165 rfl) rfl
theorem q772 : (Jvm.Cond.fieldLink "HeirCases" (155 : Nat) "HeirCases$Fault" "code" "I") ∈ lw_all := lw_g (lw_at lw_m3 167 rfl) rfl
theorem q839 : (Jvm.Cond.fieldLink "HeirCases" (139 : Nat) "HeirCases$Will" "values" "[I") ∈ lw_all := lw_g (lw_at lw_m3 234 rfl) rfl
theorem q842 : (Jvm.Cond.fieldLink "HeirCases" (135 : Nat) "HeirCases$Will" "heirs" "I") ∈ lw_all := lw_g (lw_at lw_m3 237 rfl) rfl
theorem q846 : (Jvm.Cond.fieldLink "HeirCases" (208 : Nat) "HeirCases$Will" "free" "[I") ∈ lw_all := lw_g (lw_at lw_m4 1 rfl) rfl
theorem q849 : (Jvm.Cond.fieldLink "HeirCases" (211 : Nat) "HeirCases$Will" "rates" "[I") ∈ lw_all := lw_g (lw_at lw_m4 4 rfl) rfl
theorem q851 : (Jvm.Cond.fieldLink "HeirCases" (118 : Nat) "HeirCases$Will" "rules" "Ljava/util/ArrayList;") ∈ lw_all := lw_g (lw_at lw_m4 6 rfl) rfl
theorem q855 : (Jvm.Cond.fieldLink "HeirCases" (169 : Nat) "HeirCases$Will" "rest" "I") ∈ lw_all := lw_g (lw_at lw_m4 10 rfl) rfl
theorem q858 : (Jvm.Cond.fieldLink "HeirCases" (172 : Nat) "HeirCases$Will" "estate" "I") ∈ lw_all := lw_g (lw_at lw_m4 13 rfl) rfl
theorem q860 : (Jvm.Cond.fieldLink "HeirCases" (175 : Nat) "HeirCases$Will" "atHand" "I") ∈ lw_all := lw_g (lw_at lw_m4 15 rfl) rfl
theorem q968 : (Jvm.Cond.static ({ cls := "HeirCases", name := "not", desc := "(LHeirCases$Guard;)LHeirCases$Guard;" } : Jvm.MethodName)) ∈ lw_all := lw_g (lw_at lw_m4 123 rfl) rfl
theorem q969 : (Jvm.Cond.code ({ cls := "HeirCases", name := "not", desc := "(LHeirCases$Guard;)LHeirCases$Guard;" } : Jvm.MethodName) prog_1_method_2_code (1 : Nat) (Option.some (Jvm.ClassFile.FieldType.object "HeirCases$Guard"))) ∈ lw_all := lw_g (lw_at lw_m4 124 rfl) rfl
theorem q970 : (Jvm.Cond.classLink "HeirCases" (7 : Nat) "HeirCases$1Not") ∈ lw_all := lw_g (lw_at lw_m4 125 rfl) rfl
theorem q972 : (Jvm.Cond.methodLink "HeirCases" (9 : Nat) ({ cls := "HeirCases$1Not", name := "<init>", desc := "(LHeirCases$Guard;)V" } : Jvm.MethodName)) ∈ lw_all := lw_g (lw_at lw_m4 127 rfl) rfl
theorem q988 : (Jvm.Cond.static ({ cls := "HeirCases", name := "always", desc := "()LHeirCases$Guard;" } : Jvm.MethodName)) ∈ lw_all := lw_g (lw_at lw_m4 143 rfl) rfl
theorem q989 : (Jvm.Cond.code ({ cls := "HeirCases", name := "always", desc := "()LHeirCases$Guard;" } : Jvm.MethodName) prog_1_method_1_code (0 : Nat) (Option.some (Jvm.ClassFile.FieldType.object "HeirCases$Guard"))) ∈ lw_all := lw_g (lw_at lw_m4 144 rfl) rfl
theorem q990 : (Jvm.Cond.classLink "HeirCases" (1 : Nat) "HeirCases$1") ∈ lw_all := lw_g (lw_at lw_m4 145 rfl) rfl
theorem q992 : (Jvm.Cond.methodLink "HeirCases" (3 : Nat) ({ cls := "HeirCases$1", name := "<init>", desc := "()V" } : Jvm.MethodName)) ∈ lw_all := lw_g (lw_at lw_m4 147 rfl) rfl
theorem q1063 : (Jvm.Cond.selects "HeirCases" ({ cls := "java/lang/Object", name := "getClass", desc := "()Ljava/lang/Class;" } : Jvm.MethodName) ({ cls := "java/lang/Object", name := "getClass", desc := "()Ljava/lang/Class;" } : Jvm.MethodName)) ∈ lw_all := lw_g (lw_at lw_m4 218 rfl) rfl
theorem q1103 : (Jvm.Cond.fieldLink "HeirCases" (353 : Nat) "HeirCases$Rule" "guard" "LHeirCases$Guard;") ∈ lw_all := lw_g (lw_at lw_m5 18 rfl) rfl
theorem q1105 : (Jvm.Cond.fieldLink "HeirCases" (250 : Nat) "HeirCases$Rule" "factors" "I") ∈ lw_all := lw_g (lw_at lw_m5 20 rfl) rfl
theorem q1108 : (Jvm.Cond.fieldLink "HeirCases" (336 : Nat) "HeirCases$Rule" "shares" "[I") ∈ lw_all := lw_g (lw_at lw_m5 23 rfl) rfl
theorem q1112 : (Jvm.Cond.fieldLink "HeirCases" (253 : Nat) "HeirCases$Rule" "over" "I") ∈ lw_all := lw_g (lw_at lw_m5 27 rfl) rfl
theorem q1145 : (Jvm.Cond.methodLink "HeirCases" (69 : Nat) ({ cls := "HeirCases", name := "replaceAll", desc := "(LHeirCases$Will;)V" } : Jvm.MethodName)) ∈ lw_all := lw_g (lw_at lw_m5 60 rfl) rfl
theorem q1146 : (Jvm.Cond.privateMethod ({ cls := "HeirCases", name := "replaceAll", desc := "(LHeirCases$Will;)V" } : Jvm.MethodName)) ∈ lw_tbl := lw_at lw_m5 61 rfl
theorem q1147 : (Jvm.Cond.instanceMethod ({ cls := "HeirCases", name := "replaceAll", desc := "(LHeirCases$Will;)V" } : Jvm.MethodName)) ∈ lw_all := lw_g (lw_at lw_m5 62 rfl) rfl
theorem q1148 : (Jvm.Cond.code ({ cls := "HeirCases", name := "replaceAll", desc := "(LHeirCases$Will;)V" } : Jvm.MethodName) prog_1_method_7_code (2 : Nat) (Option.none : Option Jvm.ClassFile.FieldType)) ∈ lw_all := lw_g (lw_at lw_m5 63 rfl) rfl
theorem q1149 : (Jvm.Cond.methodLink "HeirCases" (86 : Nat) ({ cls := "java/util/ArrayDeque", name := "clear", desc := "()V" } : Jvm.MethodName)) ∈ lw_all := lw_g (lw_at lw_m5 64 rfl) rfl
theorem q1156 : (Jvm.Cond.classLink "HeirCases" (75 : Nat) "java/lang/IllegalStateException") ∈ lw_all := lw_g (lw_at lw_m5 71 rfl) rfl
theorem q1165 : (Jvm.Cond.stringRef "HeirCases" (77 : Nat) "a built-in text is wrong") ∈ lw_tbl := lw_at lw_m5 80 rfl
theorem q1166 : (Jvm.Cond.methodLink "HeirCases" (79 : Nat) ({ cls := "java/lang/IllegalStateException", name := "<init>", desc := "(Ljava/lang/String;)V" } : Jvm.MethodName)) ∈ lw_all := lw_g (lw_at lw_m5 81 rfl) rfl
theorem q1172 : (Jvm.Cond.fieldLink "HeirCases" (82 : Nat) "HeirCases" "will" "LHeirCases$Will;") ∈ lw_all := lw_g (lw_at lw_m5 87 rfl) rfl
theorem q1173 : (Jvm.Cond.fieldLink "HeirCases" (24 : Nat) "HeirCases" "past" "Ljava/util/ArrayDeque;") ∈ lw_all := lw_g (lw_at lw_m5 88 rfl) rfl
theorem q1174 : (Jvm.Cond.fieldLink "HeirCases" (32 : Nat) "HeirCases" "slots" "[LHeirCases$Will;") ∈ lw_all := lw_g (lw_at lw_m5 89 rfl) rfl
theorem q1175 : (Jvm.Cond.fieldLink "HeirCases" (39 : Nat) "HeirCases" "buffer" "Ljava/lang/StringBuilder;") ∈ lw_all := lw_g (lw_at lw_m5 90 rfl) rfl
theorem q1176 : (Jvm.Cond.fieldLink "HeirCases" (43 : Nat) "HeirCases" "report" "Ljava/lang/StringBuilder;") ∈ lw_all := lw_g (lw_at lw_m5 91 rfl) rfl
theorem q1177 : (Jvm.Cond.lays "HeirCases" "HeirCases" "will" "LHeirCases$Will;") ∈ lw_all := lw_g (lw_at lw_m5 92 rfl) rfl
theorem q1178 : (Jvm.Cond.soleField "HeirCases" "will") ∈ lw_all := lw_g (lw_at lw_m5 93 rfl) rfl
theorem q1179 : (Jvm.Cond.laysFinal "HeirCases" "HeirCases" "past" "Ljava/util/ArrayDeque;") ∈ lw_all := lw_g (lw_at lw_m5 94 rfl) rfl
theorem q1180 : (Jvm.Cond.soleField "HeirCases" "past") ∈ lw_all := lw_g (lw_at lw_m5 95 rfl) rfl
theorem q1181 : (Jvm.Cond.laysFinal "HeirCases" "HeirCases" "slots" "[LHeirCases$Will;") ∈ lw_all := lw_g (lw_at lw_m5 96 rfl) rfl
theorem q1182 : (Jvm.Cond.soleField "HeirCases" "slots") ∈ lw_all := lw_g (lw_at lw_m5 97 rfl) rfl
theorem q1183 : (Jvm.Cond.laysFinal "HeirCases" "HeirCases" "buffer" "Ljava/lang/StringBuilder;") ∈ lw_all := lw_g (lw_at lw_m5 98 rfl) rfl
theorem q1184 : (Jvm.Cond.soleField "HeirCases" "buffer") ∈ lw_all := lw_g (lw_at lw_m5 99 rfl) rfl
theorem q1185 : (Jvm.Cond.lays "HeirCases" "HeirCases" "report" "Ljava/lang/StringBuilder;") ∈ lw_all := lw_g (lw_at lw_m5 100 rfl) rfl
theorem q1186 : (Jvm.Cond.soleField "HeirCases" "report") ∈ lw_all := lw_g (lw_at lw_m5 101 rfl) rfl
theorem q1187 : (Jvm.Cond.superclass "HeirCases" "java/lang/Object") ∈ lw_all := lw_g (lw_at lw_m5 102 rfl) rfl
theorem q1189 : (Jvm.Cond.instanceMethod ({ cls := "HeirCases", name := "append", desc := "(IIIII)I" } : Jvm.MethodName)) ∈ lw_all := lw_g (lw_at lw_m5 104 rfl) rfl
theorem q1190 : (Jvm.Cond.selects "HeirCases" ({ cls := "HeirCases", name := "append", desc := "(IIIII)I" } : Jvm.MethodName) ({ cls := "HeirCases", name := "append", desc := "(IIIII)I" } : Jvm.MethodName)) ∈ lw_all := lw_g (lw_at lw_m5 105 rfl) rfl
theorem q1191 : (Jvm.Cond.code ({ cls := "HeirCases", name := "append", desc := "(IIIII)I" } : Jvm.MethodName) prog_1_method_16_code (6 : Nat) (Option.some Jvm.ClassFile.FieldType.int)) ∈ lw_all := lw_g (lw_at lw_m5 106 rfl) rfl
theorem q1192 : (Jvm.Cond.methodLink "HeirCases" (143 : Nat) ({ cls := "java/lang/StringBuilder", name := "length", desc := "()I" } : Jvm.MethodName)) ∈ lw_all := lw_g (lw_at lw_m5 107 rfl) rfl
theorem q1193 : (Jvm.Cond.methodLink "HeirCases" (144 : Nat) ({ cls := "HeirCases", name := "appendWords", desc := "([I)V" } : Jvm.MethodName)) ∈ lw_all := lw_g (lw_at lw_m5 108 rfl) rfl
theorem q1194 : (Jvm.Cond.privateMethod ({ cls := "HeirCases", name := "appendWords", desc := "([I)V" } : Jvm.MethodName)) ∈ lw_tbl := lw_at lw_m5 109 rfl
theorem q1195 : (Jvm.Cond.instanceMethod ({ cls := "HeirCases", name := "appendWords", desc := "([I)V" } : Jvm.MethodName)) ∈ lw_all := lw_g (lw_at lw_m5 110 rfl) rfl
theorem q1196 : (Jvm.Cond.code ({ cls := "HeirCases", name := "appendWords", desc := "([I)V" } : Jvm.MethodName) prog_1_method_17_code (4 : Nat) (Option.none : Option Jvm.ClassFile.FieldType)) ∈ lw_all := lw_g (lw_at lw_m5 111 rfl) rfl
theorem q1197 : (Jvm.Cond.methodLink "HeirCases" (148 : Nat) ({ cls := "java/lang/StringBuilder", name := "append", desc := "(C)Ljava/lang/StringBuilder;" } : Jvm.MethodName)) ∈ lw_all := lw_g (lw_at lw_m5 112 rfl) rfl
theorem q1211 : (Jvm.Cond.instanceMethod ({ cls := "HeirCases", name := "isClosed", desc := "()Z" } : Jvm.MethodName)) ∈ lw_all := lw_g (lw_at lw_m5 126 rfl) rfl
theorem q1212 : (Jvm.Cond.selects "HeirCases" ({ cls := "HeirCases", name := "isClosed", desc := "()Z" } : Jvm.MethodName) ({ cls := "HeirCases", name := "isClosed", desc := "()Z" } : Jvm.MethodName)) ∈ lw_all := lw_g (lw_at lw_m5 127 rfl) rfl
theorem q1213 : (Jvm.Cond.code ({ cls := "HeirCases", name := "isClosed", desc := "()Z" } : Jvm.MethodName) prog_1_method_38_code (1 : Nat) (Option.some Jvm.ClassFile.FieldType.boolean)) ∈ lw_all := lw_g (lw_at lw_m5 128 rfl) rfl
theorem q1214 : (Jvm.Cond.methodLink "HeirCases" (286 : Nat) ({ cls := "HeirCases$Will", name := "gaps", desc := "()I" } : Jvm.MethodName)) ∈ lw_all := lw_g (lw_at lw_m5 129 rfl) rfl
theorem q1241 : (Jvm.Cond.fieldLink "HeirCases" (192 : Nat) "HeirCases$Finding" "row" "[I") ∈ lw_all := lw_g (lw_at lw_m5 156 rfl) rfl
theorem q1243 : (Jvm.Cond.fieldLink "HeirCases" (233 : Nat) "HeirCases$Finding" "applying" "I") ∈ lw_all := lw_g (lw_at lw_m5 158 rfl) rfl
theorem q1245 : (Jvm.Cond.fieldLink "HeirCases" (236 : Nat) "HeirCases$Finding" "unbeaten" "I") ∈ lw_all := lw_g (lw_at lw_m5 160 rfl) rfl
theorem q1247 : (Jvm.Cond.fieldLink "HeirCases" (197 : Nat) "HeirCases$Finding" "verdict" "I") ∈ lw_all := lw_g (lw_at lw_m5 162 rfl) rfl
theorem q1250 : (Jvm.Cond.fieldLink "HeirCases" (265 : Nat) "HeirCases$Finding" "settledBy" "I") ∈ lw_all := lw_g (lw_at lw_m5 165 rfl) rfl
theorem q1332 : (Jvm.Cond.instanceMethod ({ cls := "HeirCases", name := "needed", desc := "()I" } : Jvm.MethodName)) ∈ lw_all := lw_g (lw_at lw_m6 7 rfl) rfl
theorem q1333 : (Jvm.Cond.selects "HeirCases" ({ cls := "HeirCases", name := "needed", desc := "()I" } : Jvm.MethodName) ({ cls := "HeirCases", name := "needed", desc := "()I" } : Jvm.MethodName)) ∈ lw_all := lw_g (lw_at lw_m6 8 rfl) rfl
theorem q1334 : (Jvm.Cond.code ({ cls := "HeirCases", name := "needed", desc := "()I" } : Jvm.MethodName) prog_1_method_42_code (5 : Nat) (Option.some Jvm.ClassFile.FieldType.int)) ∈ lw_all := lw_g (lw_at lw_m6 9 rfl) rfl
theorem q1335 : (Jvm.Cond.methodLink "HeirCases" (298 : Nat) ({ cls := "HeirCases$Will", name := "unsettled", desc := "()I" } : Jvm.MethodName)) ∈ lw_all := lw_g (lw_at lw_m6 10 rfl) rfl
theorem q1339 : (Jvm.Cond.methodLink "HeirCases" (122 : Nat) ({ cls := "java/util/ArrayList", name := "size", desc := "()I" } : Jvm.MethodName)) ∈ lw_all := lw_g (lw_at lw_m6 14 rfl) rfl
theorem q1340 : (Jvm.Cond.static ({ cls := "HeirCases", name := "lambda$needed$7", desc := "(ILHeirCases$Will;)V" } : Jvm.MethodName)) ∈ lw_all := lw_g (lw_at lw_m6 15 rfl) rfl
theorem q1341 : (Jvm.Cond.code ({ cls := "HeirCases", name := "lambda$needed$7", desc := "(ILHeirCases$Will;)V" } : Jvm.MethodName) prog_1_method_79_code (2 : Nat) (Option.none : Option Jvm.ClassFile.FieldType)) ∈ lw_all := lw_g (lw_at lw_m6 16 rfl) rfl
theorem q1342 : (Jvm.Cond.methodLink "HeirCases" (392 : Nat) ({ cls := "HeirCases$Will", name := "drop", desc := "(I)V" } : Jvm.MethodName)) ∈ lw_all := lw_g (lw_at lw_m6 17 rfl) rfl
theorem q1355 : (Jvm.Cond.methodLink "HeirCases" (304 : Nat) ({ cls := "HeirCases", name := "after", desc := "(LHeirCases$Deed;)LHeirCases$Will;" } : Jvm.MethodName)) ∈ lw_all := lw_g (lw_at lw_m6 30 rfl) rfl
theorem q1356 : (Jvm.Cond.privateMethod ({ cls := "HeirCases", name := "after", desc := "(LHeirCases$Deed;)LHeirCases$Will;" } : Jvm.MethodName)) ∈ lw_tbl := lw_at lw_m6 31 rfl
theorem q1357 : (Jvm.Cond.instanceMethod ({ cls := "HeirCases", name := "after", desc := "(LHeirCases$Deed;)LHeirCases$Will;" } : Jvm.MethodName)) ∈ lw_all := lw_g (lw_at lw_m6 32 rfl) rfl
theorem q1358 : (Jvm.Cond.code ({ cls := "HeirCases", name := "after", desc := "(LHeirCases$Deed;)LHeirCases$Will;" } : Jvm.MethodName) prog_1_method_41_code (3 : Nat) (Option.some (Jvm.ClassFile.FieldType.object "HeirCases$Will"))) ∈ lw_all := lw_g (lw_at lw_m6 33 rfl) rfl
theorem q1359 : (Jvm.Cond.methodLink "HeirCases" (100 : Nat) ({ cls := "HeirCases$Will", name := "duplicate", desc := "()LHeirCases$Will;" } : Jvm.MethodName)) ∈ lw_all := lw_g (lw_at lw_m6 34 rfl) rfl
theorem q1374 : (Jvm.Cond.interfaceEntry "HeirCases" (293 : Nat)) ∈ lw_tbl := lw_at lw_m6 49 rfl
theorem q1375 : (Jvm.Cond.methodLink "HeirCases" (293 : Nat) ({ cls := "HeirCases$Deed", name := "in", desc := "(LHeirCases$Will;)V" } : Jvm.MethodName)) ∈ lw_all := lw_g (lw_at lw_m6 50 rfl) rfl
theorem q1379 : (Jvm.Cond.instanceMethod ({ cls := "HeirCases", name := "idle", desc := "()I" } : Jvm.MethodName)) ∈ lw_all := lw_g (lw_at lw_m6 54 rfl) rfl
theorem q1380 : (Jvm.Cond.selects "HeirCases" ({ cls := "HeirCases", name := "idle", desc := "()I" } : Jvm.MethodName) ({ cls := "HeirCases", name := "idle", desc := "()I" } : Jvm.MethodName)) ∈ lw_all := lw_g (lw_at lw_m6 55 rfl) rfl
theorem q1381 : (Jvm.Cond.code ({ cls := "HeirCases", name := "idle", desc := "()I" } : Jvm.MethodName) prog_1_method_43_code (5 : Nat) (Option.some Jvm.ClassFile.FieldType.int)) ∈ lw_all := lw_g (lw_at lw_m6 56 rfl) rfl
theorem q1382 : (Jvm.Cond.methodLink "HeirCases" (112 : Nat) ({ cls := "HeirCases$Will", name := "cases", desc := "()I" } : Jvm.MethodName)) ∈ lw_all := lw_g (lw_at lw_m6 57 rfl) rfl
theorem q1383 : (Jvm.Cond.methodLink "HeirCases" (188 : Nat) ({ cls := "HeirCases$Will", name := "look", desc := "(I)LHeirCases$Finding;" } : Jvm.MethodName)) ∈ lw_all := lw_g (lw_at lw_m6 58 rfl) rfl
theorem q1385 : (Jvm.Cond.instanceMethod ({ cls := "HeirCases", name := "patch", desc := "()I" } : Jvm.MethodName)) ∈ lw_all := lw_g (lw_at lw_m6 60 rfl) rfl
theorem q1386 : (Jvm.Cond.selects "HeirCases" ({ cls := "HeirCases", name := "patch", desc := "()I" } : Jvm.MethodName) ({ cls := "HeirCases", name := "patch", desc := "()I" } : Jvm.MethodName)) ∈ lw_all := lw_g (lw_at lw_m6 61 rfl) rfl
theorem q1387 : (Jvm.Cond.code ({ cls := "HeirCases", name := "patch", desc := "()I" } : Jvm.MethodName) prog_1_method_47_code (7 : Nat) (Option.some Jvm.ClassFile.FieldType.int)) ∈ lw_all := lw_g (lw_at lw_m6 62 rfl) rfl
theorem q1388 : (Jvm.Cond.classLink "HeirCases" (312 : Nat) "HeirCases$Comparison") ∈ lw_all := lw_g (lw_at lw_m6 63 rfl) rfl
theorem q1389 : (Jvm.Cond.methodLink "HeirCases" (314 : Nat) ({ cls := "HeirCases$Comparison", name := "<init>", desc := "(ICI)V" } : Jvm.MethodName)) ∈ lw_all := lw_g (lw_at lw_m6 64 rfl) rfl
theorem q1390 : (Jvm.Cond.privateMethod ({ cls := "HeirCases", name := "lambda$patch$10", desc := "(LHeirCases$Comparison;I)I" } : Jvm.MethodName)) ∈ lw_tbl := lw_at lw_m6 65 rfl
theorem q1391 : (Jvm.Cond.instanceMethod ({ cls := "HeirCases", name := "lambda$patch$10", desc := "(LHeirCases$Comparison;I)I" } : Jvm.MethodName)) ∈ lw_all := lw_g (lw_at lw_m6 66 rfl) rfl
theorem q1392 : (Jvm.Cond.code ({ cls := "HeirCases", name := "lambda$patch$10", desc := "(LHeirCases$Comparison;I)I" } : Jvm.MethodName) prog_1_method_76_code (3 : Nat) (Option.some Jvm.ClassFile.FieldType.int)) ∈ lw_all := lw_g (lw_at lw_m6 67 rfl) rfl
theorem q1393 : (Jvm.Cond.methodLink "HeirCases" (431 : Nat) ({ cls := "HeirCases", name := "isGap", desc := "(I)Z" } : Jvm.MethodName)) ∈ lw_all := lw_g (lw_at lw_m6 68 rfl) rfl
theorem q1394 : (Jvm.Cond.privateMethod ({ cls := "HeirCases", name := "isGap", desc := "(I)Z" } : Jvm.MethodName)) ∈ lw_tbl := lw_at lw_m6 69 rfl
theorem q1395 : (Jvm.Cond.instanceMethod ({ cls := "HeirCases", name := "isGap", desc := "(I)Z" } : Jvm.MethodName)) ∈ lw_all := lw_g (lw_at lw_m6 70 rfl) rfl
theorem q1396 : (Jvm.Cond.code ({ cls := "HeirCases", name := "isGap", desc := "(I)Z" } : Jvm.MethodName) prog_1_method_46_code (3 : Nat) (Option.some Jvm.ClassFile.FieldType.boolean)) ∈ lw_all := lw_g (lw_at lw_m6 71 rfl) rfl
theorem q1397 : (Jvm.Cond.methodLink "HeirCases" (434 : Nat) ({ cls := "HeirCases$Comparison", name := "holds", desc := "([I)Z" } : Jvm.MethodName)) ∈ lw_all := lw_g (lw_at lw_m6 72 rfl) rfl
theorem q1398 : (Jvm.Cond.methodLink "HeirCases" (244 : Nat) ({ cls := "HeirCases", name := "sum", desc := "(LHeirCases$OfCase;)I" } : Jvm.MethodName)) ∈ lw_all := lw_g (lw_at lw_m6 73 rfl) rfl
theorem q1399 : (Jvm.Cond.privateMethod ({ cls := "HeirCases", name := "sum", desc := "(LHeirCases$OfCase;)I" } : Jvm.MethodName)) ∈ lw_tbl := lw_at lw_m6 74 rfl
theorem q1400 : (Jvm.Cond.instanceMethod ({ cls := "HeirCases", name := "sum", desc := "(LHeirCases$OfCase;)I" } : Jvm.MethodName)) ∈ lw_all := lw_g (lw_at lw_m6 75 rfl) rfl
theorem q1401 : (Jvm.Cond.code ({ cls := "HeirCases", name := "sum", desc := "(LHeirCases$OfCase;)I" } : Jvm.MethodName) prog_1_method_26_code (5 : Nat) (Option.some Jvm.ClassFile.FieldType.int)) ∈ lw_all := lw_g (lw_at lw_m6 76 rfl) rfl
theorem q1402 : (Jvm.Cond.interfaceEntry "HeirCases" (200 : Nat)) ∈ lw_tbl := lw_at lw_m6 77 rfl
theorem q1403 : (Jvm.Cond.methodLink "HeirCases" (200 : Nat) ({ cls := "HeirCases$OfCase", name := "of", desc := "(I)I" } : Jvm.MethodName)) ∈ lw_all := lw_g (lw_at lw_m6 78 rfl) rfl
theorem q1407 : (Jvm.Cond.instanceMethod ({ cls := "HeirCases", name := "dearest", desc := "()I" } : Jvm.MethodName)) ∈ lw_all := lw_g (lw_at lw_m6 82 rfl) rfl
theorem q1408 : (Jvm.Cond.selects "HeirCases" ({ cls := "HeirCases", name := "dearest", desc := "()I" } : Jvm.MethodName) ({ cls := "HeirCases", name := "dearest", desc := "()I" } : Jvm.MethodName)) ∈ lw_all := lw_g (lw_at lw_m6 83 rfl) rfl
theorem q1409 : (Jvm.Cond.code ({ cls := "HeirCases", name := "dearest", desc := "()I" } : Jvm.MethodName) prog_1_method_52_code (4 : Nat) (Option.some Jvm.ClassFile.FieldType.int)) ∈ lw_all := lw_g (lw_at lw_m6 84 rfl) rfl
theorem q1410 : (Jvm.Cond.privateMethod ({ cls := "HeirCases", name := "lambda$dearest$11", desc := "(I)I" } : Jvm.MethodName)) ∈ lw_tbl := lw_at lw_m6 85 rfl
theorem q1411 : (Jvm.Cond.instanceMethod ({ cls := "HeirCases", name := "lambda$dearest$11", desc := "(I)I" } : Jvm.MethodName)) ∈ lw_all := lw_g (lw_at lw_m6 86 rfl) rfl
theorem q1412 : (Jvm.Cond.code ({ cls := "HeirCases", name := "lambda$dearest$11", desc := "(I)I" } : Jvm.MethodName) prog_1_method_75_code (2 : Nat) (Option.some Jvm.ClassFile.FieldType.int)) ∈ lw_all := lw_g (lw_at lw_m6 87 rfl) rfl
theorem q1413 : (Jvm.Cond.methodLink "HeirCases" (328 : Nat) ({ cls := "HeirCases$Will", name := "duties", desc := "(I)I" } : Jvm.MethodName)) ∈ lw_all := lw_g (lw_at lw_m6 88 rfl) rfl
theorem q1430 : (Jvm.Cond.methodLink "HeirCases" (224 : Nat) ({ cls := "HeirCases", name := "overSettled", desc := "(LHeirCases$OfCase;I)I" } : Jvm.MethodName)) ∈ lw_all := lw_g (lw_at lw_m6 105 rfl) rfl
theorem q1431 : (Jvm.Cond.privateMethod ({ cls := "HeirCases", name := "overSettled", desc := "(LHeirCases$OfCase;I)I" } : Jvm.MethodName)) ∈ lw_tbl := lw_at lw_m6 106 rfl
theorem q1432 : (Jvm.Cond.instanceMethod ({ cls := "HeirCases", name := "overSettled", desc := "(LHeirCases$OfCase;I)I" } : Jvm.MethodName)) ∈ lw_all := lw_g (lw_at lw_m6 107 rfl) rfl
theorem q1433 : (Jvm.Cond.code ({ cls := "HeirCases", name := "overSettled", desc := "(LHeirCases$OfCase;I)I" } : Jvm.MethodName) prog_1_method_24_code (7 : Nat) (Option.some Jvm.ClassFile.FieldType.int)) ∈ lw_all := lw_g (lw_at lw_m6 108 rfl) rfl
theorem q1435 : (Jvm.Cond.instanceMethod ({ cls := "HeirCases", name := "gap", desc := "()I" } : Jvm.MethodName)) ∈ lw_all := lw_g (lw_at lw_m6 110 rfl) rfl
theorem q1436 : (Jvm.Cond.selects "HeirCases" ({ cls := "HeirCases", name := "gap", desc := "()I" } : Jvm.MethodName) ({ cls := "HeirCases", name := "gap", desc := "()I" } : Jvm.MethodName)) ∈ lw_all := lw_g (lw_at lw_m6 111 rfl) rfl
theorem q1437 : (Jvm.Cond.code ({ cls := "HeirCases", name := "gap", desc := "()I" } : Jvm.MethodName) prog_1_method_54_code (1 : Nat) (Option.some Jvm.ClassFile.FieldType.int)) ∈ lw_all := lw_g (lw_at lw_m6 112 rfl) rfl
theorem q1438 : (Jvm.Cond.privateMethod ({ cls := "HeirCases", name := "left", desc := "(I)I" } : Jvm.MethodName)) ∈ lw_tbl := lw_at lw_m6 113 rfl
theorem q1439 : (Jvm.Cond.instanceMethod ({ cls := "HeirCases", name := "left", desc := "(I)I" } : Jvm.MethodName)) ∈ lw_all := lw_g (lw_at lw_m6 114 rfl) rfl
theorem q1440 : (Jvm.Cond.code ({ cls := "HeirCases", name := "left", desc := "(I)I" } : Jvm.MethodName) prog_1_method_53_code (4 : Nat) (Option.some Jvm.ClassFile.FieldType.int)) ∈ lw_all := lw_g (lw_at lw_m6 115 rfl) rfl
theorem q1441 : (Jvm.Cond.methodLink "HeirCases" (214 : Nat) ({ cls := "HeirCases$Will", name := "gets", desc := "(II)I" } : Jvm.MethodName)) ∈ lw_all := lw_g (lw_at lw_m6 116 rfl) rfl
theorem q1443 : (Jvm.Cond.instanceMethod ({ cls := "HeirCases", name := "settledShare", desc := "()F" } : Jvm.MethodName)) ∈ lw_all := lw_g (lw_at lw_m6 118 rfl) rfl
theorem q1444 : (Jvm.Cond.selects "HeirCases" ({ cls := "HeirCases", name := "settledShare", desc := "()F" } : Jvm.MethodName) ({ cls := "HeirCases", name := "settledShare", desc := "()F" } : Jvm.MethodName)) ∈ lw_all := lw_g (lw_at lw_m6 119 rfl) rfl
theorem q1445 : (Jvm.Cond.code ({ cls := "HeirCases", name := "settledShare", desc := "()F" } : Jvm.MethodName) prog_1_method_55_code (1 : Nat) (Option.some Jvm.ClassFile.FieldType.float)) ∈ lw_all := lw_g (lw_at lw_m6 120 rfl) rfl
theorem q1446 : (Jvm.Cond.methodLink "HeirCases" (178 : Nat) ({ cls := "HeirCases$Will", name := "withVerdict", desc := "(I)I" } : Jvm.MethodName)) ∈ lw_all := lw_g (lw_at lw_m6 121 rfl) rfl
theorem q1448 : (Jvm.Cond.instanceMethod ({ cls := "HeirCases", name := "meanDuties", desc := "()D" } : Jvm.MethodName)) ∈ lw_all := lw_g (lw_at lw_m6 123 rfl) rfl
theorem q1449 : (Jvm.Cond.selects "HeirCases" ({ cls := "HeirCases", name := "meanDuties", desc := "()D" } : Jvm.MethodName) ({ cls := "HeirCases", name := "meanDuties", desc := "()D" } : Jvm.MethodName)) ∈ lw_all := lw_g (lw_at lw_m6 124 rfl) rfl
theorem q1450 : (Jvm.Cond.code ({ cls := "HeirCases", name := "meanDuties", desc := "()D" } : Jvm.MethodName) prog_1_method_56_code (3 : Nat) (Option.some Jvm.ClassFile.FieldType.double)) ∈ lw_all := lw_g (lw_at lw_m6 125 rfl) rfl
theorem q1451 : (Jvm.Cond.privateMethod ({ cls := "HeirCases", name := "lambda$meanDuties$12", desc := "(I)I" } : Jvm.MethodName)) ∈ lw_tbl := lw_at lw_m6 126 rfl
theorem q1452 : (Jvm.Cond.instanceMethod ({ cls := "HeirCases", name := "lambda$meanDuties$12", desc := "(I)I" } : Jvm.MethodName)) ∈ lw_all := lw_g (lw_at lw_m6 127 rfl) rfl
theorem q1453 : (Jvm.Cond.code ({ cls := "HeirCases", name := "lambda$meanDuties$12", desc := "(I)I" } : Jvm.MethodName) prog_1_method_74_code (2 : Nat) (Option.some Jvm.ClassFile.FieldType.int)) ∈ lw_all := lw_g (lw_at lw_m6 128 rfl) rfl
theorem q1455 : (Jvm.Cond.instanceMethod ({ cls := "HeirCases", name := "writeVerdicts", desc := "()I" } : Jvm.MethodName)) ∈ lw_all := lw_g (lw_at lw_m6 130 rfl) rfl
theorem q1456 : (Jvm.Cond.selects "HeirCases" ({ cls := "HeirCases", name := "writeVerdicts", desc := "()I" } : Jvm.MethodName) ({ cls := "HeirCases", name := "writeVerdicts", desc := "()I" } : Jvm.MethodName)) ∈ lw_all := lw_g (lw_at lw_m6 131 rfl) rfl
theorem q1457 : (Jvm.Cond.code ({ cls := "HeirCases", name := "writeVerdicts", desc := "()I" } : Jvm.MethodName) prog_1_method_60_code (3 : Nat) (Option.some Jvm.ClassFile.FieldType.int)) ∈ lw_all := lw_g (lw_at lw_m6 132 rfl) rfl
theorem q1458 : (Jvm.Cond.methodLink "HeirCases" (378 : Nat) ({ cls := "HeirCases", name := "signOf", desc := "(LHeirCases$Finding;)Ljava/lang/String;" } : Jvm.MethodName)) ∈ lw_all := lw_g (lw_at lw_m6 133 rfl) rfl
theorem q1459 : (Jvm.Cond.static ({ cls := "HeirCases", name := "signOf", desc := "(LHeirCases$Finding;)Ljava/lang/String;" } : Jvm.MethodName)) ∈ lw_all := lw_g (lw_at lw_m6 134 rfl) rfl
theorem q1460 : (Jvm.Cond.code ({ cls := "HeirCases", name := "signOf", desc := "(LHeirCases$Finding;)Ljava/lang/String;" } : Jvm.MethodName) prog_1_method_59_code (1 : Nat) (Option.some (Jvm.ClassFile.FieldType.object "java/lang/String"))) ∈ lw_all := lw_g (lw_at lw_m6 135 rfl) rfl
theorem q1461 : (Jvm.Cond.methodLink "HeirCases" (371 : Nat) ({ cls := "java/lang/String", name := "valueOf", desc := "(I)Ljava/lang/String;" } : Jvm.MethodName)) ∈ lw_all := lw_g (lw_at lw_m6 136 rfl) rfl
theorem q1473 : (Jvm.Cond.stringRef "HeirCases" (374 : Nat) "!") ∈ lw_tbl := lw_at lw_m6 148 rfl
theorem q1474 : (Jvm.Cond.stringRef "HeirCases" (376 : Nat) "?") ∈ lw_tbl := lw_at lw_m6 149 rfl
theorem q1475 : (Jvm.Cond.methodLink "HeirCases" (343 : Nat) ({ cls := "java/lang/StringBuilder", name := "append", desc := "(Ljava/lang/String;)Ljava/lang/StringBuilder;" } : Jvm.MethodName)) ∈ lw_all := lw_g (lw_at lw_m6 150 rfl) rfl
theorem q1477 : (Jvm.Cond.instanceMethod ({ cls := "HeirCases", name := "reportAt", desc := "(I)C" } : Jvm.MethodName)) ∈ lw_all := lw_g (lw_at lw_m6 152 rfl) rfl
theorem q1478 : (Jvm.Cond.selects "HeirCases" ({ cls := "HeirCases", name := "reportAt", desc := "(I)C" } : Jvm.MethodName) ({ cls := "HeirCases", name := "reportAt", desc := "(I)C" } : Jvm.MethodName)) ∈ lw_all := lw_g (lw_at lw_m6 153 rfl) rfl
theorem q1479 : (Jvm.Cond.code ({ cls := "HeirCases", name := "reportAt", desc := "(I)C" } : Jvm.MethodName) prog_1_method_61_code (2 : Nat) (Option.some Jvm.ClassFile.FieldType.char)) ∈ lw_all := lw_g (lw_at lw_m6 154 rfl) rfl
theorem q1480 : (Jvm.Cond.methodLink "HeirCases" (382 : Nat) ({ cls := "java/lang/StringBuilder", name := "charAt", desc := "(I)C" } : Jvm.MethodName)) ∈ lw_all := lw_g (lw_at lw_m6 155 rfl) rfl
theorem q1482 : (Jvm.Cond.instanceMethod ({ cls := "HeirCases", name := "undo", desc := "()I" } : Jvm.MethodName)) ∈ lw_all := lw_g (lw_at lw_m6 157 rfl) rfl
theorem q1483 : (Jvm.Cond.selects "HeirCases" ({ cls := "HeirCases", name := "undo", desc := "()I" } : Jvm.MethodName) ({ cls := "HeirCases", name := "undo", desc := "()I" } : Jvm.MethodName)) ∈ lw_all := lw_g (lw_at lw_m6 158 rfl) rfl
theorem q1484 : (Jvm.Cond.code ({ cls := "HeirCases", name := "undo", desc := "()I" } : Jvm.MethodName) prog_1_method_70_code (1 : Nat) (Option.some Jvm.ClassFile.FieldType.int)) ∈ lw_all := lw_g (lw_at lw_m6 159 rfl) rfl
theorem q1485 : (Jvm.Cond.methodLink "HeirCases" (405 : Nat) ({ cls := "java/util/ArrayDeque", name := "isEmpty", desc := "()Z" } : Jvm.MethodName)) ∈ lw_all := lw_g (lw_at lw_m6 160 rfl) rfl
theorem q1489 : (Jvm.Cond.methodLink "HeirCases" (409 : Nat) ({ cls := "java/util/ArrayDeque", name := "removeLast", desc := "()Ljava/lang/Object;" } : Jvm.MethodName)) ∈ lw_all := lw_g (lw_at lw_m6 164 rfl) rfl
theorem q1521 : (Jvm.Cond.methodLink "HeirCases" (93 : Nat) ({ cls := "java/util/ArrayDeque", name := "size", desc := "()I" } : Jvm.MethodName)) ∈ lw_all := lw_g (lw_at lw_m6 196 rfl) rfl
theorem q1529 : (Jvm.Cond.instanceMethod ({ cls := "HeirCases", name := "checksum", desc := "()J" } : Jvm.MethodName)) ∈ lw_all := lw_g (lw_at lw_m6 204 rfl) rfl
theorem q1530 : (Jvm.Cond.selects "HeirCases" ({ cls := "HeirCases", name := "checksum", desc := "()J" } : Jvm.MethodName) ({ cls := "HeirCases", name := "checksum", desc := "()J" } : Jvm.MethodName)) ∈ lw_all := lw_g (lw_at lw_m6 205 rfl) rfl
theorem q1531 : (Jvm.Cond.code ({ cls := "HeirCases", name := "checksum", desc := "()J" } : Jvm.MethodName) prog_1_method_73_code (5 : Nat) (Option.some Jvm.ClassFile.FieldType.long)) ∈ lw_all := lw_g (lw_at lw_m6 206 rfl) rfl
theorem q1532 : (Jvm.Cond.constantLong "HeirCases" (413 : Nat) (31 : Int64)) ∈ lw_all := lw_g (lw_at lw_m6 207 rfl) rfl
theorem q1533 : (Jvm.Cond.methodLink "HeirCases" (415 : Nat) ({ cls := "HeirCases", name := "size", desc := "(I)I" } : Jvm.MethodName)) ∈ lw_all := lw_g (lw_at lw_m6 208 rfl) rfl
theorem q1534 : (Jvm.Cond.instanceMethod ({ cls := "HeirCases", name := "size", desc := "(I)I" } : Jvm.MethodName)) ∈ lw_all := lw_g (lw_at lw_m6 209 rfl) rfl
theorem q1535 : (Jvm.Cond.selects "HeirCases" ({ cls := "HeirCases", name := "size", desc := "(I)I" } : Jvm.MethodName) ({ cls := "HeirCases", name := "size", desc := "(I)I" } : Jvm.MethodName)) ∈ lw_all := lw_g (lw_at lw_m6 210 rfl) rfl
theorem q1536 : (Jvm.Cond.code ({ cls := "HeirCases", name := "size", desc := "(I)I" } : Jvm.MethodName) prog_1_method_21_code (2 : Nat) (Option.some Jvm.ClassFile.FieldType.int)) ∈ lw_all := lw_g (lw_at lw_m6 211 rfl) rfl
theorem q1537 : (Jvm.Cond.methodLink "HeirCases" (158 : Nat) ({ cls := "HeirCases", name := "check", desc := "(III)V" } : Jvm.MethodName)) ∈ lw_all := lw_g (lw_at lw_m6 212 rfl) rfl
theorem q1538 : (Jvm.Cond.static ({ cls := "HeirCases", name := "check", desc := "(III)V" } : Jvm.MethodName)) ∈ lw_all := lw_g (lw_at lw_m6 213 rfl) rfl
theorem q1539 : (Jvm.Cond.code ({ cls := "HeirCases", name := "check", desc := "(III)V" } : Jvm.MethodName) prog_1_method_10_code (3 : Nat) (Option.none : Option Jvm.ClassFile.FieldType)) ∈ lw_all := lw_g (lw_at lw_m6 214 rfl) rfl
theorem q1540 : (Jvm.Cond.classLink "HeirCases" (106 : Nat) "java/lang/IllegalArgumentException") ∈ lw_all := lw_g (lw_at lw_m6 215 rfl) rfl
theorem q1541 : (Jvm.Cond.methodLink "HeirCases" (108 : Nat) ({ cls := "java/lang/IllegalArgumentException", name := "<init>", desc := "()V" } : Jvm.MethodName)) ∈ lw_all := lw_g (lw_at lw_m6 216 rfl) rfl
theorem q1545 : (Jvm.Cond.methodLink "HeirCases" (417 : Nat) ({ cls := "HeirCases", name := "heir", desc := "(II)I" } : Jvm.MethodName)) ∈ lw_all := lw_g (lw_at lw_m6 220 rfl) rfl
theorem q1546 : (Jvm.Cond.instanceMethod ({ cls := "HeirCases", name := "heir", desc := "(II)I" } : Jvm.MethodName)) ∈ lw_all := lw_g (lw_at lw_m6 221 rfl) rfl
theorem q1547 : (Jvm.Cond.selects "HeirCases" ({ cls := "HeirCases", name := "heir", desc := "(II)I" } : Jvm.MethodName) ({ cls := "HeirCases", name := "heir", desc := "(II)I" } : Jvm.MethodName)) ∈ lw_all := lw_g (lw_at lw_m6 222 rfl) rfl
theorem q1548 : (Jvm.Cond.code ({ cls := "HeirCases", name := "heir", desc := "(II)I" } : Jvm.MethodName) prog_1_method_25_code (3 : Nat) (Option.some Jvm.ClassFile.FieldType.int)) ∈ lw_all := lw_g (lw_at lw_m6 223 rfl) rfl
theorem q1549 : (Jvm.Cond.methodLink "HeirCases" (205 : Nat) ({ cls := "HeirCases", name := "checkHeir", desc := "(I)V" } : Jvm.MethodName)) ∈ lw_all := lw_g (lw_at lw_m6 224 rfl) rfl
theorem q1550 : (Jvm.Cond.privateMethod ({ cls := "HeirCases", name := "checkHeir", desc := "(I)V" } : Jvm.MethodName)) ∈ lw_tbl := lw_at lw_m6 225 rfl
theorem q1551 : (Jvm.Cond.instanceMethod ({ cls := "HeirCases", name := "checkHeir", desc := "(I)V" } : Jvm.MethodName)) ∈ lw_all := lw_g (lw_at lw_m6 226 rfl) rfl
theorem q1552 : (Jvm.Cond.code ({ cls := "HeirCases", name := "checkHeir", desc := "(I)V" } : Jvm.MethodName) prog_1_method_14_code (2 : Nat) (Option.none : Option Jvm.ClassFile.FieldType)) ∈ lw_all := lw_g (lw_at lw_m6 227 rfl) rfl
theorem q1553 : (Jvm.Cond.methodLink "HeirCases" (125 : Nat) ({ cls := "HeirCases", name := "checkIndex", desc := "(II)V" } : Jvm.MethodName)) ∈ lw_all := lw_g (lw_at lw_m6 228 rfl) rfl
theorem q1554 : (Jvm.Cond.static ({ cls := "HeirCases", name := "checkIndex", desc := "(II)V" } : Jvm.MethodName)) ∈ lw_all := lw_g (lw_at lw_m6 229 rfl) rfl
theorem q1555 : (Jvm.Cond.code ({ cls := "HeirCases", name := "checkIndex", desc := "(II)V" } : Jvm.MethodName) prog_1_method_11_code (2 : Nat) (Option.none : Option Jvm.ClassFile.FieldType)) ∈ lw_all := lw_g (lw_at lw_m6 230 rfl) rfl
theorem q1556 : (Jvm.Cond.classLink "HeirCases" (109 : Nat) "java/lang/IndexOutOfBoundsException") ∈ lw_all := lw_g (lw_at lw_m6 231 rfl) rfl
theorem q1565 : (Jvm.Cond.methodLink "HeirCases" (111 : Nat) ({ cls := "java/lang/IndexOutOfBoundsException", name := "<init>", desc := "()V" } : Jvm.MethodName)) ∈ lw_all := lw_g (lw_at lw_m7 0 rfl) rfl
theorem q1571 : (Jvm.Cond.methodLink "HeirCases" (218 : Nat) ({ cls := "HeirCases$Will", name := "duty", desc := "(II)I" } : Jvm.MethodName)) ∈ lw_all := lw_g (lw_at lw_m7 6 rfl) rfl
theorem q1572 : (Jvm.Cond.privateMethod ({ cls := "HeirCases", name := "lambda$heir$0", desc := "(II)I" } : Jvm.MethodName)) ∈ lw_tbl := lw_at lw_m7 7 rfl
theorem q1573 : (Jvm.Cond.instanceMethod ({ cls := "HeirCases", name := "lambda$heir$0", desc := "(II)I" } : Jvm.MethodName)) ∈ lw_all := lw_g (lw_at lw_m7 8 rfl) rfl
theorem q1574 : (Jvm.Cond.code ({ cls := "HeirCases", name := "lambda$heir$0", desc := "(II)I" } : Jvm.MethodName) prog_1_method_86_code (3 : Nat) (Option.some Jvm.ClassFile.FieldType.int)) ∈ lw_all := lw_g (lw_at lw_m7 9 rfl) rfl
theorem q1575 : (Jvm.Cond.privateMethod ({ cls := "HeirCases", name := "lambda$heir$1", desc := "(II)I" } : Jvm.MethodName)) ∈ lw_tbl := lw_at lw_m7 10 rfl
theorem q1576 : (Jvm.Cond.instanceMethod ({ cls := "HeirCases", name := "lambda$heir$1", desc := "(II)I" } : Jvm.MethodName)) ∈ lw_all := lw_g (lw_at lw_m7 11 rfl) rfl
theorem q1577 : (Jvm.Cond.code ({ cls := "HeirCases", name := "lambda$heir$1", desc := "(II)I" } : Jvm.MethodName) prog_1_method_85_code (3 : Nat) (Option.some Jvm.ClassFile.FieldType.int)) ∈ lw_all := lw_g (lw_at lw_m7 12 rfl) rfl
theorem q1578 : (Jvm.Cond.methodLink "HeirCases" (420 : Nat) ({ cls := "HeirCases", name := "rule", desc := "(II)I" } : Jvm.MethodName)) ∈ lw_all := lw_g (lw_at lw_m7 13 rfl) rfl
theorem q1579 : (Jvm.Cond.instanceMethod ({ cls := "HeirCases", name := "rule", desc := "(II)I" } : Jvm.MethodName)) ∈ lw_all := lw_g (lw_at lw_m7 14 rfl) rfl
theorem q1580 : (Jvm.Cond.selects "HeirCases" ({ cls := "HeirCases", name := "rule", desc := "(II)I" } : Jvm.MethodName) ({ cls := "HeirCases", name := "rule", desc := "(II)I" } : Jvm.MethodName)) ∈ lw_all := lw_g (lw_at lw_m7 15 rfl) rfl
theorem q1581 : (Jvm.Cond.code ({ cls := "HeirCases", name := "rule", desc := "(II)I" } : Jvm.MethodName) prog_1_method_29_code (4 : Nat) (Option.some Jvm.ClassFile.FieldType.int)) ∈ lw_all := lw_g (lw_at lw_m7 16 rfl) rfl
theorem q1582 : (Jvm.Cond.methodLink "HeirCases" (239 : Nat) ({ cls := "HeirCases", name := "ruleAt", desc := "(I)LHeirCases$Rule;" } : Jvm.MethodName)) ∈ lw_all := lw_g (lw_at lw_m7 17 rfl) rfl
theorem q1583 : (Jvm.Cond.privateMethod ({ cls := "HeirCases", name := "ruleAt", desc := "(I)LHeirCases$Rule;" } : Jvm.MethodName)) ∈ lw_tbl := lw_at lw_m7 18 rfl
theorem q1584 : (Jvm.Cond.instanceMethod ({ cls := "HeirCases", name := "ruleAt", desc := "(I)LHeirCases$Rule;" } : Jvm.MethodName)) ∈ lw_all := lw_g (lw_at lw_m7 19 rfl) rfl
theorem q1585 : (Jvm.Cond.code ({ cls := "HeirCases", name := "ruleAt", desc := "(I)LHeirCases$Rule;" } : Jvm.MethodName) prog_1_method_13_code (2 : Nat) (Option.some (Jvm.ClassFile.FieldType.object "HeirCases$Rule"))) ∈ lw_all := lw_g (lw_at lw_m7 20 rfl) rfl
theorem q1586 : (Jvm.Cond.methodLink "HeirCases" (129 : Nat) ({ cls := "java/util/ArrayList", name := "get", desc := "(I)Ljava/lang/Object;" } : Jvm.MethodName)) ∈ lw_all := lw_g (lw_at lw_m7 21 rfl) rfl
theorem q1587 : (Jvm.Cond.classLink "HeirCases" (133 : Nat) "HeirCases$Rule") ∈ lw_all := lw_g (lw_at lw_m7 22 rfl) rfl
theorem q1588 : (Jvm.Cond.privateMethod ({ cls := "HeirCases", name := "lambda$rule$2", desc := "(II)I" } : Jvm.MethodName)) ∈ lw_tbl := lw_at lw_m7 23 rfl
theorem q1589 : (Jvm.Cond.instanceMethod ({ cls := "HeirCases", name := "lambda$rule$2", desc := "(II)I" } : Jvm.MethodName)) ∈ lw_all := lw_g (lw_at lw_m7 24 rfl) rfl
theorem q1590 : (Jvm.Cond.code ({ cls := "HeirCases", name := "lambda$rule$2", desc := "(II)I" } : Jvm.MethodName) prog_1_method_84_code (3 : Nat) (Option.some Jvm.ClassFile.FieldType.int)) ∈ lw_all := lw_g (lw_at lw_m7 25 rfl) rfl
theorem q1591 : (Jvm.Cond.privateMethod ({ cls := "HeirCases", name := "lambda$rule$3", desc := "(II)I" } : Jvm.MethodName)) ∈ lw_tbl := lw_at lw_m7 26 rfl
theorem q1592 : (Jvm.Cond.instanceMethod ({ cls := "HeirCases", name := "lambda$rule$3", desc := "(II)I" } : Jvm.MethodName)) ∈ lw_all := lw_g (lw_at lw_m7 27 rfl) rfl
theorem q1593 : (Jvm.Cond.code ({ cls := "HeirCases", name := "lambda$rule$3", desc := "(II)I" } : Jvm.MethodName) prog_1_method_83_code (3 : Nat) (Option.some Jvm.ClassFile.FieldType.int)) ∈ lw_all := lw_g (lw_at lw_m7 28 rfl) rfl
theorem q1594 : (Jvm.Cond.privateMethod ({ cls := "HeirCases", name := "lambda$rule$4", desc := "(II)I" } : Jvm.MethodName)) ∈ lw_tbl := lw_at lw_m7 29 rfl
theorem q1595 : (Jvm.Cond.instanceMethod ({ cls := "HeirCases", name := "lambda$rule$4", desc := "(II)I" } : Jvm.MethodName)) ∈ lw_all := lw_g (lw_at lw_m7 30 rfl) rfl
theorem q1596 : (Jvm.Cond.code ({ cls := "HeirCases", name := "lambda$rule$4", desc := "(II)I" } : Jvm.MethodName) prog_1_method_82_code (3 : Nat) (Option.some Jvm.ClassFile.FieldType.int)) ∈ lw_all := lw_g (lw_at lw_m7 31 rfl) rfl
theorem q1597 : (Jvm.Cond.methodLink "HeirCases" (268 : Nat) ({ cls := "HeirCases", name := "beatenIn", desc := "(LHeirCases$Finding;I)I" } : Jvm.MethodName)) ∈ lw_all := lw_g (lw_at lw_m7 32 rfl) rfl
theorem q1598 : (Jvm.Cond.static ({ cls := "HeirCases", name := "beatenIn", desc := "(LHeirCases$Finding;I)I" } : Jvm.MethodName)) ∈ lw_all := lw_g (lw_at lw_m7 33 rfl) rfl
theorem q1599 : (Jvm.Cond.code ({ cls := "HeirCases", name := "beatenIn", desc := "(LHeirCases$Finding;I)I" } : Jvm.MethodName) prog_1_method_28_code (2 : Nat) (Option.some Jvm.ClassFile.FieldType.int)) ∈ lw_all := lw_g (lw_at lw_m7 34 rfl) rfl
theorem q1600 : (Jvm.Cond.methodLink "HeirCases" (256 : Nat) ({ cls := "HeirCases", name := "beaters", desc := "(I)I" } : Jvm.MethodName)) ∈ lw_all := lw_g (lw_at lw_m7 35 rfl) rfl
theorem q1601 : (Jvm.Cond.privateMethod ({ cls := "HeirCases", name := "beaters", desc := "(I)I" } : Jvm.MethodName)) ∈ lw_tbl := lw_at lw_m7 36 rfl
theorem q1602 : (Jvm.Cond.instanceMethod ({ cls := "HeirCases", name := "beaters", desc := "(I)I" } : Jvm.MethodName)) ∈ lw_all := lw_g (lw_at lw_m7 37 rfl) rfl
theorem q1603 : (Jvm.Cond.code ({ cls := "HeirCases", name := "beaters", desc := "(I)I" } : Jvm.MethodName) prog_1_method_27_code (4 : Nat) (Option.some Jvm.ClassFile.FieldType.int)) ∈ lw_all := lw_g (lw_at lw_m7 38 rfl) rfl
theorem q1604 : (Jvm.Cond.methodLink "HeirCases" (229 : Nat) ({ cls := "HeirCases$Rule", name := "isOver", desc := "(I)Z" } : Jvm.MethodName)) ∈ lw_all := lw_g (lw_at lw_m7 39 rfl) rfl
theorem q1608 : (Jvm.Cond.methodLink "HeirCases" (423 : Nat) ({ cls := "HeirCases", name := "share", desc := "(IIZ)I" } : Jvm.MethodName)) ∈ lw_all := lw_g (lw_at lw_m7 43 rfl) rfl
theorem q1609 : (Jvm.Cond.instanceMethod ({ cls := "HeirCases", name := "share", desc := "(IIZ)I" } : Jvm.MethodName)) ∈ lw_all := lw_g (lw_at lw_m7 44 rfl) rfl
theorem q1610 : (Jvm.Cond.selects "HeirCases" ({ cls := "HeirCases", name := "share", desc := "(IIZ)I" } : Jvm.MethodName) ({ cls := "HeirCases", name := "share", desc := "(IIZ)I" } : Jvm.MethodName)) ∈ lw_all := lw_g (lw_at lw_m7 45 rfl) rfl
theorem q1611 : (Jvm.Cond.code ({ cls := "HeirCases", name := "share", desc := "(IIZ)I" } : Jvm.MethodName) prog_1_method_30_code (5 : Nat) (Option.some Jvm.ClassFile.FieldType.int)) ∈ lw_all := lw_g (lw_at lw_m7 46 rfl) rfl
theorem q1612 : (Jvm.Cond.methodLink "HeirCases" (259 : Nat) ({ cls := "HeirCases$Rule", name := "below", desc := "(I)I" } : Jvm.MethodName)) ∈ lw_all := lw_g (lw_at lw_m7 47 rfl) rfl
theorem q1617 : (Jvm.Cond.static ({ cls := "HeirCases", name := "divisor", desc := "(II)I" } : Jvm.MethodName)) ∈ lw_all := lw_g (lw_at lw_m7 52 rfl) rfl
theorem q1618 : (Jvm.Cond.code ({ cls := "HeirCases", name := "divisor", desc := "(II)I" } : Jvm.MethodName) prog_1_method_3_code (5 : Nat) (Option.some Jvm.ClassFile.FieldType.int)) ∈ lw_all := lw_g (lw_at lw_m7 53 rfl) rfl
theorem q1619 : (Jvm.Cond.methodLink "HeirCases" (262 : Nat) ({ cls := "HeirCases$Rule", name := "above", desc := "(I)I" } : Jvm.MethodName)) ∈ lw_all := lw_g (lw_at lw_m7 54 rfl) rfl
theorem q1623 : (Jvm.Cond.methodLink "HeirCases" (427 : Nat) ({ cls := "HeirCases", name := "verdict", desc := "(I)I" } : Jvm.MethodName)) ∈ lw_all := lw_g (lw_at lw_m7 58 rfl) rfl
theorem q1624 : (Jvm.Cond.instanceMethod ({ cls := "HeirCases", name := "verdict", desc := "(I)I" } : Jvm.MethodName)) ∈ lw_all := lw_g (lw_at lw_m7 59 rfl) rfl
theorem q1625 : (Jvm.Cond.selects "HeirCases" ({ cls := "HeirCases", name := "verdict", desc := "(I)I" } : Jvm.MethodName) ({ cls := "HeirCases", name := "verdict", desc := "(I)I" } : Jvm.MethodName)) ∈ lw_all := lw_g (lw_at lw_m7 60 rfl) rfl
theorem q1626 : (Jvm.Cond.code ({ cls := "HeirCases", name := "verdict", desc := "(I)I" } : Jvm.MethodName) prog_1_method_33_code (2 : Nat) (Option.some Jvm.ClassFile.FieldType.int)) ∈ lw_all := lw_g (lw_at lw_m7 61 rfl) rfl
theorem q1627 : (Jvm.Cond.methodLink "HeirCases" (185 : Nat) ({ cls := "HeirCases", name := "checkCase", desc := "(I)V" } : Jvm.MethodName)) ∈ lw_all := lw_g (lw_at lw_m7 62 rfl) rfl
theorem q1628 : (Jvm.Cond.privateMethod ({ cls := "HeirCases", name := "checkCase", desc := "(I)V" } : Jvm.MethodName)) ∈ lw_tbl := lw_at lw_m7 63 rfl
theorem q1629 : (Jvm.Cond.instanceMethod ({ cls := "HeirCases", name := "checkCase", desc := "(I)V" } : Jvm.MethodName)) ∈ lw_all := lw_g (lw_at lw_m7 64 rfl) rfl
theorem q1630 : (Jvm.Cond.code ({ cls := "HeirCases", name := "checkCase", desc := "(I)V" } : Jvm.MethodName) prog_1_method_12_code (2 : Nat) (Option.none : Option Jvm.ClassFile.FieldType)) ∈ lw_all := lw_g (lw_at lw_m7 65 rfl) rfl
theorem q1631 : (Jvm.Cond.classLink "HeirCases" (115 : Nat) "java/util/NoSuchElementException") ∈ lw_all := lw_g (lw_at lw_m7 66 rfl) rfl
theorem q1632 : (Jvm.Cond.methodLink "HeirCases" (117 : Nat) ({ cls := "java/util/NoSuchElementException", name := "<init>", desc := "()V" } : Jvm.MethodName)) ∈ lw_all := lw_g (lw_at lw_m7 67 rfl) rfl
theorem q1633 : (Jvm.Cond.methodLink "HeirCases" (429 : Nat) ({ cls := "HeirCases", name := "settledBy", desc := "(I)I" } : Jvm.MethodName)) ∈ lw_all := lw_g (lw_at lw_m7 68 rfl) rfl
theorem q1634 : (Jvm.Cond.instanceMethod ({ cls := "HeirCases", name := "settledBy", desc := "(I)I" } : Jvm.MethodName)) ∈ lw_all := lw_g (lw_at lw_m7 69 rfl) rfl
theorem q1635 : (Jvm.Cond.selects "HeirCases" ({ cls := "HeirCases", name := "settledBy", desc := "(I)I" } : Jvm.MethodName) ({ cls := "HeirCases", name := "settledBy", desc := "(I)I" } : Jvm.MethodName)) ∈ lw_all := lw_g (lw_at lw_m7 70 rfl) rfl
theorem q1636 : (Jvm.Cond.code ({ cls := "HeirCases", name := "settledBy", desc := "(I)I" } : Jvm.MethodName) prog_1_method_34_code (2 : Nat) (Option.some Jvm.ClassFile.FieldType.int)) ∈ lw_all := lw_g (lw_at lw_m7 71 rfl) rfl
theorem q1642 : (Jvm.Cond.instanceMethod ({ cls := "HeirCases", name := "parse", desc := "(I)I" } : Jvm.MethodName)) ∈ lw_all := lw_g (lw_at lw_m7 77 rfl) rfl
theorem q1643 : (Jvm.Cond.selects "HeirCases" ({ cls := "HeirCases", name := "parse", desc := "(I)I" } : Jvm.MethodName) ({ cls := "HeirCases", name := "parse", desc := "(I)I" } : Jvm.MethodName)) ∈ lw_all := lw_g (lw_at lw_m7 78 rfl) rfl
theorem q1644 : (Jvm.Cond.codeWith ({ cls := "HeirCases", name := "parse", desc := "(I)I" } : Jvm.MethodName) prog_1_method_19_code (5 : Nat) (Option.some Jvm.ClassFile.FieldType.int) [((12 : Nat), (42 : Nat), (52 : Nat), (73 : Nat)), ((12 : Nat), (42 : Nat), (68 : Nat), (0 : Nat)), ((52 : Nat), (58 : Nat), (68 : Nat), (0 : Nat)), ((68 : Nat), (70 : Nat), (68 : Nat), (0 : Nat))]) ∈ lw_all := lw_g (lw_at lw_m7 79 rfl) rfl
theorem q1645 : (Jvm.Cond.methodLink "HeirCases" (162 : Nat) ({ cls := "java/lang/StringBuilder", name := "setLength", desc := "(I)V" } : Jvm.MethodName)) ∈ lw_all := lw_g (lw_at lw_m7 80 rfl) rfl
theorem q1713 : (Jvm.Cond.methodLink "HeirCases" (165 : Nat) ({ cls := "HeirCases", name := "answer", desc := "(LHeirCases$Fault;)I" } : Jvm.MethodName)) ∈ lw_all := lw_g (lw_at lw_m7 148 rfl) rfl
theorem q1714 : (Jvm.Cond.static ({ cls := "HeirCases", name := "answer", desc := "(LHeirCases$Fault;)I" } : Jvm.MethodName)) ∈ lw_all := lw_g (lw_at lw_m7 149 rfl) rfl
theorem q1715 : (Jvm.Cond.code ({ cls := "HeirCases", name := "answer", desc := "(LHeirCases$Fault;)I" } : Jvm.MethodName) prog_1_method_18_code (1 : Nat) (Option.some Jvm.ClassFile.FieldType.int)) ∈ lw_all := lw_g (lw_at lw_m7 150 rfl) rfl
theorem q1720 : (Jvm.Cond.instanceMethod ({ cls := "HeirCases", name := "load", desc := "(I)I" } : Jvm.MethodName)) ∈ lw_all := lw_g (lw_at lw_m7 155 rfl) rfl
theorem q1721 : (Jvm.Cond.selects "HeirCases" ({ cls := "HeirCases", name := "load", desc := "(I)I" } : Jvm.MethodName) ({ cls := "HeirCases", name := "load", desc := "(I)I" } : Jvm.MethodName)) ∈ lw_all := lw_g (lw_at lw_m7 156 rfl) rfl
theorem q1722 : (Jvm.Cond.code ({ cls := "HeirCases", name := "load", desc := "(I)I" } : Jvm.MethodName) prog_1_method_20_code (2 : Nat) (Option.some Jvm.ClassFile.FieldType.int)) ∈ lw_all := lw_g (lw_at lw_m7 157 rfl) rfl
theorem q1734 : (Jvm.Cond.instanceMethod ({ cls := "HeirCases", name := "values", desc := "(I)I" } : Jvm.MethodName)) ∈ lw_all := lw_g (lw_at lw_m7 169 rfl) rfl
theorem q1735 : (Jvm.Cond.selects "HeirCases" ({ cls := "HeirCases", name := "values", desc := "(I)I" } : Jvm.MethodName) ({ cls := "HeirCases", name := "values", desc := "(I)I" } : Jvm.MethodName)) ∈ lw_all := lw_g (lw_at lw_m7 170 rfl) rfl
theorem q1736 : (Jvm.Cond.code ({ cls := "HeirCases", name := "values", desc := "(I)I" } : Jvm.MethodName) prog_1_method_22_code (2 : Nat) (Option.some Jvm.ClassFile.FieldType.int)) ∈ lw_all := lw_g (lw_at lw_m7 171 rfl) rfl
theorem q1737 : (Jvm.Cond.methodLink "HeirCases" (182 : Nat) ({ cls := "HeirCases", name := "checkFact", desc := "(I)V" } : Jvm.MethodName)) ∈ lw_all := lw_g (lw_at lw_m7 172 rfl) rfl
theorem q1738 : (Jvm.Cond.privateMethod ({ cls := "HeirCases", name := "checkFact", desc := "(I)V" } : Jvm.MethodName)) ∈ lw_tbl := lw_at lw_m7 173 rfl
theorem q1739 : (Jvm.Cond.instanceMethod ({ cls := "HeirCases", name := "checkFact", desc := "(I)V" } : Jvm.MethodName)) ∈ lw_all := lw_g (lw_at lw_m7 174 rfl) rfl
theorem q1740 : (Jvm.Cond.code ({ cls := "HeirCases", name := "checkFact", desc := "(I)V" } : Jvm.MethodName) prog_1_method_15_code (2 : Nat) (Option.none : Option Jvm.ClassFile.FieldType)) ∈ lw_all := lw_g (lw_at lw_m7 175 rfl) rfl
theorem q1746 : (Jvm.Cond.instanceMethod ({ cls := "HeirCases", name := "valueIn", desc := "(II)I" } : Jvm.MethodName)) ∈ lw_all := lw_g (lw_at lw_m7 181 rfl) rfl
theorem q1747 : (Jvm.Cond.selects "HeirCases" ({ cls := "HeirCases", name := "valueIn", desc := "(II)I" } : Jvm.MethodName) ({ cls := "HeirCases", name := "valueIn", desc := "(II)I" } : Jvm.MethodName)) ∈ lw_all := lw_g (lw_at lw_m7 182 rfl) rfl
theorem q1748 : (Jvm.Cond.code ({ cls := "HeirCases", name := "valueIn", desc := "(II)I" } : Jvm.MethodName) prog_1_method_23_code (3 : Nat) (Option.some Jvm.ClassFile.FieldType.int)) ∈ lw_all := lw_g (lw_at lw_m7 183 rfl) rfl
theorem q1765 : (Jvm.Cond.instanceMethod ({ cls := "HeirCases", name := "applies", desc := "(II)Z" } : Jvm.MethodName)) ∈ lw_all := lw_g (lw_at lw_m7 200 rfl) rfl
theorem q1766 : (Jvm.Cond.selects "HeirCases" ({ cls := "HeirCases", name := "applies", desc := "(II)Z" } : Jvm.MethodName) ({ cls := "HeirCases", name := "applies", desc := "(II)Z" } : Jvm.MethodName)) ∈ lw_all := lw_g (lw_at lw_m7 201 rfl) rfl
theorem q1767 : (Jvm.Cond.code ({ cls := "HeirCases", name := "applies", desc := "(II)Z" } : Jvm.MethodName) prog_1_method_31_code (3 : Nat) (Option.some Jvm.ClassFile.FieldType.boolean)) ∈ lw_all := lw_g (lw_at lw_m7 202 rfl) rfl
theorem q1772 : (Jvm.Cond.instanceMethod ({ cls := "HeirCases", name := "applying", desc := "(I)I" } : Jvm.MethodName)) ∈ lw_all := lw_g (lw_at lw_m7 207 rfl) rfl
theorem q1773 : (Jvm.Cond.selects "HeirCases" ({ cls := "HeirCases", name := "applying", desc := "(I)I" } : Jvm.MethodName) ({ cls := "HeirCases", name := "applying", desc := "(I)I" } : Jvm.MethodName)) ∈ lw_all := lw_g (lw_at lw_m7 208 rfl) rfl
theorem q1774 : (Jvm.Cond.code ({ cls := "HeirCases", name := "applying", desc := "(I)I" } : Jvm.MethodName) prog_1_method_32_code (2 : Nat) (Option.some Jvm.ClassFile.FieldType.int)) ∈ lw_all := lw_g (lw_at lw_m7 209 rfl) rfl
theorem q1787 : (Jvm.Cond.instanceMethod ({ cls := "HeirCases", name := "why", desc := "(III)I" } : Jvm.MethodName)) ∈ lw_all := lw_g (lw_at lw_m7 222 rfl) rfl
theorem q1788 : (Jvm.Cond.selects "HeirCases" ({ cls := "HeirCases", name := "why", desc := "(III)I" } : Jvm.MethodName) ({ cls := "HeirCases", name := "why", desc := "(III)I" } : Jvm.MethodName)) ∈ lw_all := lw_g (lw_at lw_m7 223 rfl) rfl
theorem q1789 : (Jvm.Cond.code ({ cls := "HeirCases", name := "why", desc := "(III)I" } : Jvm.MethodName) prog_1_method_36_code (6 : Nat) (Option.some Jvm.ClassFile.FieldType.int)) ∈ lw_all := lw_g (lw_at lw_m7 224 rfl) rfl
theorem q1790 : (Jvm.Cond.methodLink "HeirCases" (272 : Nat) ({ cls := "HeirCases", name := "reasonOf", desc := "(LHeirCases$Finding;I)I" } : Jvm.MethodName)) ∈ lw_all := lw_g (lw_at lw_m7 225 rfl) rfl
theorem q1791 : (Jvm.Cond.static ({ cls := "HeirCases", name := "reasonOf", desc := "(LHeirCases$Finding;I)I" } : Jvm.MethodName)) ∈ lw_all := lw_g (lw_at lw_m7 226 rfl) rfl
theorem q1792 : (Jvm.Cond.code ({ cls := "HeirCases", name := "reasonOf", desc := "(LHeirCases$Finding;I)I" } : Jvm.MethodName) prog_1_method_35_code (2 : Nat) (Option.some Jvm.ClassFile.FieldType.int)) ∈ lw_all := lw_g (lw_at lw_m7 227 rfl) rfl
theorem q1793 : (Jvm.Cond.methodLink "HeirCases" (275 : Nat) ({ cls := "java/lang/Integer", name := "bitCount", desc := "(I)I" } : Jvm.MethodName)) ∈ lw_all := lw_g (lw_at lw_m7 228 rfl) rfl
theorem q1799 : (Jvm.Cond.methodLink "HeirCases" (280 : Nat) ({ cls := "java/lang/Integer", name := "numberOfTrailingZeros", desc := "(I)I" } : Jvm.MethodName)) ∈ lw_all := lw_g (lw_at lw_m7 234 rfl) rfl
theorem q1800 : (Jvm.Cond.methodLink "HeirCases" (283 : Nat) ({ cls := "HeirCases$Will", name := "unlike", desc := "(II)I" } : Jvm.MethodName)) ∈ lw_all := lw_g (lw_at lw_m7 235 rfl) rfl
theorem q1805 : (Jvm.Cond.instanceMethod ({ cls := "HeirCases", name := "example", desc := "(II)I" } : Jvm.MethodName)) ∈ lw_all := lw_g (lw_at lw_m8 0 rfl) rfl
theorem q1806 : (Jvm.Cond.selects "HeirCases" ({ cls := "HeirCases", name := "example", desc := "(II)I" } : Jvm.MethodName) ({ cls := "HeirCases", name := "example", desc := "(II)I" } : Jvm.MethodName)) ∈ lw_all := lw_g (lw_at lw_m8 1 rfl) rfl
theorem q1807 : (Jvm.Cond.code ({ cls := "HeirCases", name := "example", desc := "(II)I" } : Jvm.MethodName) prog_1_method_37_code (6 : Nat) (Option.some Jvm.ClassFile.FieldType.int)) ∈ lw_all := lw_g (lw_at lw_m8 2 rfl) rfl
theorem q1812 : (Jvm.Cond.instanceMethod ({ cls := "HeirCases", name := "isWider", desc := "(II)Z" } : Jvm.MethodName)) ∈ lw_all := lw_g (lw_at lw_m8 7 rfl) rfl
theorem q1813 : (Jvm.Cond.selects "HeirCases" ({ cls := "HeirCases", name := "isWider", desc := "(II)Z" } : Jvm.MethodName) ({ cls := "HeirCases", name := "isWider", desc := "(II)Z" } : Jvm.MethodName)) ∈ lw_all := lw_g (lw_at lw_m8 8 rfl) rfl
theorem q1814 : (Jvm.Cond.code ({ cls := "HeirCases", name := "isWider", desc := "(II)Z" } : Jvm.MethodName) prog_1_method_39_code (3 : Nat) (Option.some Jvm.ClassFile.FieldType.boolean)) ∈ lw_all := lw_g (lw_at lw_m8 9 rfl) rfl
theorem q1815 : (Jvm.Cond.privateMethod ({ cls := "HeirCases", name := "lambda$isWider$5", desc := "(III)I" } : Jvm.MethodName)) ∈ lw_tbl := lw_at lw_m8 10 rfl
theorem q1816 : (Jvm.Cond.instanceMethod ({ cls := "HeirCases", name := "lambda$isWider$5", desc := "(III)I" } : Jvm.MethodName)) ∈ lw_all := lw_g (lw_at lw_m8 11 rfl) rfl
theorem q1817 : (Jvm.Cond.code ({ cls := "HeirCases", name := "lambda$isWider$5", desc := "(III)I" } : Jvm.MethodName) prog_1_method_81_code (4 : Nat) (Option.some Jvm.ClassFile.FieldType.int)) ∈ lw_all := lw_g (lw_at lw_m8 12 rfl) rfl
theorem q1818 : (Jvm.Cond.methodLink "HeirCases" (438 : Nat) ({ cls := "HeirCases", name := "applies", desc := "(II)Z" } : Jvm.MethodName)) ∈ lw_all := lw_g (lw_at lw_m8 13 rfl) rfl
theorem q1823 : (Jvm.Cond.instanceMethod ({ cls := "HeirCases", name := "common", desc := "(II)I" } : Jvm.MethodName)) ∈ lw_all := lw_g (lw_at lw_m8 18 rfl) rfl
theorem q1824 : (Jvm.Cond.selects "HeirCases" ({ cls := "HeirCases", name := "common", desc := "(II)I" } : Jvm.MethodName) ({ cls := "HeirCases", name := "common", desc := "(II)I" } : Jvm.MethodName)) ∈ lw_all := lw_g (lw_at lw_m8 19 rfl) rfl
theorem q1825 : (Jvm.Cond.code ({ cls := "HeirCases", name := "common", desc := "(II)I" } : Jvm.MethodName) prog_1_method_40_code (3 : Nat) (Option.some Jvm.ClassFile.FieldType.int)) ∈ lw_all := lw_g (lw_at lw_m8 20 rfl) rfl
theorem q1826 : (Jvm.Cond.privateMethod ({ cls := "HeirCases", name := "lambda$common$6", desc := "(III)I" } : Jvm.MethodName)) ∈ lw_tbl := lw_at lw_m8 21 rfl
theorem q1827 : (Jvm.Cond.instanceMethod ({ cls := "HeirCases", name := "lambda$common$6", desc := "(III)I" } : Jvm.MethodName)) ∈ lw_all := lw_g (lw_at lw_m8 22 rfl) rfl
theorem q1828 : (Jvm.Cond.code ({ cls := "HeirCases", name := "lambda$common$6", desc := "(III)I" } : Jvm.MethodName) prog_1_method_80_code (4 : Nat) (Option.some Jvm.ClassFile.FieldType.int)) ∈ lw_all := lw_g (lw_at lw_m8 23 rfl) rfl
theorem q1833 : (Jvm.Cond.instanceMethod ({ cls := "HeirCases", name := "gapsWithout", desc := "(I)I" } : Jvm.MethodName)) ∈ lw_all := lw_g (lw_at lw_m8 28 rfl) rfl
theorem q1834 : (Jvm.Cond.selects "HeirCases" ({ cls := "HeirCases", name := "gapsWithout", desc := "(I)I" } : Jvm.MethodName) ({ cls := "HeirCases", name := "gapsWithout", desc := "(I)I" } : Jvm.MethodName)) ∈ lw_all := lw_g (lw_at lw_m8 29 rfl) rfl
theorem q1835 : (Jvm.Cond.code ({ cls := "HeirCases", name := "gapsWithout", desc := "(I)I" } : Jvm.MethodName) prog_1_method_44_code (2 : Nat) (Option.some Jvm.ClassFile.FieldType.int)) ∈ lw_all := lw_g (lw_at lw_m8 30 rfl) rfl
theorem q1836 : (Jvm.Cond.static ({ cls := "HeirCases", name := "lambda$gapsWithout$8", desc := "(ILHeirCases$Will;)V" } : Jvm.MethodName)) ∈ lw_all := lw_g (lw_at lw_m8 31 rfl) rfl
theorem q1837 : (Jvm.Cond.code ({ cls := "HeirCases", name := "lambda$gapsWithout$8", desc := "(ILHeirCases$Will;)V" } : Jvm.MethodName) prog_1_method_78_code (2 : Nat) (Option.none : Option Jvm.ClassFile.FieldType)) ∈ lw_all := lw_g (lw_at lw_m8 32 rfl) rfl
theorem q1842 : (Jvm.Cond.instanceMethod ({ cls := "HeirCases", name := "clashesIf", desc := "(II)I" } : Jvm.MethodName)) ∈ lw_all := lw_g (lw_at lw_m8 37 rfl) rfl
theorem q1843 : (Jvm.Cond.selects "HeirCases" ({ cls := "HeirCases", name := "clashesIf", desc := "(II)I" } : Jvm.MethodName) ({ cls := "HeirCases", name := "clashesIf", desc := "(II)I" } : Jvm.MethodName)) ∈ lw_all := lw_g (lw_at lw_m8 38 rfl) rfl
theorem q1844 : (Jvm.Cond.code ({ cls := "HeirCases", name := "clashesIf", desc := "(II)I" } : Jvm.MethodName) prog_1_method_45_code (4 : Nat) (Option.some Jvm.ClassFile.FieldType.int)) ∈ lw_all := lw_g (lw_at lw_m8 39 rfl) rfl
theorem q1845 : (Jvm.Cond.static ({ cls := "HeirCases", name := "lambda$clashesIf$9", desc := "(IILHeirCases$Will;)V" } : Jvm.MethodName)) ∈ lw_all := lw_g (lw_at lw_m8 40 rfl) rfl
theorem q1846 : (Jvm.Cond.code ({ cls := "HeirCases", name := "lambda$clashesIf$9", desc := "(IILHeirCases$Will;)V" } : Jvm.MethodName) prog_1_method_77_code (3 : Nat) (Option.none : Option Jvm.ClassFile.FieldType)) ∈ lw_all := lw_g (lw_at lw_m8 41 rfl) rfl
theorem q1851 : (Jvm.Cond.instanceMethod ({ cls := "HeirCases", name := "farFrom", desc := "(I)I" } : Jvm.MethodName)) ∈ lw_all := lw_g (lw_at lw_m8 46 rfl) rfl
theorem q1852 : (Jvm.Cond.selects "HeirCases" ({ cls := "HeirCases", name := "farFrom", desc := "(I)I" } : Jvm.MethodName) ({ cls := "HeirCases", name := "farFrom", desc := "(I)I" } : Jvm.MethodName)) ∈ lw_all := lw_g (lw_at lw_m8 47 rfl) rfl
theorem q1853 : (Jvm.Cond.code ({ cls := "HeirCases", name := "farFrom", desc := "(I)I" } : Jvm.MethodName) prog_1_method_49_code (6 : Nat) (Option.some Jvm.ClassFile.FieldType.int)) ∈ lw_all := lw_g (lw_at lw_m8 48 rfl) rfl
theorem q1854 : (Jvm.Cond.methodLink "HeirCases" (320 : Nat) ({ cls := "HeirCases", name := "distance", desc := "(II)I" } : Jvm.MethodName)) ∈ lw_all := lw_g (lw_at lw_m8 49 rfl) rfl
theorem q1855 : (Jvm.Cond.privateMethod ({ cls := "HeirCases", name := "distance", desc := "(II)I" } : Jvm.MethodName)) ∈ lw_tbl := lw_at lw_m8 50 rfl
theorem q1856 : (Jvm.Cond.instanceMethod ({ cls := "HeirCases", name := "distance", desc := "(II)I" } : Jvm.MethodName)) ∈ lw_all := lw_g (lw_at lw_m8 51 rfl) rfl
theorem q1857 : (Jvm.Cond.code ({ cls := "HeirCases", name := "distance", desc := "(II)I" } : Jvm.MethodName) prog_1_method_48_code (7 : Nat) (Option.some Jvm.ClassFile.FieldType.int)) ∈ lw_all := lw_g (lw_at lw_m8 52 rfl) rfl
theorem q1858 : (Jvm.Cond.methodLink "HeirCases" (323 : Nat) ({ cls := "java/lang/Math", name := "min", desc := "(II)I" } : Jvm.MethodName)) ∈ lw_all := lw_g (lw_at lw_m8 53 rfl) rfl
theorem q1863 : (Jvm.Cond.instanceMethod ({ cls := "HeirCases", name := "gets", desc := "(III)I" } : Jvm.MethodName)) ∈ lw_all := lw_g (lw_at lw_m8 58 rfl) rfl
theorem q1864 : (Jvm.Cond.selects "HeirCases" ({ cls := "HeirCases", name := "gets", desc := "(III)I" } : Jvm.MethodName) ({ cls := "HeirCases", name := "gets", desc := "(III)I" } : Jvm.MethodName)) ∈ lw_all := lw_g (lw_at lw_m8 59 rfl) rfl
theorem q1865 : (Jvm.Cond.code ({ cls := "HeirCases", name := "gets", desc := "(III)I" } : Jvm.MethodName) prog_1_method_50_code (4 : Nat) (Option.some Jvm.ClassFile.FieldType.int)) ∈ lw_all := lw_g (lw_at lw_m8 60 rfl) rfl
theorem q1870 : (Jvm.Cond.instanceMethod ({ cls := "HeirCases", name := "duties", desc := "(I)I" } : Jvm.MethodName)) ∈ lw_all := lw_g (lw_at lw_m8 65 rfl) rfl
theorem q1871 : (Jvm.Cond.selects "HeirCases" ({ cls := "HeirCases", name := "duties", desc := "(I)I" } : Jvm.MethodName) ({ cls := "HeirCases", name := "duties", desc := "(I)I" } : Jvm.MethodName)) ∈ lw_all := lw_g (lw_at lw_m8 66 rfl) rfl
theorem q1872 : (Jvm.Cond.code ({ cls := "HeirCases", name := "duties", desc := "(I)I" } : Jvm.MethodName) prog_1_method_51_code (2 : Nat) (Option.some Jvm.ClassFile.FieldType.int)) ∈ lw_all := lw_g (lw_at lw_m8 67 rfl) rfl
theorem q1877 : (Jvm.Cond.instanceMethod ({ cls := "HeirCases", name := "writeRule", desc := "(I)I" } : Jvm.MethodName)) ∈ lw_all := lw_g (lw_at lw_m8 72 rfl) rfl
theorem q1878 : (Jvm.Cond.selects "HeirCases" ({ cls := "HeirCases", name := "writeRule", desc := "(I)I" } : Jvm.MethodName) ({ cls := "HeirCases", name := "writeRule", desc := "(I)I" } : Jvm.MethodName)) ∈ lw_all := lw_g (lw_at lw_m8 73 rfl) rfl
theorem q1879 : (Jvm.Cond.code ({ cls := "HeirCases", name := "writeRule", desc := "(I)I" } : Jvm.MethodName) prog_1_method_58_code (4 : Nat) (Option.some Jvm.ClassFile.FieldType.int)) ∈ lw_all := lw_g (lw_at lw_m8 74 rfl) rfl
theorem q1880 : (Jvm.Cond.interfaceEntry "HeirCases" (357 : Nat)) ∈ lw_tbl := lw_at lw_m8 75 rfl
theorem q1881 : (Jvm.Cond.methodLink "HeirCases" (357 : Nat) ({ cls := "HeirCases$Guard", name := "write", desc := "(Ljava/lang/StringBuilder;)V" } : Jvm.MethodName)) ∈ lw_all := lw_g (lw_at lw_m8 76 rfl) rfl
theorem q1942 : (Jvm.Cond.stringRef "HeirCases" (363 : Nat) " gives") ∈ lw_tbl := lw_at lw_m8 137 rfl
theorem q1943 : (Jvm.Cond.methodLink "HeirCases" (365 : Nat) ({ cls := "HeirCases", name := "writeParts", desc := "(LHeirCases$Rule;)V" } : Jvm.MethodName)) ∈ lw_all := lw_g (lw_at lw_m8 138 rfl) rfl
theorem q1944 : (Jvm.Cond.privateMethod ({ cls := "HeirCases", name := "writeParts", desc := "(LHeirCases$Rule;)V" } : Jvm.MethodName)) ∈ lw_tbl := lw_at lw_m8 139 rfl
theorem q1945 : (Jvm.Cond.instanceMethod ({ cls := "HeirCases", name := "writeParts", desc := "(LHeirCases$Rule;)V" } : Jvm.MethodName)) ∈ lw_all := lw_g (lw_at lw_m8 140 rfl) rfl
theorem q1946 : (Jvm.Cond.code ({ cls := "HeirCases", name := "writeParts", desc := "(LHeirCases$Rule;)V" } : Jvm.MethodName) prog_1_method_57_code (4 : Nat) (Option.none : Option Jvm.ClassFile.FieldType)) ∈ lw_all := lw_g (lw_at lw_m8 141 rfl) rfl
theorem q1947 : (Jvm.Cond.stringRef "HeirCases" (339 : Nat) " ") ∈ lw_tbl := lw_at lw_m8 142 rfl
theorem q1948 : (Jvm.Cond.stringRef "HeirCases" (341 : Nat) ", ") ∈ lw_tbl := lw_at lw_m8 143 rfl
theorem q1949 : (Jvm.Cond.methodLink "HeirCases" (346 : Nat) ({ cls := "java/lang/StringBuilder", name := "append", desc := "(I)Ljava/lang/StringBuilder;" } : Jvm.MethodName)) ∈ lw_all := lw_g (lw_at lw_m8 144 rfl) rfl
theorem q1950 : (Jvm.Cond.stringRef "HeirCases" (349 : Nat) " nothing") ∈ lw_tbl := lw_at lw_m8 145 rfl
theorem q1951 : (Jvm.Cond.stringRef "HeirCases" (351 : Nat) "") ∈ lw_tbl := lw_at lw_m8 146 rfl
theorem q1952 : (Jvm.Cond.stringRef "HeirCases" (369 : Nat) " over") ∈ lw_tbl := lw_at lw_m8 147 rfl
theorem q1957 : (Jvm.Cond.instanceMethod ({ cls := "HeirCases", name := "addRule", desc := "(I)I" } : Jvm.MethodName)) ∈ lw_all := lw_g (lw_at lw_m8 152 rfl) rfl
theorem q1958 : (Jvm.Cond.selects "HeirCases" ({ cls := "HeirCases", name := "addRule", desc := "(I)I" } : Jvm.MethodName) ({ cls := "HeirCases", name := "addRule", desc := "(I)I" } : Jvm.MethodName)) ∈ lw_all := lw_g (lw_at lw_m8 153 rfl) rfl
theorem q1959 : (Jvm.Cond.codeWith ({ cls := "HeirCases", name := "addRule", desc := "(I)I" } : Jvm.MethodName) prog_1_method_62_code (6 : Nat) (Option.some Jvm.ClassFile.FieldType.int) [((20 : Nat), (38 : Nat), (100 : Nat), (73 : Nat)), ((48 : Nat), (90 : Nat), (100 : Nat), (73 : Nat)), ((20 : Nat), (38 : Nat), (118 : Nat), (0 : Nat)), ((48 : Nat), (90 : Nat), (118 : Nat), (0 : Nat)), ((100 : Nat), (107 : Nat), (118 : Nat), (0 : Nat)), ((118 : Nat), (120 : Nat), (118 : Nat), (0 : Nat))]) ∈ lw_all := lw_g (lw_at lw_m8 154 rfl) rfl
theorem q1960 : (Jvm.Cond.methodLink "HeirCases" (386 : Nat) ({ cls := "HeirCases$Reader", name := "readRule", desc := "(LHeirCases$Will;)V" } : Jvm.MethodName)) ∈ lw_all := lw_g (lw_at lw_m8 155 rfl) rfl
theorem q1964 : (Jvm.Cond.methodLink "HeirCases" (103 : Nat) ({ cls := "HeirCases", name := "keep", desc := "(LHeirCases$Will;)V" } : Jvm.MethodName)) ∈ lw_all := lw_g (lw_at lw_m8 159 rfl) rfl
theorem q1965 : (Jvm.Cond.privateMethod ({ cls := "HeirCases", name := "keep", desc := "(LHeirCases$Will;)V" } : Jvm.MethodName)) ∈ lw_tbl := lw_at lw_m8 160 rfl
theorem q1966 : (Jvm.Cond.instanceMethod ({ cls := "HeirCases", name := "keep", desc := "(LHeirCases$Will;)V" } : Jvm.MethodName)) ∈ lw_all := lw_g (lw_at lw_m8 161 rfl) rfl
theorem q1967 : (Jvm.Cond.code ({ cls := "HeirCases", name := "keep", desc := "(LHeirCases$Will;)V" } : Jvm.MethodName) prog_1_method_8_code (2 : Nat) (Option.none : Option Jvm.ClassFile.FieldType)) ∈ lw_all := lw_g (lw_at lw_m8 162 rfl) rfl
theorem q1968 : (Jvm.Cond.methodLink "HeirCases" (89 : Nat) ({ cls := "java/util/ArrayDeque", name := "addLast", desc := "(Ljava/lang/Object;)V" } : Jvm.MethodName)) ∈ lw_all := lw_g (lw_at lw_m8 163 rfl) rfl
theorem q1990 : (Jvm.Cond.methodLink "HeirCases" (96 : Nat) ({ cls := "java/util/ArrayDeque", name := "removeFirst", desc := "()Ljava/lang/Object;" } : Jvm.MethodName)) ∈ lw_all := lw_g (lw_at lw_m8 185 rfl) rfl
theorem q2002 : (Jvm.Cond.instanceMethod ({ cls := "HeirCases", name := "dropRule", desc := "(I)I" } : Jvm.MethodName)) ∈ lw_all := lw_g (lw_at lw_m8 197 rfl) rfl
theorem q2003 : (Jvm.Cond.selects "HeirCases" ({ cls := "HeirCases", name := "dropRule", desc := "(I)I" } : Jvm.MethodName) ({ cls := "HeirCases", name := "dropRule", desc := "(I)I" } : Jvm.MethodName)) ∈ lw_all := lw_g (lw_at lw_m8 198 rfl) rfl
theorem q2004 : (Jvm.Cond.code ({ cls := "HeirCases", name := "dropRule", desc := "(I)I" } : Jvm.MethodName) prog_1_method_63_code (2 : Nat) (Option.some Jvm.ClassFile.FieldType.int)) ∈ lw_all := lw_g (lw_at lw_m8 199 rfl) rfl
theorem q2005 : (Jvm.Cond.methodLink "HeirCases" (389 : Nat) ({ cls := "HeirCases", name := "remember", desc := "()V" } : Jvm.MethodName)) ∈ lw_all := lw_g (lw_at lw_m8 200 rfl) rfl
theorem q2006 : (Jvm.Cond.privateMethod ({ cls := "HeirCases", name := "remember", desc := "()V" } : Jvm.MethodName)) ∈ lw_tbl := lw_at lw_m8 201 rfl
theorem q2007 : (Jvm.Cond.instanceMethod ({ cls := "HeirCases", name := "remember", desc := "()V" } : Jvm.MethodName)) ∈ lw_all := lw_g (lw_at lw_m8 202 rfl) rfl
theorem q2008 : (Jvm.Cond.code ({ cls := "HeirCases", name := "remember", desc := "()V" } : Jvm.MethodName) prog_1_method_9_code (1 : Nat) (Option.none : Option Jvm.ClassFile.FieldType)) ∈ lw_all := lw_g (lw_at lw_m8 203 rfl) rfl
theorem q2013 : (Jvm.Cond.instanceMethod ({ cls := "HeirCases", name := "setOver", desc := "(IIZ)I" } : Jvm.MethodName)) ∈ lw_all := lw_g (lw_at lw_m8 208 rfl) rfl
theorem q2014 : (Jvm.Cond.selects "HeirCases" ({ cls := "HeirCases", name := "setOver", desc := "(IIZ)I" } : Jvm.MethodName) ({ cls := "HeirCases", name := "setOver", desc := "(IIZ)I" } : Jvm.MethodName)) ∈ lw_all := lw_g (lw_at lw_m8 209 rfl) rfl
theorem q2015 : (Jvm.Cond.code ({ cls := "HeirCases", name := "setOver", desc := "(IIZ)I" } : Jvm.MethodName) prog_1_method_64_code (5 : Nat) (Option.some Jvm.ClassFile.FieldType.int)) ∈ lw_all := lw_g (lw_at lw_m8 210 rfl) rfl
theorem q2016 : (Jvm.Cond.methodLink "HeirCases" (395 : Nat) ({ cls := "HeirCases$Will", name := "forget", desc := "()V" } : Jvm.MethodName)) ∈ lw_all := lw_g (lw_at lw_m8 211 rfl) rfl
theorem q2021 : (Jvm.Cond.instanceMethod ({ cls := "HeirCases", name := "setShare", desc := "(IIII)I" } : Jvm.MethodName)) ∈ lw_all := lw_g (lw_at lw_m8 216 rfl) rfl
theorem q2022 : (Jvm.Cond.selects "HeirCases" ({ cls := "HeirCases", name := "setShare", desc := "(IIII)I" } : Jvm.MethodName) ({ cls := "HeirCases", name := "setShare", desc := "(IIII)I" } : Jvm.MethodName)) ∈ lw_all := lw_g (lw_at lw_m8 217 rfl) rfl
theorem q2023 : (Jvm.Cond.code ({ cls := "HeirCases", name := "setShare", desc := "(IIII)I" } : Jvm.MethodName) prog_1_method_65_code (9 : Nat) (Option.some Jvm.ClassFile.FieldType.int)) ∈ lw_all := lw_g (lw_at lw_m8 218 rfl) rfl
theorem q2024 : (Jvm.Cond.methodLink "HeirCases" (398 : Nat) ({ cls := "HeirCases$Will", name := "setShare", desc := "(LHeirCases$Rule;III)Z" } : Jvm.MethodName)) ∈ lw_all := lw_g (lw_at lw_m8 219 rfl) rfl
theorem q2029 : (Jvm.Cond.instanceMethod ({ cls := "HeirCases", name := "setHeir", desc := "(III)I" } : Jvm.MethodName)) ∈ lw_all := lw_g (lw_at lw_m8 224 rfl) rfl
theorem q2030 : (Jvm.Cond.selects "HeirCases" ({ cls := "HeirCases", name := "setHeir", desc := "(III)I" } : Jvm.MethodName) ({ cls := "HeirCases", name := "setHeir", desc := "(III)I" } : Jvm.MethodName)) ∈ lw_all := lw_g (lw_at lw_m8 225 rfl) rfl
theorem q2031 : (Jvm.Cond.code ({ cls := "HeirCases", name := "setHeir", desc := "(III)I" } : Jvm.MethodName) prog_1_method_66_code (6 : Nat) (Option.some Jvm.ClassFile.FieldType.int)) ∈ lw_all := lw_g (lw_at lw_m8 226 rfl) rfl
theorem q2036 : (Jvm.Cond.instanceMethod ({ cls := "HeirCases", name := "setRest", desc := "(I)I" } : Jvm.MethodName)) ∈ lw_all := lw_g (lw_at lw_m8 231 rfl) rfl
theorem q2037 : (Jvm.Cond.selects "HeirCases" ({ cls := "HeirCases", name := "setRest", desc := "(I)I" } : Jvm.MethodName) ({ cls := "HeirCases", name := "setRest", desc := "(I)I" } : Jvm.MethodName)) ∈ lw_all := lw_g (lw_at lw_m8 232 rfl) rfl
theorem q2038 : (Jvm.Cond.code ({ cls := "HeirCases", name := "setRest", desc := "(I)I" } : Jvm.MethodName) prog_1_method_67_code (3 : Nat) (Option.some Jvm.ClassFile.FieldType.int)) ∈ lw_all := lw_g (lw_at lw_m8 233 rfl) rfl
theorem q2043 : (Jvm.Cond.instanceMethod ({ cls := "HeirCases", name := "setEstate", desc := "(I)I" } : Jvm.MethodName)) ∈ lw_all := lw_g (lw_at lw_m8 238 rfl) rfl
theorem q2044 : (Jvm.Cond.selects "HeirCases" ({ cls := "HeirCases", name := "setEstate", desc := "(I)I" } : Jvm.MethodName) ({ cls := "HeirCases", name := "setEstate", desc := "(I)I" } : Jvm.MethodName)) ∈ lw_all := lw_g (lw_at lw_m8 239 rfl) rfl
theorem q2045 : (Jvm.Cond.code ({ cls := "HeirCases", name := "setEstate", desc := "(I)I" } : Jvm.MethodName) prog_1_method_68_code (3 : Nat) (Option.some Jvm.ClassFile.FieldType.int)) ∈ lw_all := lw_g (lw_at lw_m9 0 rfl) rfl
theorem q2050 : (Jvm.Cond.instanceMethod ({ cls := "HeirCases", name := "setValue", desc := "(II)I" } : Jvm.MethodName)) ∈ lw_all := lw_g (lw_at lw_m9 5 rfl) rfl
theorem q2051 : (Jvm.Cond.selects "HeirCases" ({ cls := "HeirCases", name := "setValue", desc := "(II)I" } : Jvm.MethodName) ({ cls := "HeirCases", name := "setValue", desc := "(II)I" } : Jvm.MethodName)) ∈ lw_all := lw_g (lw_at lw_m9 6 rfl) rfl
theorem q2052 : (Jvm.Cond.code ({ cls := "HeirCases", name := "setValue", desc := "(II)I" } : Jvm.MethodName) prog_1_method_69_code (3 : Nat) (Option.some Jvm.ClassFile.FieldType.int)) ∈ lw_all := lw_g (lw_at lw_m9 7 rfl) rfl
theorem q2053 : (Jvm.Cond.methodLink "HeirCases" (402 : Nat) ({ cls := "HeirCases$Will", name := "setValue", desc := "(II)V" } : Jvm.MethodName)) ∈ lw_all := lw_g (lw_at lw_m9 8 rfl) rfl
theorem q2065 : (Jvm.Cond.instanceMethod ({ cls := "HeirCases", name := "saveSnapshot", desc := "(I)Z" } : Jvm.MethodName)) ∈ lw_all := lw_g (lw_at lw_m9 20 rfl) rfl
theorem q2066 : (Jvm.Cond.selects "HeirCases" ({ cls := "HeirCases", name := "saveSnapshot", desc := "(I)Z" } : Jvm.MethodName) ({ cls := "HeirCases", name := "saveSnapshot", desc := "(I)Z" } : Jvm.MethodName)) ∈ lw_all := lw_g (lw_at lw_m9 21 rfl) rfl
theorem q2067 : (Jvm.Cond.code ({ cls := "HeirCases", name := "saveSnapshot", desc := "(I)Z" } : Jvm.MethodName) prog_1_method_71_code (3 : Nat) (Option.some Jvm.ClassFile.FieldType.boolean)) ∈ lw_all := lw_g (lw_at lw_m9 22 rfl) rfl
theorem q2073 : (Jvm.Cond.instanceMethod ({ cls := "HeirCases", name := "restoreSnapshot", desc := "(I)I" } : Jvm.MethodName)) ∈ lw_all := lw_g (lw_at lw_m9 28 rfl) rfl
theorem q2074 : (Jvm.Cond.selects "HeirCases" ({ cls := "HeirCases", name := "restoreSnapshot", desc := "(I)I" } : Jvm.MethodName) ({ cls := "HeirCases", name := "restoreSnapshot", desc := "(I)I" } : Jvm.MethodName)) ∈ lw_all := lw_g (lw_at lw_m9 29 rfl) rfl
theorem q2075 : (Jvm.Cond.code ({ cls := "HeirCases", name := "restoreSnapshot", desc := "(I)I" } : Jvm.MethodName) prog_1_method_72_code (2 : Nat) (Option.some Jvm.ClassFile.FieldType.int)) ∈ lw_all := lw_g (lw_at lw_m9 30 rfl) rfl
theorem q2076 : (Jvm.Cond.methodLink "HeirCases" (412 : Nat) ({ cls := "java/lang/IllegalStateException", name := "<init>", desc := "()V" } : Jvm.MethodName)) ∈ lw_all := lw_g (lw_at lw_m9 31 rfl) rfl
theorem q2715 : (Jvm.Cond.castable "HeirCases" "java/lang/Object") ∈ lw_tbl := lw_at lw_m11 190 rfl
theorem in_X1 : ∀ w ∈ wsX10, w ∈ lw_all := lw_in wsX10 [1177, 1179, 1181, 1183, 1185] (by decide +kernel) (by decide +kernel)
